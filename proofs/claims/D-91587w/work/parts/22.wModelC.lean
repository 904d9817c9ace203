/-! walks -/
set_option maxRecDepth 100000
theorem v_X8_isIf {G : ma_G} {d : Nat} {a0 : Nat} {h : ah_T} {Q : Option ma_V → ah_T → Prop} {E : Nat → ah_T → Prop} (La0_h : LY8 h a0) (H : (¬ (ah_I h a0 50) = (1 : Int32) → Q (some (iv (0 : Int32))) h) ∧ ((ah_I h a0 50) = (1 : Int32) → (¬ (ah_J h a0 55) = (294 : Int64) → Q (some (iv (0 : Int32))) h) ∧ ((ah_J h a0 55) = (294 : Int64) → Q (some (iv (1 : Int32))) h))) : MX G mi_X8_isIf (d + 1) 0 [some (rv a0)] [] h Q E := by
  refine mx_aload_n dX8_isIf_0 rfl rfl ?_
  refine mx_bipush dX8_isIf_1 ib_105 ?_
  refine mx_bipush dX8_isIf_3 ib_102 ?_
  refine mx_iconst dX8_isIf_5 ic_0 ?_
  refine mx_iconst dX8_isIf_6 ic_0 ?_
  refine mx_iconst dX8_isIf_7 ic_0 ?_
  refine mx_iconst dX8_isIf_8 ic_0 ?_
  refine mx_callS (y' := mi_X8_spelled) (vs := [iv (105 : Int32), iv (102 : Int32), iv (0 : Int32), iv (0 : Int32), iv (0 : Int32), iv (0 : Int32)]) (st := [rv a0]) (al' := [some (iv (105 : Int32)), some (iv (102 : Int32)), some (iv (0 : Int32)), some (iv (0 : Int32)), some (iv (0 : Int32)), some (iv (0 : Int32)), none, none]) S_X8_spelled q2075 dX8_isIf_9 rfl rfl (Nat.le_of_ble_eq_true rfl) (Nat.le_of_ble_eq_true rfl) ?_
  refine mx_iload_n dX8_spelled_0 rfl rfl ?_
  refine mx_i2l dX8_spelled_1 ?_
  refine mx_ldc2 q2078 dX8_spelled_2 ?_
  refine mx_lsub dX8_spelled_5 ?_
  refine mx_lstore (al' := [some (iv (105 : Int32)), some (iv (102 : Int32)), some (iv (0 : Int32)), some (iv (0 : Int32)), some (iv (0 : Int32)), some (iv (0 : Int32)), some (jv ((105 : Int32).toInt64 - (96 : Int64))), none]) dX8_spelled_6 (Nat.le_of_ble_eq_true rfl) rfl ?_
  refine mx_lload dX8_spelled_8 rfl ?_
  refine mx_ldc2 q2079 dX8_spelled_10 ?_
  refine mx_lmul dX8_spelled_13 ?_
  refine mx_iload_n dX8_spelled_14 rfl rfl ?_
  refine mx_i2l dX8_spelled_15 ?_
  refine mx_ladd dX8_spelled_16 ?_
  refine mx_ldc2 q2078 dX8_spelled_17 ?_
  refine mx_lsub dX8_spelled_20 ?_
  refine mx_lstore (al' := [some (iv (105 : Int32)), some (iv (102 : Int32)), some (iv (0 : Int32)), some (iv (0 : Int32)), some (iv (0 : Int32)), some (iv (0 : Int32)), some (jv (((((105 : Int32).toInt64 - (96 : Int64)) * (32 : Int64)) + (102 : Int32).toInt64) - (96 : Int64))), none]) dX8_spelled_21 (Nat.le_of_ble_eq_true rfl) rfl ?_
  refine mx_iload_n dX8_spelled_23 rfl rfl ?_
  refine mx_if_le (tgt := 43) dX8_spelled_24 rfl (fun _ => ?_) (fun _ => absurd ‹_› (by decide))
  refine mx_lload dX8_spelled_43 rfl ?_
  refine mx_lstore (al' := [some (iv (105 : Int32)), some (iv (102 : Int32)), some (iv (0 : Int32)), some (iv (0 : Int32)), some (iv (0 : Int32)), some (iv (0 : Int32)), some (jv (((((105 : Int32).toInt64 - (96 : Int64)) * (32 : Int64)) + (102 : Int32).toInt64) - (96 : Int64))), none]) dX8_spelled_45 (Nat.le_of_ble_eq_true rfl) rfl ?_
  refine mx_iload_n dX8_spelled_47 rfl rfl ?_
  refine mx_if_le (tgt := 67) dX8_spelled_48 rfl (fun _ => ?_) (fun _ => absurd ‹_› (by decide))
  refine mx_lload dX8_spelled_67 rfl ?_
  refine mx_lstore (al' := [some (iv (105 : Int32)), some (iv (102 : Int32)), some (iv (0 : Int32)), some (iv (0 : Int32)), some (iv (0 : Int32)), some (iv (0 : Int32)), some (jv (((((105 : Int32).toInt64 - (96 : Int64)) * (32 : Int64)) + (102 : Int32).toInt64) - (96 : Int64))), none]) dX8_spelled_69 (Nat.le_of_ble_eq_true rfl) rfl ?_
  refine mx_iload dX8_spelled_71 rfl ?_
  refine mx_if_le (tgt := 93) dX8_spelled_73 rfl (fun _ => ?_) (fun _ => absurd ‹_› (by decide))
  refine mx_lload dX8_spelled_93 rfl ?_
  refine mx_lstore (al' := [some (iv (105 : Int32)), some (iv (102 : Int32)), some (iv (0 : Int32)), some (iv (0 : Int32)), some (iv (0 : Int32)), some (iv (0 : Int32)), some (jv (((((105 : Int32).toInt64 - (96 : Int64)) * (32 : Int64)) + (102 : Int32).toInt64) - (96 : Int64))), none]) dX8_spelled_95 (Nat.le_of_ble_eq_true rfl) rfl ?_
  refine mx_iload dX8_spelled_97 rfl ?_
  refine mx_if_le (tgt := 119) dX8_spelled_99 rfl (fun _ => ?_) (fun _ => absurd ‹_› (by decide))
  refine mx_lload dX8_spelled_119 rfl ?_
  refine mx_lretK rfl dX8_spelled_121 ?_
  refine mx_tj (show (((((105 : Int32).toInt64 - (96 : Int64)) * (32 : Int64)) + (102 : Int32).toInt64) - (96 : Int64)) = (294 : Int64) by decide) ?_
  refine mx_callV 8 (y' := mi_X8_isWord) (vs := [jv (294 : Int64)]) (st := []) (al' := [some (rv a0), some (jv (294 : Int64)), none]) cl_8 V_X8_isWord (Or.inl q2196) dX8_isIf_12 rfl rfl (Nat.le_of_ble_eq_true rfl) (Nat.le_of_ble_eq_true rfl) (ly8_k La0_h) ?_
  refine mx_aload_n dX8_isWord_0 rfl rfl ?_
  refine mx_get 8 50 (ref := "PrairiePoolModel") cl_8 (Nat.le_of_ble_eq_true rfl) (Or.inl q1677) (Or.inl rfl) dX8_isWord_1 (fv_8_50 _ _) (ly8_k La0_h) ?_
  refine mx_iconst dX8_isWord_4 ic_1 ?_
  refine mx_icmp_ne (tgt := 21) dX8_isWord_5 rfl (fun c1 => ?_) (fun c1 => ?_)
  · have H := H.1 c1
    refine mx_iconst dX8_isWord_21 ic_0 ?_
    refine mx_zretK rfl dX8_isWord_22 (Or.inl rfl) ?_
    exact mx_zret rfl dX8_isIf_15 (Or.inl rfl) H
  · have H := H.2 c1
    refine mx_aload_n dX8_isWord_8 rfl rfl ?_
    refine mx_get 8 55 (ref := "PrairiePoolModel") cl_8 (Nat.le_of_ble_eq_true rfl) (Or.inl q1682) (Or.inl rfl) dX8_isWord_9 (fv_8_55 _ _) (ly8_k La0_h) ?_
    refine mx_lload_n dX8_isWord_12 rfl rfl ?_
    refine mx_lif_ne (tgt := 21) dX8_isWord_13 dX8_isWord_14 rfl (fun c2 => ?_) (fun c2 => ?_)
    · have H := H.1 c2
      refine mx_iconst dX8_isWord_21 ic_0 ?_
      refine mx_zretK rfl dX8_isWord_22 (Or.inl rfl) ?_
      exact mx_zret rfl dX8_isIf_15 (Or.inl rfl) H
    · have H := H.2 c2
      refine mx_iconst dX8_isWord_17 ic_1 ?_
      refine mx_goto (tgt := 22) dX8_isWord_18 rfl ?_
      refine mx_zretK rfl dX8_isWord_22 (Or.inr rfl) ?_
      exact mx_zret rfl dX8_isIf_15 (Or.inr rfl) H
theorem v_X8_isThen {G : ma_G} {d : Nat} {a0 : Nat} {h : ah_T} {Q : Option ma_V → ah_T → Prop} {E : Nat → ah_T → Prop} (La0_h : LY8 h a0) (H : (¬ (ah_I h a0 50) = (1 : Int32) → Q (some (iv (0 : Int32))) h) ∧ ((ah_I h a0 50) = (1 : Int32) → (¬ (ah_J h a0 55) = (663726 : Int64) → Q (some (iv (0 : Int32))) h) ∧ ((ah_J h a0 55) = (663726 : Int64) → Q (some (iv (1 : Int32))) h))) : MX G mi_X8_isThen (d + 1) 0 [some (rv a0)] [] h Q E := by
  refine mx_aload_n dX8_isThen_0 rfl rfl ?_
  refine mx_bipush dX8_isThen_1 ib_116 ?_
  refine mx_bipush dX8_isThen_3 ib_104 ?_
  refine mx_bipush dX8_isThen_5 ib_101 ?_
  refine mx_bipush dX8_isThen_7 ib_110 ?_
  refine mx_iconst dX8_isThen_9 ic_0 ?_
  refine mx_iconst dX8_isThen_10 ic_0 ?_
  refine mx_callS (y' := mi_X8_spelled) (vs := [iv (116 : Int32), iv (104 : Int32), iv (101 : Int32), iv (110 : Int32), iv (0 : Int32), iv (0 : Int32)]) (st := [rv a0]) (al' := [some (iv (116 : Int32)), some (iv (104 : Int32)), some (iv (101 : Int32)), some (iv (110 : Int32)), some (iv (0 : Int32)), some (iv (0 : Int32)), none, none]) S_X8_spelled q2075 dX8_isThen_11 rfl rfl (Nat.le_of_ble_eq_true rfl) (Nat.le_of_ble_eq_true rfl) ?_
  refine mx_iload_n dX8_spelled_0 rfl rfl ?_
  refine mx_i2l dX8_spelled_1 ?_
  refine mx_ldc2 q2078 dX8_spelled_2 ?_
  refine mx_lsub dX8_spelled_5 ?_
  refine mx_lstore (al' := [some (iv (116 : Int32)), some (iv (104 : Int32)), some (iv (101 : Int32)), some (iv (110 : Int32)), some (iv (0 : Int32)), some (iv (0 : Int32)), some (jv ((116 : Int32).toInt64 - (96 : Int64))), none]) dX8_spelled_6 (Nat.le_of_ble_eq_true rfl) rfl ?_
  refine mx_lload dX8_spelled_8 rfl ?_
  refine mx_ldc2 q2079 dX8_spelled_10 ?_
  refine mx_lmul dX8_spelled_13 ?_
  refine mx_iload_n dX8_spelled_14 rfl rfl ?_
  refine mx_i2l dX8_spelled_15 ?_
  refine mx_ladd dX8_spelled_16 ?_
  refine mx_ldc2 q2078 dX8_spelled_17 ?_
  refine mx_lsub dX8_spelled_20 ?_
  refine mx_lstore (al' := [some (iv (116 : Int32)), some (iv (104 : Int32)), some (iv (101 : Int32)), some (iv (110 : Int32)), some (iv (0 : Int32)), some (iv (0 : Int32)), some (jv (((((116 : Int32).toInt64 - (96 : Int64)) * (32 : Int64)) + (104 : Int32).toInt64) - (96 : Int64))), none]) dX8_spelled_21 (Nat.le_of_ble_eq_true rfl) rfl ?_
  refine mx_iload_n dX8_spelled_23 rfl rfl ?_
  refine mx_if_le (tgt := 43) dX8_spelled_24 rfl (fun _ => absurd ‹_› (by decide)) (fun _ => ?_)
  refine mx_lload dX8_spelled_27 rfl ?_
  refine mx_ldc2 q2079 dX8_spelled_29 ?_
  refine mx_lmul dX8_spelled_32 ?_
  refine mx_iload_n dX8_spelled_33 rfl rfl ?_
  refine mx_i2l dX8_spelled_34 ?_
  refine mx_ladd dX8_spelled_35 ?_
  refine mx_ldc2 q2078 dX8_spelled_36 ?_
  refine mx_lsub dX8_spelled_39 ?_
  refine mx_goto (tgt := 45) dX8_spelled_40 rfl ?_
  refine mx_lstore (al' := [some (iv (116 : Int32)), some (iv (104 : Int32)), some (iv (101 : Int32)), some (iv (110 : Int32)), some (iv (0 : Int32)), some (iv (0 : Int32)), some (jv ((((((((116 : Int32).toInt64 - (96 : Int64)) * (32 : Int64)) + (104 : Int32).toInt64) - (96 : Int64)) * (32 : Int64)) + (101 : Int32).toInt64) - (96 : Int64))), none]) dX8_spelled_45 (Nat.le_of_ble_eq_true rfl) rfl ?_
  refine mx_iload_n dX8_spelled_47 rfl rfl ?_
  refine mx_if_le (tgt := 67) dX8_spelled_48 rfl (fun _ => absurd ‹_› (by decide)) (fun _ => ?_)
  refine mx_lload dX8_spelled_51 rfl ?_
  refine mx_ldc2 q2079 dX8_spelled_53 ?_
  refine mx_lmul dX8_spelled_56 ?_
  refine mx_iload_n dX8_spelled_57 rfl rfl ?_
  refine mx_i2l dX8_spelled_58 ?_
  refine mx_ladd dX8_spelled_59 ?_
  refine mx_ldc2 q2078 dX8_spelled_60 ?_
  refine mx_lsub dX8_spelled_63 ?_
  refine mx_goto (tgt := 69) dX8_spelled_64 rfl ?_
  refine mx_lstore (al' := [some (iv (116 : Int32)), some (iv (104 : Int32)), some (iv (101 : Int32)), some (iv (110 : Int32)), some (iv (0 : Int32)), some (iv (0 : Int32)), some (jv (((((((((((116 : Int32).toInt64 - (96 : Int64)) * (32 : Int64)) + (104 : Int32).toInt64) - (96 : Int64)) * (32 : Int64)) + (101 : Int32).toInt64) - (96 : Int64)) * (32 : Int64)) + (110 : Int32).toInt64) - (96 : Int64))), none]) dX8_spelled_69 (Nat.le_of_ble_eq_true rfl) rfl ?_
  refine mx_iload dX8_spelled_71 rfl ?_
  refine mx_if_le (tgt := 93) dX8_spelled_73 rfl (fun _ => ?_) (fun _ => absurd ‹_› (by decide))
  refine mx_lload dX8_spelled_93 rfl ?_
  refine mx_lstore (al' := [some (iv (116 : Int32)), some (iv (104 : Int32)), some (iv (101 : Int32)), some (iv (110 : Int32)), some (iv (0 : Int32)), some (iv (0 : Int32)), some (jv (((((((((((116 : Int32).toInt64 - (96 : Int64)) * (32 : Int64)) + (104 : Int32).toInt64) - (96 : Int64)) * (32 : Int64)) + (101 : Int32).toInt64) - (96 : Int64)) * (32 : Int64)) + (110 : Int32).toInt64) - (96 : Int64))), none]) dX8_spelled_95 (Nat.le_of_ble_eq_true rfl) rfl ?_
  refine mx_iload dX8_spelled_97 rfl ?_
  refine mx_if_le (tgt := 119) dX8_spelled_99 rfl (fun _ => ?_) (fun _ => absurd ‹_› (by decide))
  refine mx_lload dX8_spelled_119 rfl ?_
  refine mx_lretK rfl dX8_spelled_121 ?_
  refine mx_tj (show (((((((((((116 : Int32).toInt64 - (96 : Int64)) * (32 : Int64)) + (104 : Int32).toInt64) - (96 : Int64)) * (32 : Int64)) + (101 : Int32).toInt64) - (96 : Int64)) * (32 : Int64)) + (110 : Int32).toInt64) - (96 : Int64)) = (663726 : Int64) by decide) ?_
  refine mx_callV 8 (y' := mi_X8_isWord) (vs := [jv (663726 : Int64)]) (st := []) (al' := [some (rv a0), some (jv (663726 : Int64)), none]) cl_8 V_X8_isWord (Or.inl q2196) dX8_isThen_14 rfl rfl (Nat.le_of_ble_eq_true rfl) (Nat.le_of_ble_eq_true rfl) (ly8_k La0_h) ?_
  refine mx_aload_n dX8_isWord_0 rfl rfl ?_
  refine mx_get 8 50 (ref := "PrairiePoolModel") cl_8 (Nat.le_of_ble_eq_true rfl) (Or.inl q1677) (Or.inl rfl) dX8_isWord_1 (fv_8_50 _ _) (ly8_k La0_h) ?_
  refine mx_iconst dX8_isWord_4 ic_1 ?_
  refine mx_icmp_ne (tgt := 21) dX8_isWord_5 rfl (fun c1 => ?_) (fun c1 => ?_)
  · have H := H.1 c1
    refine mx_iconst dX8_isWord_21 ic_0 ?_
    refine mx_zretK rfl dX8_isWord_22 (Or.inl rfl) ?_
    exact mx_zret rfl dX8_isThen_17 (Or.inl rfl) H
  · have H := H.2 c1
    refine mx_aload_n dX8_isWord_8 rfl rfl ?_
    refine mx_get 8 55 (ref := "PrairiePoolModel") cl_8 (Nat.le_of_ble_eq_true rfl) (Or.inl q1682) (Or.inl rfl) dX8_isWord_9 (fv_8_55 _ _) (ly8_k La0_h) ?_
    refine mx_lload_n dX8_isWord_12 rfl rfl ?_
    refine mx_lif_ne (tgt := 21) dX8_isWord_13 dX8_isWord_14 rfl (fun c2 => ?_) (fun c2 => ?_)
    · have H := H.1 c2
      refine mx_iconst dX8_isWord_21 ic_0 ?_
      refine mx_zretK rfl dX8_isWord_22 (Or.inl rfl) ?_
      exact mx_zret rfl dX8_isThen_17 (Or.inl rfl) H
    · have H := H.2 c2
      refine mx_iconst dX8_isWord_17 ic_1 ?_
      refine mx_goto (tgt := 22) dX8_isWord_18 rfl ?_
      refine mx_zretK rfl dX8_isWord_22 (Or.inr rfl) ?_
      exact mx_zret rfl dX8_isThen_17 (Or.inr rfl) H
theorem v_X8_isElse {G : ma_G} {d : Nat} {a0 : Nat} {h : ah_T} {Q : Option ma_V → ah_T → Prop} {E : Nat → ah_T → Prop} (La0_h : LY8 h a0) (H : (¬ (ah_I h a0 50) = (1 : Int32) → Q (some (iv (0 : Int32))) h) ∧ ((ah_I h a0 50) = (1 : Int32) → (¬ (ah_J h a0 55) = (176741 : Int64) → Q (some (iv (0 : Int32))) h) ∧ ((ah_J h a0 55) = (176741 : Int64) → Q (some (iv (1 : Int32))) h))) : MX G mi_X8_isElse (d + 1) 0 [some (rv a0)] [] h Q E := by
  refine mx_aload_n dX8_isElse_0 rfl rfl ?_
  refine mx_bipush dX8_isElse_1 ib_101 ?_
  refine mx_bipush dX8_isElse_3 ib_108 ?_
  refine mx_bipush dX8_isElse_5 ib_115 ?_
  refine mx_bipush dX8_isElse_7 ib_101 ?_
  refine mx_iconst dX8_isElse_9 ic_0 ?_
  refine mx_iconst dX8_isElse_10 ic_0 ?_
  refine mx_callS (y' := mi_X8_spelled) (vs := [iv (101 : Int32), iv (108 : Int32), iv (115 : Int32), iv (101 : Int32), iv (0 : Int32), iv (0 : Int32)]) (st := [rv a0]) (al' := [some (iv (101 : Int32)), some (iv (108 : Int32)), some (iv (115 : Int32)), some (iv (101 : Int32)), some (iv (0 : Int32)), some (iv (0 : Int32)), none, none]) S_X8_spelled q2075 dX8_isElse_11 rfl rfl (Nat.le_of_ble_eq_true rfl) (Nat.le_of_ble_eq_true rfl) ?_
  refine mx_iload_n dX8_spelled_0 rfl rfl ?_
  refine mx_i2l dX8_spelled_1 ?_
  refine mx_ldc2 q2078 dX8_spelled_2 ?_
  refine mx_lsub dX8_spelled_5 ?_
  refine mx_lstore (al' := [some (iv (101 : Int32)), some (iv (108 : Int32)), some (iv (115 : Int32)), some (iv (101 : Int32)), some (iv (0 : Int32)), some (iv (0 : Int32)), some (jv ((101 : Int32).toInt64 - (96 : Int64))), none]) dX8_spelled_6 (Nat.le_of_ble_eq_true rfl) rfl ?_
  refine mx_lload dX8_spelled_8 rfl ?_
  refine mx_ldc2 q2079 dX8_spelled_10 ?_
  refine mx_lmul dX8_spelled_13 ?_
  refine mx_iload_n dX8_spelled_14 rfl rfl ?_
  refine mx_i2l dX8_spelled_15 ?_
  refine mx_ladd dX8_spelled_16 ?_
  refine mx_ldc2 q2078 dX8_spelled_17 ?_
  refine mx_lsub dX8_spelled_20 ?_
  refine mx_lstore (al' := [some (iv (101 : Int32)), some (iv (108 : Int32)), some (iv (115 : Int32)), some (iv (101 : Int32)), some (iv (0 : Int32)), some (iv (0 : Int32)), some (jv (((((101 : Int32).toInt64 - (96 : Int64)) * (32 : Int64)) + (108 : Int32).toInt64) - (96 : Int64))), none]) dX8_spelled_21 (Nat.le_of_ble_eq_true rfl) rfl ?_
  refine mx_iload_n dX8_spelled_23 rfl rfl ?_
  refine mx_if_le (tgt := 43) dX8_spelled_24 rfl (fun _ => absurd ‹_› (by decide)) (fun _ => ?_)
  refine mx_lload dX8_spelled_27 rfl ?_
  refine mx_ldc2 q2079 dX8_spelled_29 ?_
  refine mx_lmul dX8_spelled_32 ?_
  refine mx_iload_n dX8_spelled_33 rfl rfl ?_
  refine mx_i2l dX8_spelled_34 ?_
  refine mx_ladd dX8_spelled_35 ?_
  refine mx_ldc2 q2078 dX8_spelled_36 ?_
  refine mx_lsub dX8_spelled_39 ?_
  refine mx_goto (tgt := 45) dX8_spelled_40 rfl ?_
  refine mx_lstore (al' := [some (iv (101 : Int32)), some (iv (108 : Int32)), some (iv (115 : Int32)), some (iv (101 : Int32)), some (iv (0 : Int32)), some (iv (0 : Int32)), some (jv ((((((((101 : Int32).toInt64 - (96 : Int64)) * (32 : Int64)) + (108 : Int32).toInt64) - (96 : Int64)) * (32 : Int64)) + (115 : Int32).toInt64) - (96 : Int64))), none]) dX8_spelled_45 (Nat.le_of_ble_eq_true rfl) rfl ?_
  refine mx_iload_n dX8_spelled_47 rfl rfl ?_
  refine mx_if_le (tgt := 67) dX8_spelled_48 rfl (fun _ => absurd ‹_› (by decide)) (fun _ => ?_)
  refine mx_lload dX8_spelled_51 rfl ?_
  refine mx_ldc2 q2079 dX8_spelled_53 ?_
  refine mx_lmul dX8_spelled_56 ?_
  refine mx_iload_n dX8_spelled_57 rfl rfl ?_
  refine mx_i2l dX8_spelled_58 ?_
  refine mx_ladd dX8_spelled_59 ?_
  refine mx_ldc2 q2078 dX8_spelled_60 ?_
  refine mx_lsub dX8_spelled_63 ?_
  refine mx_goto (tgt := 69) dX8_spelled_64 rfl ?_
  refine mx_lstore (al' := [some (iv (101 : Int32)), some (iv (108 : Int32)), some (iv (115 : Int32)), some (iv (101 : Int32)), some (iv (0 : Int32)), some (iv (0 : Int32)), some (jv (((((((((((101 : Int32).toInt64 - (96 : Int64)) * (32 : Int64)) + (108 : Int32).toInt64) - (96 : Int64)) * (32 : Int64)) + (115 : Int32).toInt64) - (96 : Int64)) * (32 : Int64)) + (101 : Int32).toInt64) - (96 : Int64))), none]) dX8_spelled_69 (Nat.le_of_ble_eq_true rfl) rfl ?_
  refine mx_iload dX8_spelled_71 rfl ?_
  refine mx_if_le (tgt := 93) dX8_spelled_73 rfl (fun _ => ?_) (fun _ => absurd ‹_› (by decide))
  refine mx_lload dX8_spelled_93 rfl ?_
  refine mx_lstore (al' := [some (iv (101 : Int32)), some (iv (108 : Int32)), some (iv (115 : Int32)), some (iv (101 : Int32)), some (iv (0 : Int32)), some (iv (0 : Int32)), some (jv (((((((((((101 : Int32).toInt64 - (96 : Int64)) * (32 : Int64)) + (108 : Int32).toInt64) - (96 : Int64)) * (32 : Int64)) + (115 : Int32).toInt64) - (96 : Int64)) * (32 : Int64)) + (101 : Int32).toInt64) - (96 : Int64))), none]) dX8_spelled_95 (Nat.le_of_ble_eq_true rfl) rfl ?_
  refine mx_iload dX8_spelled_97 rfl ?_
  refine mx_if_le (tgt := 119) dX8_spelled_99 rfl (fun _ => ?_) (fun _ => absurd ‹_› (by decide))
  refine mx_lload dX8_spelled_119 rfl ?_
  refine mx_lretK rfl dX8_spelled_121 ?_
  refine mx_tj (show (((((((((((101 : Int32).toInt64 - (96 : Int64)) * (32 : Int64)) + (108 : Int32).toInt64) - (96 : Int64)) * (32 : Int64)) + (115 : Int32).toInt64) - (96 : Int64)) * (32 : Int64)) + (101 : Int32).toInt64) - (96 : Int64)) = (176741 : Int64) by decide) ?_
  refine mx_callV 8 (y' := mi_X8_isWord) (vs := [jv (176741 : Int64)]) (st := []) (al' := [some (rv a0), some (jv (176741 : Int64)), none]) cl_8 V_X8_isWord (Or.inl q2196) dX8_isElse_14 rfl rfl (Nat.le_of_ble_eq_true rfl) (Nat.le_of_ble_eq_true rfl) (ly8_k La0_h) ?_
  refine mx_aload_n dX8_isWord_0 rfl rfl ?_
  refine mx_get 8 50 (ref := "PrairiePoolModel") cl_8 (Nat.le_of_ble_eq_true rfl) (Or.inl q1677) (Or.inl rfl) dX8_isWord_1 (fv_8_50 _ _) (ly8_k La0_h) ?_
  refine mx_iconst dX8_isWord_4 ic_1 ?_
  refine mx_icmp_ne (tgt := 21) dX8_isWord_5 rfl (fun c1 => ?_) (fun c1 => ?_)
  · have H := H.1 c1
    refine mx_iconst dX8_isWord_21 ic_0 ?_
    refine mx_zretK rfl dX8_isWord_22 (Or.inl rfl) ?_
    exact mx_zret rfl dX8_isElse_17 (Or.inl rfl) H
  · have H := H.2 c1
    refine mx_aload_n dX8_isWord_8 rfl rfl ?_
    refine mx_get 8 55 (ref := "PrairiePoolModel") cl_8 (Nat.le_of_ble_eq_true rfl) (Or.inl q1682) (Or.inl rfl) dX8_isWord_9 (fv_8_55 _ _) (ly8_k La0_h) ?_
    refine mx_lload_n dX8_isWord_12 rfl rfl ?_
    refine mx_lif_ne (tgt := 21) dX8_isWord_13 dX8_isWord_14 rfl (fun c2 => ?_) (fun c2 => ?_)
    · have H := H.1 c2
      refine mx_iconst dX8_isWord_21 ic_0 ?_
      refine mx_zretK rfl dX8_isWord_22 (Or.inl rfl) ?_
      exact mx_zret rfl dX8_isElse_17 (Or.inl rfl) H
    · have H := H.2 c2
      refine mx_iconst dX8_isWord_17 ic_1 ?_
      refine mx_goto (tgt := 22) dX8_isWord_18 rfl ?_
      refine mx_zretK rfl dX8_isWord_22 (Or.inr rfl) ?_
      exact mx_zret rfl dX8_isElse_17 (Or.inr rfl) H
theorem v_X8_isAnd {G : ma_G} {d : Nat} {a0 : Nat} {h : ah_T} {Q : Option ma_V → ah_T → Prop} {E : Nat → ah_T → Prop} (La0_h : LY8 h a0) (H : (¬ (ah_I h a0 50) = (1 : Int32) → Q (some (iv (0 : Int32))) h) ∧ ((ah_I h a0 50) = (1 : Int32) → (¬ (ah_J h a0 55) = (1476 : Int64) → Q (some (iv (0 : Int32))) h) ∧ ((ah_J h a0 55) = (1476 : Int64) → Q (some (iv (1 : Int32))) h))) : MX G mi_X8_isAnd (d + 1) 0 [some (rv a0)] [] h Q E := by
  refine mx_aload_n dX8_isAnd_0 rfl rfl ?_
  refine mx_bipush dX8_isAnd_1 ib_97 ?_
  refine mx_bipush dX8_isAnd_3 ib_110 ?_
  refine mx_bipush dX8_isAnd_5 ib_100 ?_
  refine mx_iconst dX8_isAnd_7 ic_0 ?_
  refine mx_iconst dX8_isAnd_8 ic_0 ?_
  refine mx_iconst dX8_isAnd_9 ic_0 ?_
  refine mx_callS (y' := mi_X8_spelled) (vs := [iv (97 : Int32), iv (110 : Int32), iv (100 : Int32), iv (0 : Int32), iv (0 : Int32), iv (0 : Int32)]) (st := [rv a0]) (al' := [some (iv (97 : Int32)), some (iv (110 : Int32)), some (iv (100 : Int32)), some (iv (0 : Int32)), some (iv (0 : Int32)), some (iv (0 : Int32)), none, none]) S_X8_spelled q2075 dX8_isAnd_10 rfl rfl (Nat.le_of_ble_eq_true rfl) (Nat.le_of_ble_eq_true rfl) ?_
  refine mx_iload_n dX8_spelled_0 rfl rfl ?_
  refine mx_i2l dX8_spelled_1 ?_
  refine mx_ldc2 q2078 dX8_spelled_2 ?_
  refine mx_lsub dX8_spelled_5 ?_
  refine mx_lstore (al' := [some (iv (97 : Int32)), some (iv (110 : Int32)), some (iv (100 : Int32)), some (iv (0 : Int32)), some (iv (0 : Int32)), some (iv (0 : Int32)), some (jv ((97 : Int32).toInt64 - (96 : Int64))), none]) dX8_spelled_6 (Nat.le_of_ble_eq_true rfl) rfl ?_
  refine mx_lload dX8_spelled_8 rfl ?_
  refine mx_ldc2 q2079 dX8_spelled_10 ?_
  refine mx_lmul dX8_spelled_13 ?_
  refine mx_iload_n dX8_spelled_14 rfl rfl ?_
  refine mx_i2l dX8_spelled_15 ?_
  refine mx_ladd dX8_spelled_16 ?_
  refine mx_ldc2 q2078 dX8_spelled_17 ?_
  refine mx_lsub dX8_spelled_20 ?_
  refine mx_lstore (al' := [some (iv (97 : Int32)), some (iv (110 : Int32)), some (iv (100 : Int32)), some (iv (0 : Int32)), some (iv (0 : Int32)), some (iv (0 : Int32)), some (jv (((((97 : Int32).toInt64 - (96 : Int64)) * (32 : Int64)) + (110 : Int32).toInt64) - (96 : Int64))), none]) dX8_spelled_21 (Nat.le_of_ble_eq_true rfl) rfl ?_
  refine mx_iload_n dX8_spelled_23 rfl rfl ?_
  refine mx_if_le (tgt := 43) dX8_spelled_24 rfl (fun _ => absurd ‹_› (by decide)) (fun _ => ?_)
  refine mx_lload dX8_spelled_27 rfl ?_
  refine mx_ldc2 q2079 dX8_spelled_29 ?_
  refine mx_lmul dX8_spelled_32 ?_
  refine mx_iload_n dX8_spelled_33 rfl rfl ?_
  refine mx_i2l dX8_spelled_34 ?_
  refine mx_ladd dX8_spelled_35 ?_
  refine mx_ldc2 q2078 dX8_spelled_36 ?_
  refine mx_lsub dX8_spelled_39 ?_
  refine mx_goto (tgt := 45) dX8_spelled_40 rfl ?_
  refine mx_lstore (al' := [some (iv (97 : Int32)), some (iv (110 : Int32)), some (iv (100 : Int32)), some (iv (0 : Int32)), some (iv (0 : Int32)), some (iv (0 : Int32)), some (jv ((((((((97 : Int32).toInt64 - (96 : Int64)) * (32 : Int64)) + (110 : Int32).toInt64) - (96 : Int64)) * (32 : Int64)) + (100 : Int32).toInt64) - (96 : Int64))), none]) dX8_spelled_45 (Nat.le_of_ble_eq_true rfl) rfl ?_
  refine mx_iload_n dX8_spelled_47 rfl rfl ?_
  refine mx_if_le (tgt := 67) dX8_spelled_48 rfl (fun _ => ?_) (fun _ => absurd ‹_› (by decide))
  refine mx_lload dX8_spelled_67 rfl ?_
  refine mx_lstore (al' := [some (iv (97 : Int32)), some (iv (110 : Int32)), some (iv (100 : Int32)), some (iv (0 : Int32)), some (iv (0 : Int32)), some (iv (0 : Int32)), some (jv ((((((((97 : Int32).toInt64 - (96 : Int64)) * (32 : Int64)) + (110 : Int32).toInt64) - (96 : Int64)) * (32 : Int64)) + (100 : Int32).toInt64) - (96 : Int64))), none]) dX8_spelled_69 (Nat.le_of_ble_eq_true rfl) rfl ?_
  refine mx_iload dX8_spelled_71 rfl ?_
  refine mx_if_le (tgt := 93) dX8_spelled_73 rfl (fun _ => ?_) (fun _ => absurd ‹_› (by decide))
  refine mx_lload dX8_spelled_93 rfl ?_
  refine mx_lstore (al' := [some (iv (97 : Int32)), some (iv (110 : Int32)), some (iv (100 : Int32)), some (iv (0 : Int32)), some (iv (0 : Int32)), some (iv (0 : Int32)), some (jv ((((((((97 : Int32).toInt64 - (96 : Int64)) * (32 : Int64)) + (110 : Int32).toInt64) - (96 : Int64)) * (32 : Int64)) + (100 : Int32).toInt64) - (96 : Int64))), none]) dX8_spelled_95 (Nat.le_of_ble_eq_true rfl) rfl ?_
  refine mx_iload dX8_spelled_97 rfl ?_
  refine mx_if_le (tgt := 119) dX8_spelled_99 rfl (fun _ => ?_) (fun _ => absurd ‹_› (by decide))
  refine mx_lload dX8_spelled_119 rfl ?_
  refine mx_lretK rfl dX8_spelled_121 ?_
  refine mx_tj (show ((((((((97 : Int32).toInt64 - (96 : Int64)) * (32 : Int64)) + (110 : Int32).toInt64) - (96 : Int64)) * (32 : Int64)) + (100 : Int32).toInt64) - (96 : Int64)) = (1476 : Int64) by decide) ?_
  refine mx_callV 8 (y' := mi_X8_isWord) (vs := [jv (1476 : Int64)]) (st := []) (al' := [some (rv a0), some (jv (1476 : Int64)), none]) cl_8 V_X8_isWord (Or.inl q2196) dX8_isAnd_13 rfl rfl (Nat.le_of_ble_eq_true rfl) (Nat.le_of_ble_eq_true rfl) (ly8_k La0_h) ?_
  refine mx_aload_n dX8_isWord_0 rfl rfl ?_
  refine mx_get 8 50 (ref := "PrairiePoolModel") cl_8 (Nat.le_of_ble_eq_true rfl) (Or.inl q1677) (Or.inl rfl) dX8_isWord_1 (fv_8_50 _ _) (ly8_k La0_h) ?_
  refine mx_iconst dX8_isWord_4 ic_1 ?_
  refine mx_icmp_ne (tgt := 21) dX8_isWord_5 rfl (fun c1 => ?_) (fun c1 => ?_)
  · have H := H.1 c1
    refine mx_iconst dX8_isWord_21 ic_0 ?_
    refine mx_zretK rfl dX8_isWord_22 (Or.inl rfl) ?_
    exact mx_zret rfl dX8_isAnd_16 (Or.inl rfl) H
  · have H := H.2 c1
    refine mx_aload_n dX8_isWord_8 rfl rfl ?_
    refine mx_get 8 55 (ref := "PrairiePoolModel") cl_8 (Nat.le_of_ble_eq_true rfl) (Or.inl q1682) (Or.inl rfl) dX8_isWord_9 (fv_8_55 _ _) (ly8_k La0_h) ?_
    refine mx_lload_n dX8_isWord_12 rfl rfl ?_
    refine mx_lif_ne (tgt := 21) dX8_isWord_13 dX8_isWord_14 rfl (fun c2 => ?_) (fun c2 => ?_)
    · have H := H.1 c2
      refine mx_iconst dX8_isWord_21 ic_0 ?_
      refine mx_zretK rfl dX8_isWord_22 (Or.inl rfl) ?_
      exact mx_zret rfl dX8_isAnd_16 (Or.inl rfl) H
    · have H := H.2 c2
      refine mx_iconst dX8_isWord_17 ic_1 ?_
      refine mx_goto (tgt := 22) dX8_isWord_18 rfl ?_
      refine mx_zretK rfl dX8_isWord_22 (Or.inr rfl) ?_
      exact mx_zret rfl dX8_isAnd_16 (Or.inr rfl) H
theorem v_X8_isOr {G : ma_G} {d : Nat} {a0 : Nat} {h : ah_T} {Q : Option ma_V → ah_T → Prop} {E : Nat → ah_T → Prop} (La0_h : LY8 h a0) (H : (¬ (ah_I h a0 50) = (1 : Int32) → Q (some (iv (0 : Int32))) h) ∧ ((ah_I h a0 50) = (1 : Int32) → (¬ (ah_J h a0 55) = (498 : Int64) → Q (some (iv (0 : Int32))) h) ∧ ((ah_J h a0 55) = (498 : Int64) → Q (some (iv (1 : Int32))) h))) : MX G mi_X8_isOr (d + 1) 0 [some (rv a0)] [] h Q E := by
  refine mx_aload_n dX8_isOr_0 rfl rfl ?_
  refine mx_bipush dX8_isOr_1 ib_111 ?_
  refine mx_bipush dX8_isOr_3 ib_114 ?_
  refine mx_iconst dX8_isOr_5 ic_0 ?_
  refine mx_iconst dX8_isOr_6 ic_0 ?_
  refine mx_iconst dX8_isOr_7 ic_0 ?_
  refine mx_iconst dX8_isOr_8 ic_0 ?_
  refine mx_callS (y' := mi_X8_spelled) (vs := [iv (111 : Int32), iv (114 : Int32), iv (0 : Int32), iv (0 : Int32), iv (0 : Int32), iv (0 : Int32)]) (st := [rv a0]) (al' := [some (iv (111 : Int32)), some (iv (114 : Int32)), some (iv (0 : Int32)), some (iv (0 : Int32)), some (iv (0 : Int32)), some (iv (0 : Int32)), none, none]) S_X8_spelled q2075 dX8_isOr_9 rfl rfl (Nat.le_of_ble_eq_true rfl) (Nat.le_of_ble_eq_true rfl) ?_
  refine mx_iload_n dX8_spelled_0 rfl rfl ?_
  refine mx_i2l dX8_spelled_1 ?_
  refine mx_ldc2 q2078 dX8_spelled_2 ?_
  refine mx_lsub dX8_spelled_5 ?_
  refine mx_lstore (al' := [some (iv (111 : Int32)), some (iv (114 : Int32)), some (iv (0 : Int32)), some (iv (0 : Int32)), some (iv (0 : Int32)), some (iv (0 : Int32)), some (jv ((111 : Int32).toInt64 - (96 : Int64))), none]) dX8_spelled_6 (Nat.le_of_ble_eq_true rfl) rfl ?_
  refine mx_lload dX8_spelled_8 rfl ?_
  refine mx_ldc2 q2079 dX8_spelled_10 ?_
  refine mx_lmul dX8_spelled_13 ?_
  refine mx_iload_n dX8_spelled_14 rfl rfl ?_
  refine mx_i2l dX8_spelled_15 ?_
  refine mx_ladd dX8_spelled_16 ?_
  refine mx_ldc2 q2078 dX8_spelled_17 ?_
  refine mx_lsub dX8_spelled_20 ?_
  refine mx_lstore (al' := [some (iv (111 : Int32)), some (iv (114 : Int32)), some (iv (0 : Int32)), some (iv (0 : Int32)), some (iv (0 : Int32)), some (iv (0 : Int32)), some (jv (((((111 : Int32).toInt64 - (96 : Int64)) * (32 : Int64)) + (114 : Int32).toInt64) - (96 : Int64))), none]) dX8_spelled_21 (Nat.le_of_ble_eq_true rfl) rfl ?_
  refine mx_iload_n dX8_spelled_23 rfl rfl ?_
  refine mx_if_le (tgt := 43) dX8_spelled_24 rfl (fun _ => ?_) (fun _ => absurd ‹_› (by decide))
  refine mx_lload dX8_spelled_43 rfl ?_
  refine mx_lstore (al' := [some (iv (111 : Int32)), some (iv (114 : Int32)), some (iv (0 : Int32)), some (iv (0 : Int32)), some (iv (0 : Int32)), some (iv (0 : Int32)), some (jv (((((111 : Int32).toInt64 - (96 : Int64)) * (32 : Int64)) + (114 : Int32).toInt64) - (96 : Int64))), none]) dX8_spelled_45 (Nat.le_of_ble_eq_true rfl) rfl ?_
  refine mx_iload_n dX8_spelled_47 rfl rfl ?_
  refine mx_if_le (tgt := 67) dX8_spelled_48 rfl (fun _ => ?_) (fun _ => absurd ‹_› (by decide))
  refine mx_lload dX8_spelled_67 rfl ?_
  refine mx_lstore (al' := [some (iv (111 : Int32)), some (iv (114 : Int32)), some (iv (0 : Int32)), some (iv (0 : Int32)), some (iv (0 : Int32)), some (iv (0 : Int32)), some (jv (((((111 : Int32).toInt64 - (96 : Int64)) * (32 : Int64)) + (114 : Int32).toInt64) - (96 : Int64))), none]) dX8_spelled_69 (Nat.le_of_ble_eq_true rfl) rfl ?_
  refine mx_iload dX8_spelled_71 rfl ?_
  refine mx_if_le (tgt := 93) dX8_spelled_73 rfl (fun _ => ?_) (fun _ => absurd ‹_› (by decide))
  refine mx_lload dX8_spelled_93 rfl ?_
  refine mx_lstore (al' := [some (iv (111 : Int32)), some (iv (114 : Int32)), some (iv (0 : Int32)), some (iv (0 : Int32)), some (iv (0 : Int32)), some (iv (0 : Int32)), some (jv (((((111 : Int32).toInt64 - (96 : Int64)) * (32 : Int64)) + (114 : Int32).toInt64) - (96 : Int64))), none]) dX8_spelled_95 (Nat.le_of_ble_eq_true rfl) rfl ?_
  refine mx_iload dX8_spelled_97 rfl ?_
  refine mx_if_le (tgt := 119) dX8_spelled_99 rfl (fun _ => ?_) (fun _ => absurd ‹_› (by decide))
  refine mx_lload dX8_spelled_119 rfl ?_
  refine mx_lretK rfl dX8_spelled_121 ?_
  refine mx_tj (show (((((111 : Int32).toInt64 - (96 : Int64)) * (32 : Int64)) + (114 : Int32).toInt64) - (96 : Int64)) = (498 : Int64) by decide) ?_
  refine mx_callV 8 (y' := mi_X8_isWord) (vs := [jv (498 : Int64)]) (st := []) (al' := [some (rv a0), some (jv (498 : Int64)), none]) cl_8 V_X8_isWord (Or.inl q2196) dX8_isOr_12 rfl rfl (Nat.le_of_ble_eq_true rfl) (Nat.le_of_ble_eq_true rfl) (ly8_k La0_h) ?_
  refine mx_aload_n dX8_isWord_0 rfl rfl ?_
  refine mx_get 8 50 (ref := "PrairiePoolModel") cl_8 (Nat.le_of_ble_eq_true rfl) (Or.inl q1677) (Or.inl rfl) dX8_isWord_1 (fv_8_50 _ _) (ly8_k La0_h) ?_
  refine mx_iconst dX8_isWord_4 ic_1 ?_
  refine mx_icmp_ne (tgt := 21) dX8_isWord_5 rfl (fun c1 => ?_) (fun c1 => ?_)
  · have H := H.1 c1
    refine mx_iconst dX8_isWord_21 ic_0 ?_
    refine mx_zretK rfl dX8_isWord_22 (Or.inl rfl) ?_
    exact mx_zret rfl dX8_isOr_15 (Or.inl rfl) H
  · have H := H.2 c1
    refine mx_aload_n dX8_isWord_8 rfl rfl ?_
    refine mx_get 8 55 (ref := "PrairiePoolModel") cl_8 (Nat.le_of_ble_eq_true rfl) (Or.inl q1682) (Or.inl rfl) dX8_isWord_9 (fv_8_55 _ _) (ly8_k La0_h) ?_
    refine mx_lload_n dX8_isWord_12 rfl rfl ?_
    refine mx_lif_ne (tgt := 21) dX8_isWord_13 dX8_isWord_14 rfl (fun c2 => ?_) (fun c2 => ?_)
    · have H := H.1 c2
      refine mx_iconst dX8_isWord_21 ic_0 ?_
      refine mx_zretK rfl dX8_isWord_22 (Or.inl rfl) ?_
      exact mx_zret rfl dX8_isOr_15 (Or.inl rfl) H
    · have H := H.2 c2
      refine mx_iconst dX8_isWord_17 ic_1 ?_
      refine mx_goto (tgt := 22) dX8_isWord_18 rfl ?_
      refine mx_zretK rfl dX8_isWord_22 (Or.inr rfl) ?_
      exact mx_zret rfl dX8_isOr_15 (Or.inr rfl) H
theorem v_X8_isNot {G : ma_G} {d : Nat} {a0 : Nat} {h : ah_T} {Q : Option ma_V → ah_T → Prop} {E : Nat → ah_T → Prop} (La0_h : LY8 h a0) (H : (¬ (ah_I h a0 50) = (1 : Int32) → Q (some (iv (0 : Int32))) h) ∧ ((ah_I h a0 50) = (1 : Int32) → (¬ (ah_J h a0 55) = (14836 : Int64) → Q (some (iv (0 : Int32))) h) ∧ ((ah_J h a0 55) = (14836 : Int64) → Q (some (iv (1 : Int32))) h))) : MX G mi_X8_isNot (d + 1) 0 [some (rv a0)] [] h Q E := by
  refine mx_aload_n dX8_isNot_0 rfl rfl ?_
  refine mx_bipush dX8_isNot_1 ib_110 ?_
  refine mx_bipush dX8_isNot_3 ib_111 ?_
  refine mx_bipush dX8_isNot_5 ib_116 ?_
  refine mx_iconst dX8_isNot_7 ic_0 ?_
  refine mx_iconst dX8_isNot_8 ic_0 ?_
  refine mx_iconst dX8_isNot_9 ic_0 ?_
  refine mx_callS (y' := mi_X8_spelled) (vs := [iv (110 : Int32), iv (111 : Int32), iv (116 : Int32), iv (0 : Int32), iv (0 : Int32), iv (0 : Int32)]) (st := [rv a0]) (al' := [some (iv (110 : Int32)), some (iv (111 : Int32)), some (iv (116 : Int32)), some (iv (0 : Int32)), some (iv (0 : Int32)), some (iv (0 : Int32)), none, none]) S_X8_spelled q2075 dX8_isNot_10 rfl rfl (Nat.le_of_ble_eq_true rfl) (Nat.le_of_ble_eq_true rfl) ?_
  refine mx_iload_n dX8_spelled_0 rfl rfl ?_
  refine mx_i2l dX8_spelled_1 ?_
  refine mx_ldc2 q2078 dX8_spelled_2 ?_
  refine mx_lsub dX8_spelled_5 ?_
  refine mx_lstore (al' := [some (iv (110 : Int32)), some (iv (111 : Int32)), some (iv (116 : Int32)), some (iv (0 : Int32)), some (iv (0 : Int32)), some (iv (0 : Int32)), some (jv ((110 : Int32).toInt64 - (96 : Int64))), none]) dX8_spelled_6 (Nat.le_of_ble_eq_true rfl) rfl ?_
  refine mx_lload dX8_spelled_8 rfl ?_
  refine mx_ldc2 q2079 dX8_spelled_10 ?_
  refine mx_lmul dX8_spelled_13 ?_
  refine mx_iload_n dX8_spelled_14 rfl rfl ?_
  refine mx_i2l dX8_spelled_15 ?_
  refine mx_ladd dX8_spelled_16 ?_
  refine mx_ldc2 q2078 dX8_spelled_17 ?_
  refine mx_lsub dX8_spelled_20 ?_
  refine mx_lstore (al' := [some (iv (110 : Int32)), some (iv (111 : Int32)), some (iv (116 : Int32)), some (iv (0 : Int32)), some (iv (0 : Int32)), some (iv (0 : Int32)), some (jv (((((110 : Int32).toInt64 - (96 : Int64)) * (32 : Int64)) + (111 : Int32).toInt64) - (96 : Int64))), none]) dX8_spelled_21 (Nat.le_of_ble_eq_true rfl) rfl ?_
  refine mx_iload_n dX8_spelled_23 rfl rfl ?_
  refine mx_if_le (tgt := 43) dX8_spelled_24 rfl (fun _ => absurd ‹_› (by decide)) (fun _ => ?_)
  refine mx_lload dX8_spelled_27 rfl ?_
  refine mx_ldc2 q2079 dX8_spelled_29 ?_
  refine mx_lmul dX8_spelled_32 ?_
  refine mx_iload_n dX8_spelled_33 rfl rfl ?_
  refine mx_i2l dX8_spelled_34 ?_
  refine mx_ladd dX8_spelled_35 ?_
  refine mx_ldc2 q2078 dX8_spelled_36 ?_
  refine mx_lsub dX8_spelled_39 ?_
  refine mx_goto (tgt := 45) dX8_spelled_40 rfl ?_
  refine mx_lstore (al' := [some (iv (110 : Int32)), some (iv (111 : Int32)), some (iv (116 : Int32)), some (iv (0 : Int32)), some (iv (0 : Int32)), some (iv (0 : Int32)), some (jv ((((((((110 : Int32).toInt64 - (96 : Int64)) * (32 : Int64)) + (111 : Int32).toInt64) - (96 : Int64)) * (32 : Int64)) + (116 : Int32).toInt64) - (96 : Int64))), none]) dX8_spelled_45 (Nat.le_of_ble_eq_true rfl) rfl ?_
  refine mx_iload_n dX8_spelled_47 rfl rfl ?_
  refine mx_if_le (tgt := 67) dX8_spelled_48 rfl (fun _ => ?_) (fun _ => absurd ‹_› (by decide))
  refine mx_lload dX8_spelled_67 rfl ?_
  refine mx_lstore (al' := [some (iv (110 : Int32)), some (iv (111 : Int32)), some (iv (116 : Int32)), some (iv (0 : Int32)), some (iv (0 : Int32)), some (iv (0 : Int32)), some (jv ((((((((110 : Int32).toInt64 - (96 : Int64)) * (32 : Int64)) + (111 : Int32).toInt64) - (96 : Int64)) * (32 : Int64)) + (116 : Int32).toInt64) - (96 : Int64))), none]) dX8_spelled_69 (Nat.le_of_ble_eq_true rfl) rfl ?_
  refine mx_iload dX8_spelled_71 rfl ?_
  refine mx_if_le (tgt := 93) dX8_spelled_73 rfl (fun _ => ?_) (fun _ => absurd ‹_› (by decide))
  refine mx_lload dX8_spelled_93 rfl ?_
  refine mx_lstore (al' := [some (iv (110 : Int32)), some (iv (111 : Int32)), some (iv (116 : Int32)), some (iv (0 : Int32)), some (iv (0 : Int32)), some (iv (0 : Int32)), some (jv ((((((((110 : Int32).toInt64 - (96 : Int64)) * (32 : Int64)) + (111 : Int32).toInt64) - (96 : Int64)) * (32 : Int64)) + (116 : Int32).toInt64) - (96 : Int64))), none]) dX8_spelled_95 (Nat.le_of_ble_eq_true rfl) rfl ?_
  refine mx_iload dX8_spelled_97 rfl ?_
  refine mx_if_le (tgt := 119) dX8_spelled_99 rfl (fun _ => ?_) (fun _ => absurd ‹_› (by decide))
  refine mx_lload dX8_spelled_119 rfl ?_
  refine mx_lretK rfl dX8_spelled_121 ?_
  refine mx_tj (show ((((((((110 : Int32).toInt64 - (96 : Int64)) * (32 : Int64)) + (111 : Int32).toInt64) - (96 : Int64)) * (32 : Int64)) + (116 : Int32).toInt64) - (96 : Int64)) = (14836 : Int64) by decide) ?_
  refine mx_callV 8 (y' := mi_X8_isWord) (vs := [jv (14836 : Int64)]) (st := []) (al' := [some (rv a0), some (jv (14836 : Int64)), none]) cl_8 V_X8_isWord (Or.inl q2196) dX8_isNot_13 rfl rfl (Nat.le_of_ble_eq_true rfl) (Nat.le_of_ble_eq_true rfl) (ly8_k La0_h) ?_
  refine mx_aload_n dX8_isWord_0 rfl rfl ?_
  refine mx_get 8 50 (ref := "PrairiePoolModel") cl_8 (Nat.le_of_ble_eq_true rfl) (Or.inl q1677) (Or.inl rfl) dX8_isWord_1 (fv_8_50 _ _) (ly8_k La0_h) ?_
  refine mx_iconst dX8_isWord_4 ic_1 ?_
  refine mx_icmp_ne (tgt := 21) dX8_isWord_5 rfl (fun c1 => ?_) (fun c1 => ?_)
  · have H := H.1 c1
    refine mx_iconst dX8_isWord_21 ic_0 ?_
    refine mx_zretK rfl dX8_isWord_22 (Or.inl rfl) ?_
    exact mx_zret rfl dX8_isNot_16 (Or.inl rfl) H
  · have H := H.2 c1
    refine mx_aload_n dX8_isWord_8 rfl rfl ?_
    refine mx_get 8 55 (ref := "PrairiePoolModel") cl_8 (Nat.le_of_ble_eq_true rfl) (Or.inl q1682) (Or.inl rfl) dX8_isWord_9 (fv_8_55 _ _) (ly8_k La0_h) ?_
    refine mx_lload_n dX8_isWord_12 rfl rfl ?_
    refine mx_lif_ne (tgt := 21) dX8_isWord_13 dX8_isWord_14 rfl (fun c2 => ?_) (fun c2 => ?_)
    · have H := H.1 c2
      refine mx_iconst dX8_isWord_21 ic_0 ?_
      refine mx_zretK rfl dX8_isWord_22 (Or.inl rfl) ?_
      exact mx_zret rfl dX8_isNot_16 (Or.inl rfl) H
    · have H := H.2 c2
      refine mx_iconst dX8_isWord_17 ic_1 ?_
      refine mx_goto (tgt := 22) dX8_isWord_18 rfl ?_
      refine mx_zretK rfl dX8_isWord_22 (Or.inr rfl) ?_
      exact mx_zret rfl dX8_isNot_16 (Or.inr rfl) H
theorem v_X8_isLeast {G : ma_G} {d : Nat} {a0 : Nat} {h : ah_T} {Q : Option ma_V → ah_T → Prop} {E : Nat → ah_T → Prop} (La0_h : LY8 h a0) (H : (¬ (ah_I h a0 50) = (1 : Int32) → Q (some (iv (0 : Int32))) h) ∧ ((ah_I h a0 50) = (1 : Int32) → (¬ (ah_J h a0 55) = (12748404 : Int64) → Q (some (iv (0 : Int32))) h) ∧ ((ah_J h a0 55) = (12748404 : Int64) → Q (some (iv (1 : Int32))) h))) : MX G mi_X8_isLeast (d + 1) 0 [some (rv a0)] [] h Q E := by
  refine mx_aload_n dX8_isLeast_0 rfl rfl ?_
  refine mx_bipush dX8_isLeast_1 ib_108 ?_
  refine mx_bipush dX8_isLeast_3 ib_101 ?_
  refine mx_bipush dX8_isLeast_5 ib_97 ?_
  refine mx_bipush dX8_isLeast_7 ib_115 ?_
  refine mx_bipush dX8_isLeast_9 ib_116 ?_
  refine mx_iconst dX8_isLeast_11 ic_0 ?_
  refine mx_callS (y' := mi_X8_spelled) (vs := [iv (108 : Int32), iv (101 : Int32), iv (97 : Int32), iv (115 : Int32), iv (116 : Int32), iv (0 : Int32)]) (st := [rv a0]) (al' := [some (iv (108 : Int32)), some (iv (101 : Int32)), some (iv (97 : Int32)), some (iv (115 : Int32)), some (iv (116 : Int32)), some (iv (0 : Int32)), none, none]) S_X8_spelled q2075 dX8_isLeast_12 rfl rfl (Nat.le_of_ble_eq_true rfl) (Nat.le_of_ble_eq_true rfl) ?_
  refine mx_iload_n dX8_spelled_0 rfl rfl ?_
  refine mx_i2l dX8_spelled_1 ?_
  refine mx_ldc2 q2078 dX8_spelled_2 ?_
  refine mx_lsub dX8_spelled_5 ?_
  refine mx_lstore (al' := [some (iv (108 : Int32)), some (iv (101 : Int32)), some (iv (97 : Int32)), some (iv (115 : Int32)), some (iv (116 : Int32)), some (iv (0 : Int32)), some (jv ((108 : Int32).toInt64 - (96 : Int64))), none]) dX8_spelled_6 (Nat.le_of_ble_eq_true rfl) rfl ?_
  refine mx_lload dX8_spelled_8 rfl ?_
  refine mx_ldc2 q2079 dX8_spelled_10 ?_
  refine mx_lmul dX8_spelled_13 ?_
  refine mx_iload_n dX8_spelled_14 rfl rfl ?_
  refine mx_i2l dX8_spelled_15 ?_
  refine mx_ladd dX8_spelled_16 ?_
  refine mx_ldc2 q2078 dX8_spelled_17 ?_
  refine mx_lsub dX8_spelled_20 ?_
  refine mx_lstore (al' := [some (iv (108 : Int32)), some (iv (101 : Int32)), some (iv (97 : Int32)), some (iv (115 : Int32)), some (iv (116 : Int32)), some (iv (0 : Int32)), some (jv (((((108 : Int32).toInt64 - (96 : Int64)) * (32 : Int64)) + (101 : Int32).toInt64) - (96 : Int64))), none]) dX8_spelled_21 (Nat.le_of_ble_eq_true rfl) rfl ?_
  refine mx_iload_n dX8_spelled_23 rfl rfl ?_
  refine mx_if_le (tgt := 43) dX8_spelled_24 rfl (fun _ => absurd ‹_› (by decide)) (fun _ => ?_)
  refine mx_lload dX8_spelled_27 rfl ?_
  refine mx_ldc2 q2079 dX8_spelled_29 ?_
  refine mx_lmul dX8_spelled_32 ?_
  refine mx_iload_n dX8_spelled_33 rfl rfl ?_
  refine mx_i2l dX8_spelled_34 ?_
  refine mx_ladd dX8_spelled_35 ?_
  refine mx_ldc2 q2078 dX8_spelled_36 ?_
  refine mx_lsub dX8_spelled_39 ?_
  refine mx_goto (tgt := 45) dX8_spelled_40 rfl ?_
  refine mx_lstore (al' := [some (iv (108 : Int32)), some (iv (101 : Int32)), some (iv (97 : Int32)), some (iv (115 : Int32)), some (iv (116 : Int32)), some (iv (0 : Int32)), some (jv ((((((((108 : Int32).toInt64 - (96 : Int64)) * (32 : Int64)) + (101 : Int32).toInt64) - (96 : Int64)) * (32 : Int64)) + (97 : Int32).toInt64) - (96 : Int64))), none]) dX8_spelled_45 (Nat.le_of_ble_eq_true rfl) rfl ?_
  refine mx_iload_n dX8_spelled_47 rfl rfl ?_
  refine mx_if_le (tgt := 67) dX8_spelled_48 rfl (fun _ => absurd ‹_› (by decide)) (fun _ => ?_)
  refine mx_lload dX8_spelled_51 rfl ?_
  refine mx_ldc2 q2079 dX8_spelled_53 ?_
  refine mx_lmul dX8_spelled_56 ?_
  refine mx_iload_n dX8_spelled_57 rfl rfl ?_
  refine mx_i2l dX8_spelled_58 ?_
  refine mx_ladd dX8_spelled_59 ?_
  refine mx_ldc2 q2078 dX8_spelled_60 ?_
  refine mx_lsub dX8_spelled_63 ?_
  refine mx_goto (tgt := 69) dX8_spelled_64 rfl ?_
  refine mx_lstore (al' := [some (iv (108 : Int32)), some (iv (101 : Int32)), some (iv (97 : Int32)), some (iv (115 : Int32)), some (iv (116 : Int32)), some (iv (0 : Int32)), some (jv (((((((((((108 : Int32).toInt64 - (96 : Int64)) * (32 : Int64)) + (101 : Int32).toInt64) - (96 : Int64)) * (32 : Int64)) + (97 : Int32).toInt64) - (96 : Int64)) * (32 : Int64)) + (115 : Int32).toInt64) - (96 : Int64))), none]) dX8_spelled_69 (Nat.le_of_ble_eq_true rfl) rfl ?_
  refine mx_iload dX8_spelled_71 rfl ?_
  refine mx_if_le (tgt := 93) dX8_spelled_73 rfl (fun _ => absurd ‹_› (by decide)) (fun _ => ?_)
  refine mx_lload dX8_spelled_76 rfl ?_
  refine mx_ldc2 q2079 dX8_spelled_78 ?_
  refine mx_lmul dX8_spelled_81 ?_
  refine mx_iload dX8_spelled_82 rfl ?_
  refine mx_i2l dX8_spelled_84 ?_
  refine mx_ladd dX8_spelled_85 ?_
  refine mx_ldc2 q2078 dX8_spelled_86 ?_
  refine mx_lsub dX8_spelled_89 ?_
  refine mx_goto (tgt := 95) dX8_spelled_90 rfl ?_
  refine mx_lstore (al' := [some (iv (108 : Int32)), some (iv (101 : Int32)), some (iv (97 : Int32)), some (iv (115 : Int32)), some (iv (116 : Int32)), some (iv (0 : Int32)), some (jv ((((((((((((((108 : Int32).toInt64 - (96 : Int64)) * (32 : Int64)) + (101 : Int32).toInt64) - (96 : Int64)) * (32 : Int64)) + (97 : Int32).toInt64) - (96 : Int64)) * (32 : Int64)) + (115 : Int32).toInt64) - (96 : Int64)) * (32 : Int64)) + (116 : Int32).toInt64) - (96 : Int64))), none]) dX8_spelled_95 (Nat.le_of_ble_eq_true rfl) rfl ?_
  refine mx_iload dX8_spelled_97 rfl ?_
  refine mx_if_le (tgt := 119) dX8_spelled_99 rfl (fun _ => ?_) (fun _ => absurd ‹_› (by decide))
  refine mx_lload dX8_spelled_119 rfl ?_
  refine mx_lretK rfl dX8_spelled_121 ?_
  refine mx_tj (show ((((((((((((((108 : Int32).toInt64 - (96 : Int64)) * (32 : Int64)) + (101 : Int32).toInt64) - (96 : Int64)) * (32 : Int64)) + (97 : Int32).toInt64) - (96 : Int64)) * (32 : Int64)) + (115 : Int32).toInt64) - (96 : Int64)) * (32 : Int64)) + (116 : Int32).toInt64) - (96 : Int64)) = (12748404 : Int64) by decide) ?_
  refine mx_callV 8 (y' := mi_X8_isWord) (vs := [jv (12748404 : Int64)]) (st := []) (al' := [some (rv a0), some (jv (12748404 : Int64)), none]) cl_8 V_X8_isWord (Or.inl q2196) dX8_isLeast_15 rfl rfl (Nat.le_of_ble_eq_true rfl) (Nat.le_of_ble_eq_true rfl) (ly8_k La0_h) ?_
  refine mx_aload_n dX8_isWord_0 rfl rfl ?_
  refine mx_get 8 50 (ref := "PrairiePoolModel") cl_8 (Nat.le_of_ble_eq_true rfl) (Or.inl q1677) (Or.inl rfl) dX8_isWord_1 (fv_8_50 _ _) (ly8_k La0_h) ?_
  refine mx_iconst dX8_isWord_4 ic_1 ?_
  refine mx_icmp_ne (tgt := 21) dX8_isWord_5 rfl (fun c1 => ?_) (fun c1 => ?_)
  · have H := H.1 c1
    refine mx_iconst dX8_isWord_21 ic_0 ?_
    refine mx_zretK rfl dX8_isWord_22 (Or.inl rfl) ?_
    exact mx_zret rfl dX8_isLeast_18 (Or.inl rfl) H
  · have H := H.2 c1
    refine mx_aload_n dX8_isWord_8 rfl rfl ?_
    refine mx_get 8 55 (ref := "PrairiePoolModel") cl_8 (Nat.le_of_ble_eq_true rfl) (Or.inl q1682) (Or.inl rfl) dX8_isWord_9 (fv_8_55 _ _) (ly8_k La0_h) ?_
    refine mx_lload_n dX8_isWord_12 rfl rfl ?_
    refine mx_lif_ne (tgt := 21) dX8_isWord_13 dX8_isWord_14 rfl (fun c2 => ?_) (fun c2 => ?_)
    · have H := H.1 c2
      refine mx_iconst dX8_isWord_21 ic_0 ?_
      refine mx_zretK rfl dX8_isWord_22 (Or.inl rfl) ?_
      exact mx_zret rfl dX8_isLeast_18 (Or.inl rfl) H
    · have H := H.2 c2
      refine mx_iconst dX8_isWord_17 ic_1 ?_
      refine mx_goto (tgt := 22) dX8_isWord_18 rfl ?_
      refine mx_zretK rfl dX8_isWord_22 (Or.inr rfl) ?_
      exact mx_zret rfl dX8_isLeast_18 (Or.inr rfl) H
theorem v_X8_isMost {G : ma_G} {d : Nat} {a0 : Nat} {h : ah_T} {Q : Option ma_V → ah_T → Prop} {E : Nat → ah_T → Prop} (La0_h : LY8 h a0) (H : (¬ (ah_I h a0 50) = (1 : Int32) → Q (some (iv (0 : Int32))) h) ∧ ((ah_I h a0 50) = (1 : Int32) → (¬ (ah_J h a0 55) = (441972 : Int64) → Q (some (iv (0 : Int32))) h) ∧ ((ah_J h a0 55) = (441972 : Int64) → Q (some (iv (1 : Int32))) h))) : MX G mi_X8_isMost (d + 1) 0 [some (rv a0)] [] h Q E := by
  refine mx_aload_n dX8_isMost_0 rfl rfl ?_
  refine mx_bipush dX8_isMost_1 ib_109 ?_
  refine mx_bipush dX8_isMost_3 ib_111 ?_
  refine mx_bipush dX8_isMost_5 ib_115 ?_
  refine mx_bipush dX8_isMost_7 ib_116 ?_
  refine mx_iconst dX8_isMost_9 ic_0 ?_
  refine mx_iconst dX8_isMost_10 ic_0 ?_
  refine mx_callS (y' := mi_X8_spelled) (vs := [iv (109 : Int32), iv (111 : Int32), iv (115 : Int32), iv (116 : Int32), iv (0 : Int32), iv (0 : Int32)]) (st := [rv a0]) (al' := [some (iv (109 : Int32)), some (iv (111 : Int32)), some (iv (115 : Int32)), some (iv (116 : Int32)), some (iv (0 : Int32)), some (iv (0 : Int32)), none, none]) S_X8_spelled q2075 dX8_isMost_11 rfl rfl (Nat.le_of_ble_eq_true rfl) (Nat.le_of_ble_eq_true rfl) ?_
  refine mx_iload_n dX8_spelled_0 rfl rfl ?_
  refine mx_i2l dX8_spelled_1 ?_
  refine mx_ldc2 q2078 dX8_spelled_2 ?_
  refine mx_lsub dX8_spelled_5 ?_
  refine mx_lstore (al' := [some (iv (109 : Int32)), some (iv (111 : Int32)), some (iv (115 : Int32)), some (iv (116 : Int32)), some (iv (0 : Int32)), some (iv (0 : Int32)), some (jv ((109 : Int32).toInt64 - (96 : Int64))), none]) dX8_spelled_6 (Nat.le_of_ble_eq_true rfl) rfl ?_
  refine mx_lload dX8_spelled_8 rfl ?_
  refine mx_ldc2 q2079 dX8_spelled_10 ?_
  refine mx_lmul dX8_spelled_13 ?_
  refine mx_iload_n dX8_spelled_14 rfl rfl ?_
  refine mx_i2l dX8_spelled_15 ?_
  refine mx_ladd dX8_spelled_16 ?_
  refine mx_ldc2 q2078 dX8_spelled_17 ?_
  refine mx_lsub dX8_spelled_20 ?_
  refine mx_lstore (al' := [some (iv (109 : Int32)), some (iv (111 : Int32)), some (iv (115 : Int32)), some (iv (116 : Int32)), some (iv (0 : Int32)), some (iv (0 : Int32)), some (jv (((((109 : Int32).toInt64 - (96 : Int64)) * (32 : Int64)) + (111 : Int32).toInt64) - (96 : Int64))), none]) dX8_spelled_21 (Nat.le_of_ble_eq_true rfl) rfl ?_
  refine mx_iload_n dX8_spelled_23 rfl rfl ?_
  refine mx_if_le (tgt := 43) dX8_spelled_24 rfl (fun _ => absurd ‹_› (by decide)) (fun _ => ?_)
  refine mx_lload dX8_spelled_27 rfl ?_
  refine mx_ldc2 q2079 dX8_spelled_29 ?_
  refine mx_lmul dX8_spelled_32 ?_
  refine mx_iload_n dX8_spelled_33 rfl rfl ?_
  refine mx_i2l dX8_spelled_34 ?_
  refine mx_ladd dX8_spelled_35 ?_
  refine mx_ldc2 q2078 dX8_spelled_36 ?_
  refine mx_lsub dX8_spelled_39 ?_
  refine mx_goto (tgt := 45) dX8_spelled_40 rfl ?_
  refine mx_lstore (al' := [some (iv (109 : Int32)), some (iv (111 : Int32)), some (iv (115 : Int32)), some (iv (116 : Int32)), some (iv (0 : Int32)), some (iv (0 : Int32)), some (jv ((((((((109 : Int32).toInt64 - (96 : Int64)) * (32 : Int64)) + (111 : Int32).toInt64) - (96 : Int64)) * (32 : Int64)) + (115 : Int32).toInt64) - (96 : Int64))), none]) dX8_spelled_45 (Nat.le_of_ble_eq_true rfl) rfl ?_
  refine mx_iload_n dX8_spelled_47 rfl rfl ?_
  refine mx_if_le (tgt := 67) dX8_spelled_48 rfl (fun _ => absurd ‹_› (by decide)) (fun _ => ?_)
  refine mx_lload dX8_spelled_51 rfl ?_
  refine mx_ldc2 q2079 dX8_spelled_53 ?_
  refine mx_lmul dX8_spelled_56 ?_
  refine mx_iload_n dX8_spelled_57 rfl rfl ?_
  refine mx_i2l dX8_spelled_58 ?_
  refine mx_ladd dX8_spelled_59 ?_
  refine mx_ldc2 q2078 dX8_spelled_60 ?_
  refine mx_lsub dX8_spelled_63 ?_
  refine mx_goto (tgt := 69) dX8_spelled_64 rfl ?_
  refine mx_lstore (al' := [some (iv (109 : Int32)), some (iv (111 : Int32)), some (iv (115 : Int32)), some (iv (116 : Int32)), some (iv (0 : Int32)), some (iv (0 : Int32)), some (jv (((((((((((109 : Int32).toInt64 - (96 : Int64)) * (32 : Int64)) + (111 : Int32).toInt64) - (96 : Int64)) * (32 : Int64)) + (115 : Int32).toInt64) - (96 : Int64)) * (32 : Int64)) + (116 : Int32).toInt64) - (96 : Int64))), none]) dX8_spelled_69 (Nat.le_of_ble_eq_true rfl) rfl ?_
  refine mx_iload dX8_spelled_71 rfl ?_
  refine mx_if_le (tgt := 93) dX8_spelled_73 rfl (fun _ => ?_) (fun _ => absurd ‹_› (by decide))
  refine mx_lload dX8_spelled_93 rfl ?_
  refine mx_lstore (al' := [some (iv (109 : Int32)), some (iv (111 : Int32)), some (iv (115 : Int32)), some (iv (116 : Int32)), some (iv (0 : Int32)), some (iv (0 : Int32)), some (jv (((((((((((109 : Int32).toInt64 - (96 : Int64)) * (32 : Int64)) + (111 : Int32).toInt64) - (96 : Int64)) * (32 : Int64)) + (115 : Int32).toInt64) - (96 : Int64)) * (32 : Int64)) + (116 : Int32).toInt64) - (96 : Int64))), none]) dX8_spelled_95 (Nat.le_of_ble_eq_true rfl) rfl ?_
  refine mx_iload dX8_spelled_97 rfl ?_
  refine mx_if_le (tgt := 119) dX8_spelled_99 rfl (fun _ => ?_) (fun _ => absurd ‹_› (by decide))
  refine mx_lload dX8_spelled_119 rfl ?_
  refine mx_lretK rfl dX8_spelled_121 ?_
  refine mx_tj (show (((((((((((109 : Int32).toInt64 - (96 : Int64)) * (32 : Int64)) + (111 : Int32).toInt64) - (96 : Int64)) * (32 : Int64)) + (115 : Int32).toInt64) - (96 : Int64)) * (32 : Int64)) + (116 : Int32).toInt64) - (96 : Int64)) = (441972 : Int64) by decide) ?_
  refine mx_callV 8 (y' := mi_X8_isWord) (vs := [jv (441972 : Int64)]) (st := []) (al' := [some (rv a0), some (jv (441972 : Int64)), none]) cl_8 V_X8_isWord (Or.inl q2196) dX8_isMost_14 rfl rfl (Nat.le_of_ble_eq_true rfl) (Nat.le_of_ble_eq_true rfl) (ly8_k La0_h) ?_
  refine mx_aload_n dX8_isWord_0 rfl rfl ?_
  refine mx_get 8 50 (ref := "PrairiePoolModel") cl_8 (Nat.le_of_ble_eq_true rfl) (Or.inl q1677) (Or.inl rfl) dX8_isWord_1 (fv_8_50 _ _) (ly8_k La0_h) ?_
  refine mx_iconst dX8_isWord_4 ic_1 ?_
  refine mx_icmp_ne (tgt := 21) dX8_isWord_5 rfl (fun c1 => ?_) (fun c1 => ?_)
  · have H := H.1 c1
    refine mx_iconst dX8_isWord_21 ic_0 ?_
    refine mx_zretK rfl dX8_isWord_22 (Or.inl rfl) ?_
    exact mx_zret rfl dX8_isMost_17 (Or.inl rfl) H
  · have H := H.2 c1
    refine mx_aload_n dX8_isWord_8 rfl rfl ?_
    refine mx_get 8 55 (ref := "PrairiePoolModel") cl_8 (Nat.le_of_ble_eq_true rfl) (Or.inl q1682) (Or.inl rfl) dX8_isWord_9 (fv_8_55 _ _) (ly8_k La0_h) ?_
    refine mx_lload_n dX8_isWord_12 rfl rfl ?_
    refine mx_lif_ne (tgt := 21) dX8_isWord_13 dX8_isWord_14 rfl (fun c2 => ?_) (fun c2 => ?_)
    · have H := H.1 c2
      refine mx_iconst dX8_isWord_21 ic_0 ?_
      refine mx_zretK rfl dX8_isWord_22 (Or.inl rfl) ?_
      exact mx_zret rfl dX8_isMost_17 (Or.inl rfl) H
    · have H := H.2 c2
      refine mx_iconst dX8_isWord_17 ic_1 ?_
      refine mx_goto (tgt := 22) dX8_isWord_18 rfl ?_
      refine mx_zretK rfl dX8_isWord_22 (Or.inr rfl) ?_
      exact mx_zret rfl dX8_isMost_17 (Or.inr rfl) H
theorem v_X8_wrong {G : ma_G} {d : Nat} {a0 : Nat} {h : ah_T} {Q : Option ma_V → ah_T → Prop} {E : Nat → ah_T → Prop} (La0_h : LY8 h a0) (H : (¬ (ah_I h a0 50) = (4 : Int32) → ((ah_I h a0 48) ≤ 0 → ∀ h3 : ah_T, h3 = ah_wI h a0 48 (2 : Int32) → ah_ext h h3 → ∀ h4 : ah_T, h4 = ah_wI h3 a0 49 (ah_I h a0 51) → ah_ext h3 h4 → Q none h4) ∧ (¬ (ah_I h a0 48) ≤ 0 → Q none h)) ∧ ((ah_I h a0 50) = (4 : Int32) → ((ah_I h a0 48) ≤ 0 → ∀ h6 : ah_T, h6 = ah_wI h a0 48 (1 : Int32) → ah_ext h h6 → ∀ h7 : ah_T, h7 = ah_wI h6 a0 49 (ah_I h a0 51) → ah_ext h6 h7 → Q none h7) ∧ (¬ (ah_I h a0 48) ≤ 0 → Q none h))) : MX G mi_X8_wrong (d + 1) 0 [some (rv a0)] [] h Q E := by
  refine mx_aload_n dX8_wrong_0 rfl rfl ?_
  refine mx_aload_n dX8_wrong_1 rfl rfl ?_
  refine mx_get 8 50 (ref := "PrairiePoolModel") cl_8 (Nat.le_of_ble_eq_true rfl) (Or.inl q1677) (Or.inl rfl) dX8_wrong_2 (fv_8_50 _ _) (ly8_k La0_h) ?_
  refine mx_iconst dX8_wrong_5 ic_4 ?_
  refine mx_icmp_ne (tgt := 13) dX8_wrong_6 rfl (fun c1 => ?_) (fun c1 => ?_)
  · have H := H.1 c1
    refine mx_iconst dX8_wrong_13 ic_2 ?_
    refine mx_aload_n dX8_wrong_14 rfl rfl ?_
    refine mx_get 8 51 (ref := "PrairiePoolModel") cl_8 (Nat.le_of_ble_eq_true rfl) (Or.inl q1678) (Or.inl rfl) dX8_wrong_15 (fv_8_51 _ _) (ly8_k La0_h) ?_
    refine mx_callV 8 (y' := mi_X8_fail) (vs := [iv (2 : Int32), iv (ah_I h a0 51)]) (st := []) (al' := [some (rv a0), some (iv (2 : Int32)), some (iv (ah_I h a0 51))]) cl_8 V_X8_fail (Or.inl q2243) dX8_wrong_18 rfl rfl (Nat.le_of_ble_eq_true rfl) (Nat.le_of_ble_eq_true rfl) (ly8_k La0_h) ?_
    refine mx_aload_n dX8_fail_0 rfl rfl ?_
    refine mx_get 8 48 (ref := "PrairiePoolModel") cl_8 (Nat.le_of_ble_eq_true rfl) (Or.inl q1675) (Or.inl rfl) dX8_fail_1 (fv_8_48 _ _) (ly8_k La0_h) ?_
    refine mx_if_le (tgt := 8) dX8_fail_4 rfl (fun c2 => ?_) (fun c2 => ?_)
    · have H := H.1 c2
      refine mx_aload_n dX8_fail_8 rfl rfl ?_
      refine mx_iload_n dX8_fail_9 rfl rfl ?_
      refine mx_putI 8 48 (ref := "PrairiePoolModel") cl_8 (Nat.le_of_ble_eq_true rfl) (Or.inl q1675) (Or.inl rfl) dX8_fail_10 (Or.inl rfl) rfl (ly8_k La0_h) ?_
      refine mx_nmI  (fun h3 eh3 Xh3 Kh3 Lh3 => ?_)
      have H := H h3 eh3 Xh3
      have La0_h3 := La0_h.ext Xh3
      refine mx_aload_n dX8_fail_13 rfl rfl ?_
      refine mx_iload_n dX8_fail_14 rfl rfl ?_
      refine mx_putI 8 49 (ref := "PrairiePoolModel") cl_8 (Nat.le_of_ble_eq_true rfl) (Or.inl q1676) (Or.inl rfl) dX8_fail_15 (Or.inl rfl) rfl (ly8_k La0_h3) ?_
      refine mx_nmI  (fun h4 eh4 Xh4 Kh4 Lh4 => ?_)
      have H := H h4 eh4 Xh4
      have Kh4 := Kh4.trans Kh3
      have Lh4 := Lh4.trans Lh3
      have La0_h4 := La0_h3.ext Xh4
      refine mx_vretK rfl dX8_fail_18 ?_
      exact mx_vret rfl dX8_wrong_21 H
    · have H := H.2 c2
      refine mx_vretK rfl dX8_fail_7 ?_
      exact mx_vret rfl dX8_wrong_21 H
  · have H := H.2 c1
    refine mx_iconst dX8_wrong_9 ic_1 ?_
    refine mx_goto (tgt := 14) dX8_wrong_10 rfl ?_
    refine mx_aload_n dX8_wrong_14 rfl rfl ?_
    refine mx_get 8 51 (ref := "PrairiePoolModel") cl_8 (Nat.le_of_ble_eq_true rfl) (Or.inl q1678) (Or.inl rfl) dX8_wrong_15 (fv_8_51 _ _) (ly8_k La0_h) ?_
    refine mx_callV 8 (y' := mi_X8_fail) (vs := [iv (1 : Int32), iv (ah_I h a0 51)]) (st := []) (al' := [some (rv a0), some (iv (1 : Int32)), some (iv (ah_I h a0 51))]) cl_8 V_X8_fail (Or.inl q2243) dX8_wrong_18 rfl rfl (Nat.le_of_ble_eq_true rfl) (Nat.le_of_ble_eq_true rfl) (ly8_k La0_h) ?_
    refine mx_aload_n dX8_fail_0 rfl rfl ?_
    refine mx_get 8 48 (ref := "PrairiePoolModel") cl_8 (Nat.le_of_ble_eq_true rfl) (Or.inl q1675) (Or.inl rfl) dX8_fail_1 (fv_8_48 _ _) (ly8_k La0_h) ?_
    refine mx_if_le (tgt := 8) dX8_fail_4 rfl (fun c5 => ?_) (fun c5 => ?_)
    · have H := H.1 c5
      refine mx_aload_n dX8_fail_8 rfl rfl ?_
      refine mx_iload_n dX8_fail_9 rfl rfl ?_
      refine mx_putI 8 48 (ref := "PrairiePoolModel") cl_8 (Nat.le_of_ble_eq_true rfl) (Or.inl q1675) (Or.inl rfl) dX8_fail_10 (Or.inl rfl) rfl (ly8_k La0_h) ?_
      refine mx_nmI  (fun h6 eh6 Xh6 Kh6 Lh6 => ?_)
      have H := H h6 eh6 Xh6
      have La0_h6 := La0_h.ext Xh6
      refine mx_aload_n dX8_fail_13 rfl rfl ?_
      refine mx_iload_n dX8_fail_14 rfl rfl ?_
      refine mx_putI 8 49 (ref := "PrairiePoolModel") cl_8 (Nat.le_of_ble_eq_true rfl) (Or.inl q1676) (Or.inl rfl) dX8_fail_15 (Or.inl rfl) rfl (ly8_k La0_h6) ?_
      refine mx_nmI  (fun h7 eh7 Xh7 Kh7 Lh7 => ?_)
      have H := H h7 eh7 Xh7
      have Kh7 := Kh7.trans Kh6
      have Lh7 := Lh7.trans Lh6
      have La0_h7 := La0_h6.ext Xh7
      refine mx_vretK rfl dX8_fail_18 ?_
      exact mx_vret rfl dX8_wrong_21 H
    · have H := H.2 c5
      refine mx_vretK rfl dX8_fail_7 ?_
      exact mx_vret rfl dX8_wrong_21 H
theorem v_X8_fail {G : ma_G} {d : Nat} {a0 : Nat} {x1 : Int32} {x2 : Int32} {h : ah_T} {Q : Option ma_V → ah_T → Prop} {E : Nat → ah_T → Prop} (La0_h : LY8 h a0) (H : ((ah_I h a0 48) ≤ 0 → ∀ h2 : ah_T, h2 = ah_wI h a0 48 x1 → ah_ext h h2 → ∀ h3 : ah_T, h3 = ah_wI h2 a0 49 x2 → ah_ext h2 h3 → Q none h3) ∧ (¬ (ah_I h a0 48) ≤ 0 → Q none h)) : MX G mi_X8_fail d 0 [some (rv a0), some (iv x1), some (iv x2)] [] h Q E := by
  refine mx_aload_n dX8_fail_0 rfl rfl ?_
  refine mx_get 8 48 (ref := "PrairiePoolModel") cl_8 (Nat.le_of_ble_eq_true rfl) (Or.inl q1675) (Or.inl rfl) dX8_fail_1 (fv_8_48 _ _) (ly8_k La0_h) ?_
  refine mx_if_le (tgt := 8) dX8_fail_4 rfl (fun c1 => ?_) (fun c1 => ?_)
  · have H := H.1 c1
    refine mx_aload_n dX8_fail_8 rfl rfl ?_
    refine mx_iload_n dX8_fail_9 rfl rfl ?_
    refine mx_putI 8 48 (ref := "PrairiePoolModel") cl_8 (Nat.le_of_ble_eq_true rfl) (Or.inl q1675) (Or.inl rfl) dX8_fail_10 (Or.inl rfl) rfl (ly8_k La0_h) ?_
    refine mx_nmI  (fun h2 eh2 Xh2 Kh2 Lh2 => ?_)
    have H := H h2 eh2 Xh2
    have La0_h2 := La0_h.ext Xh2
    refine mx_aload_n dX8_fail_13 rfl rfl ?_
    refine mx_iload_n dX8_fail_14 rfl rfl ?_
    refine mx_putI 8 49 (ref := "PrairiePoolModel") cl_8 (Nat.le_of_ble_eq_true rfl) (Or.inl q1676) (Or.inl rfl) dX8_fail_15 (Or.inl rfl) rfl (ly8_k La0_h2) ?_
    refine mx_nmI  (fun h3 eh3 Xh3 Kh3 Lh3 => ?_)
    have H := H h3 eh3 Xh3
    have Kh3 := Kh3.trans Kh2
    have Lh3 := Lh3.trans Lh2
    have La0_h3 := La0_h2.ext Xh3
    exact mx_vret rfl dX8_fail_18 H
  · have H := H.2 c1
    exact mx_vret rfl dX8_fail_7 H
theorem dX8_named_0 : decode mi_X8_named.2.1 0 = .ok (.iconst 0, 1) := by decide +kernel
theorem dX8_named_1 : decode mi_X8_named.2.1 1 = .ok (.istore_n 1, 1) := by decide +kernel
theorem dX8_named_2 : decode mi_X8_named.2.1 2 = .ok (.aload_n 0, 1) := by decide +kernel
theorem dX8_named_3 : decode mi_X8_named.2.1 3 = .ok (.getfield 422, 3) := by decide +kernel
theorem dX8_named_6 : decode mi_X8_named.2.1 6 = .ok (.iconst 1, 1) := by decide +kernel
theorem dX8_named_7 : decode mi_X8_named.2.1 7 = .ok (.if_icmp .ne 42, 3) := by decide +kernel
theorem dX8_named_10 : decode mi_X8_named.2.1 10 = .ok (.aload_n 0, 1) := by decide +kernel
theorem dX8_named_11 : decode mi_X8_named.2.1 11 = .ok (.getfield 436, 3) := by decide +kernel
theorem dX8_named_14 : decode mi_X8_named.2.1 14 = .ok (.bipush 8, 2) := by decide +kernel
theorem dX8_named_16 : decode mi_X8_named.2.1 16 = .ok (.if_icmp .gt 33, 3) := by decide +kernel
theorem dX8_named_19 : decode mi_X8_named.2.1 19 = .ok (.iload_n 1, 1) := by decide +kernel
theorem dX8_named_20 : decode mi_X8_named.2.1 20 = .ok (.aload_n 0, 1) := by decide +kernel
theorem dX8_named_21 : decode mi_X8_named.2.1 21 = .ok (.getfield 497, 3) := by decide +kernel
theorem dX8_named_24 : decode mi_X8_named.2.1 24 = .ok (.if_icmp .ge 25, 3) := by decide +kernel
theorem dX8_named_27 : decode mi_X8_named.2.1 27 = .ok (.aload_n 0, 1) := by decide +kernel
theorem dX8_named_28 : decode mi_X8_named.2.1 28 = .ok (.getfield 145, 3) := by decide +kernel
theorem dX8_named_31 : decode mi_X8_named.2.1 31 = .ok (.iload_n 1, 1) := by decide +kernel
theorem dX8_named_32 : decode mi_X8_named.2.1 32 = .ok (.laload, 1) := by decide +kernel
theorem dX8_named_33 : decode mi_X8_named.2.1 33 = .ok (.aload_n 0, 1) := by decide +kernel
theorem dX8_named_34 : decode mi_X8_named.2.1 34 = .ok (.getfield 428, 3) := by decide +kernel
theorem dX8_named_37 : decode mi_X8_named.2.1 37 = .ok (.lcmp, 1) := by decide +kernel
theorem dX8_named_38 : decode mi_X8_named.2.1 38 = .ok (.ifCond .ne 5, 3) := by decide +kernel
theorem dX8_named_41 : decode mi_X8_named.2.1 41 = .ok (.iload_n 1, 1) := by decide +kernel
theorem dX8_named_42 : decode mi_X8_named.2.1 42 = .ok (.ireturn, 1) := by decide +kernel
theorem dX8_named_43 : decode mi_X8_named.2.1 43 = .ok (.iinc 1 1, 3) := by decide +kernel
theorem dX8_named_46 : decode mi_X8_named.2.1 46 = .ok (.goto (-44), 3) := by decide +kernel
theorem dX8_named_49 : decode mi_X8_named.2.1 49 = .ok (.iconst (-1), 1) := by decide +kernel
theorem dX8_named_50 : decode mi_X8_named.2.1 50 = .ok (.ireturn, 1) := by decide +kernel
theorem v_X8_named {G : ma_G} {d : Nat} {a0 : Nat} {h : ah_T} {Q : Option ma_V → ah_T → Prop} {E : Nat → ah_T → Prop} (La0_h : LY8 h a0) (H : MX G mi_X8_named d 2 [some (rv a0), some (iv (0 : Int32))] [] h Q E) : MX G mi_X8_named d 0 [some (rv a0), none] [] h Q E := by
  refine mx_iconst dX8_named_0 ic_0 ?_
  refine mx_istore_n (al' := [some (rv a0), some (iv (0 : Int32))]) dX8_named_1 rfl (Nat.le_of_ble_eq_true rfl) rfl ?_
  exact mx_weak (al' := [some (rv a0), some (iv (0 : Int32))]) ⟨rfl, ⟨rfl, trivial⟩⟩ H
theorem v_X8_named_2 {G : ma_G} {d : Nat} {a0 : Nat} {x1 : Int32} {h : ah_T} {Q : Option ma_V → ah_T → Prop} {E : Nat → ah_T → Prop} (La0_h : LY8 h a0) (H : (¬ (ah_I h a0 50) = (1 : Int32) → Q (some (iv (-1 : Int32))) h) ∧ ((ah_I h a0 50) = (1 : Int32) → ((8 : Int32) < (ah_I h a0 54) → Q (some (iv (-1 : Int32))) h) ∧ (¬ (8 : Int32) < (ah_I h a0 54) → ((ah_I h a0 57) ≤ x1 → Q (some (iv (-1 : Int32))) h) ∧ (¬ (ah_I h a0 57) ≤ x1 → vp_in x1 10 ∧ (¬ (ah_J h (a0 + 43) x1.toNatClampNeg) = (ah_J h a0 55) → MX G mi_X8_named d 2 [some (rv a0), some (iv (x1 + (1 : Int32)))] [] h Q E) ∧ ((ah_J h (a0 + 43) x1.toNatClampNeg) = (ah_J h a0 55) → Q (some (iv x1)) h))))) : MX G mi_X8_named d 2 [some (rv a0), some (iv x1)] [] h Q E := by
  refine mx_aload_n dX8_named_2 rfl rfl ?_
  refine mx_get 8 50 (ref := "PrairiePoolModel") cl_8 (Nat.le_of_ble_eq_true rfl) (Or.inl q1677) (Or.inl rfl) dX8_named_3 (fv_8_50 _ _) (ly8_k La0_h) ?_
  refine mx_iconst dX8_named_6 ic_1 ?_
  refine mx_icmp_ne (tgt := 49) dX8_named_7 rfl (fun c1 => ?_) (fun c1 => ?_)
  · have H := H.1 c1
    refine mx_iconst dX8_named_49 ic_m1 ?_
    exact mx_iret rfl dX8_named_50 H
  · have H := H.2 c1
    refine mx_aload_n dX8_named_10 rfl rfl ?_
    refine mx_get 8 54 (ref := "PrairiePoolModel") cl_8 (Nat.le_of_ble_eq_true rfl) (Or.inl q1681) (Or.inl rfl) dX8_named_11 (fv_8_54 _ _) (ly8_k La0_h) ?_
    refine mx_bipush dX8_named_14 ib_8 ?_
    refine mx_icmp_gt (tgt := 49) dX8_named_16 rfl (fun c2 => ?_) (fun c2 => ?_)
    · have H := H.1 c2
      refine mx_iconst dX8_named_49 ic_m1 ?_
      exact mx_iret rfl dX8_named_50 H
    · have H := H.2 c2
      refine mx_iload_n dX8_named_19 rfl rfl ?_
      refine mx_aload_n dX8_named_20 rfl rfl ?_
      refine mx_get 8 57 (ref := "PrairiePoolModel") cl_8 (Nat.le_of_ble_eq_true rfl) (Or.inl q1684) (Or.inl rfl) dX8_named_21 (fv_8_57 _ _) (ly8_k La0_h) ?_
      refine mx_icmp_ge (tgt := 49) dX8_named_24 rfl (fun c3 => ?_) (fun c3 => ?_)
      · have H := H.1 c3
        refine mx_iconst dX8_named_49 ic_m1 ?_
        exact mx_iret rfl dX8_named_50 H
      · have H := H.2 c3
        refine mx_aload_n dX8_named_27 rfl rfl ?_
        refine mx_get 8 66 (ref := "PrairiePoolModel") cl_8 (Nat.le_of_ble_eq_true rfl) (Or.inl q1693) (Or.inl rfl) dX8_named_28 (fv_8_66 _ _) (ly8_k La0_h) ?_
        refine mx_tr (ly8_R_0_66 La0_h) ?_
        refine mx_iload_n dX8_named_31 rfl rfl ?_
        obtain ⟨k4, H⟩ := H
        refine my_lald dX8_named_32 rfl (ly8_A_43 La0_h k4) ?_
        refine mx_aload_n dX8_named_33 rfl rfl ?_
        refine mx_get 8 55 (ref := "PrairiePoolModel") cl_8 (Nat.le_of_ble_eq_true rfl) (Or.inl q1682) (Or.inl rfl) dX8_named_34 (fv_8_55 _ _) (ly8_k La0_h) ?_
        refine mx_lif_ne (tgt := 43) dX8_named_37 dX8_named_38 rfl (fun c5 => ?_) (fun c5 => ?_)
        · have H := H.1 c5
          refine mx_iinc (al' := [some (rv a0), some (iv (x1 + (1 : Int32)))]) dX8_named_43 rfl ic_1 rfl ?_
          refine mx_goto (tgt := 2) dX8_named_46 rfl ?_
          exact mx_weak (al' := [some (rv a0), some (iv (x1 + (1 : Int32)))]) ⟨rfl, ⟨rfl, trivial⟩⟩ H
        · have H := H.2 c5
          refine mx_iload_n dX8_named_41 rfl rfl ?_
          exact mx_iret rfl dX8_named_42 H
theorem v_X8_isSign {G : ma_G} {d : Nat} {a0 : Nat} {x1 : Int32} {h : ah_T} {Q : Option ma_V → ah_T → Prop} {E : Nat → ah_T → Prop} (La0_h : LY8 h a0) (H : (¬ (ah_I h a0 50) = (3 : Int32) → Q (some (iv (0 : Int32))) h) ∧ ((ah_I h a0 50) = (3 : Int32) → (¬ (ah_I h a0 53) = x1 → Q (some (iv (0 : Int32))) h) ∧ ((ah_I h a0 53) = x1 → Q (some (iv (1 : Int32))) h))) : MX G mi_X8_isSign d 0 [some (rv a0), some (iv x1)] [] h Q E := by
  refine mx_aload_n dX8_isSign_0 rfl rfl ?_
  refine mx_get 8 50 (ref := "PrairiePoolModel") cl_8 (Nat.le_of_ble_eq_true rfl) (Or.inl q1677) (Or.inl rfl) dX8_isSign_1 (fv_8_50 _ _) (ly8_k La0_h) ?_
  refine mx_iconst dX8_isSign_4 ic_3 ?_
  refine mx_icmp_ne (tgt := 20) dX8_isSign_5 rfl (fun c1 => ?_) (fun c1 => ?_)
  · have H := H.1 c1
    refine mx_iconst dX8_isSign_20 ic_0 ?_
    exact mx_zret rfl dX8_isSign_21 (Or.inl rfl) H
  · have H := H.2 c1
    refine mx_aload_n dX8_isSign_8 rfl rfl ?_
    refine mx_get 8 53 (ref := "PrairiePoolModel") cl_8 (Nat.le_of_ble_eq_true rfl) (Or.inl q1680) (Or.inl rfl) dX8_isSign_9 (fv_8_53 _ _) (ly8_k La0_h) ?_
    refine mx_iload_n dX8_isSign_12 rfl rfl ?_
    refine mx_icmp_ne (tgt := 20) dX8_isSign_13 rfl (fun c2 => ?_) (fun c2 => ?_)
    · have H := H.1 c2
      refine mx_iconst dX8_isSign_20 ic_0 ?_
      exact mx_zret rfl dX8_isSign_21 (Or.inl rfl) H
    · have H := H.2 c2
      refine mx_iconst dX8_isSign_16 ic_1 ?_
      refine mx_goto (tgt := 21) dX8_isSign_17 rfl ?_
      exact mx_zret rfl dX8_isSign_21 (Or.inr rfl) H
theorem dX8_readWhole_0 : decode mi_X8_readWhole.2.1 0 = .ok (.aload_n 0, 1) := by decide +kernel
theorem dX8_readWhole_1 : decode mi_X8_readWhole.2.1 1 = .ok (.invokevirtual 513, 3) := by decide +kernel
theorem dX8_readWhole_4 : decode mi_X8_readWhole.2.1 4 = .ok (.ifCond .ne 7, 3) := by decide +kernel
theorem dX8_readWhole_7 : decode mi_X8_readWhole.2.1 7 = .ok (.aload_n 0, 1) := by decide +kernel
theorem dX8_readWhole_8 : decode mi_X8_readWhole.2.1 8 = .ok (.invokevirtual 516, 3) := by decide +kernel
theorem dX8_readWhole_11 : decode mi_X8_readWhole.2.1 11 = .ok (.iload_n 1, 1) := by decide +kernel
theorem dX8_readWhole_12 : decode mi_X8_readWhole.2.1 12 = .ok (.bipush 8, 2) := by decide +kernel
theorem dX8_readWhole_14 : decode mi_X8_readWhole.2.1 14 = .ok (.if_icmp .le 12, 3) := by decide +kernel
theorem dX8_readWhole_17 : decode mi_X8_readWhole.2.1 17 = .ok (.aload_n 0, 1) := by decide +kernel
theorem dX8_readWhole_18 : decode mi_X8_readWhole.2.1 18 = .ok (.iconst 5, 1) := by decide +kernel
theorem dX8_readWhole_19 : decode mi_X8_readWhole.2.1 19 = .ok (.aload_n 0, 1) := by decide +kernel
theorem dX8_readWhole_20 : decode mi_X8_readWhole.2.1 20 = .ok (.getfield 416, 3) := by decide +kernel
theorem dX8_readWhole_23 : decode mi_X8_readWhole.2.1 23 = .ok (.invokevirtual 459, 3) := by decide +kernel
theorem dX8_readWhole_26 : decode mi_X8_readWhole.2.1 26 = .ok (.aload_n 0, 1) := by decide +kernel
theorem dX8_readWhole_27 : decode mi_X8_readWhole.2.1 27 = .ok (.getfield 453, 3) := by decide +kernel
theorem dX8_readWhole_30 : decode mi_X8_readWhole.2.1 30 = .ok (.ifCond .le 4, 3) := by decide +kernel
theorem dX8_readWhole_33 : decode mi_X8_readWhole.2.1 33 = .ok (.return_, 1) := by decide +kernel
theorem dX8_readWhole_34 : decode mi_X8_readWhole.2.1 34 = .ok (.aload_n 0, 1) := by decide +kernel
theorem dX8_readWhole_35 : decode mi_X8_readWhole.2.1 35 = .ok (.invokevirtual 472, 3) := by decide +kernel
theorem dX8_readWhole_38 : decode mi_X8_readWhole.2.1 38 = .ok (.ifCond .ne 9, 3) := by decide +kernel
theorem dX8_readWhole_41 : decode mi_X8_readWhole.2.1 41 = .ok (.aload_n 0, 1) := by decide +kernel
theorem dX8_readWhole_42 : decode mi_X8_readWhole.2.1 42 = .ok (.iload_n 1, 1) := by decide +kernel
theorem dX8_readWhole_43 : decode mi_X8_readWhole.2.1 43 = .ok (.invokevirtual 519, 3) := by decide +kernel
theorem dX8_readWhole_46 : decode mi_X8_readWhole.2.1 46 = .ok (.return_, 1) := by decide +kernel
theorem dX8_readWhole_47 : decode mi_X8_readWhole.2.1 47 = .ok (.aload_n 0, 1) := by decide +kernel
theorem dX8_readWhole_48 : decode mi_X8_readWhole.2.1 48 = .ok (.invokevirtual 522, 3) := by decide +kernel
theorem dX8_readWhole_51 : decode mi_X8_readWhole.2.1 51 = .ok (.aload_n 0, 1) := by decide +kernel
theorem dX8_readWhole_52 : decode mi_X8_readWhole.2.1 52 = .ok (.iload_n 1, 1) := by decide +kernel
theorem dX8_readWhole_53 : decode mi_X8_readWhole.2.1 53 = .ok (.invokevirtual 525, 3) := by decide +kernel
theorem dX8_readWhole_56 : decode mi_X8_readWhole.2.1 56 = .ok (.aload_n 0, 1) := by decide +kernel
theorem dX8_readWhole_57 : decode mi_X8_readWhole.2.1 57 = .ok (.getfield 453, 3) := by decide +kernel
theorem dX8_readWhole_60 : decode mi_X8_readWhole.2.1 60 = .ok (.ifCond .ne 14, 3) := by decide +kernel
theorem dX8_readWhole_63 : decode mi_X8_readWhole.2.1 63 = .ok (.aload_n 0, 1) := by decide +kernel
theorem dX8_readWhole_64 : decode mi_X8_readWhole.2.1 64 = .ok (.invokevirtual 476, 3) := by decide +kernel
theorem dX8_readWhole_67 : decode mi_X8_readWhole.2.1 67 = .ok (.ifCond .ne 7, 3) := by decide +kernel
theorem dX8_readWhole_70 : decode mi_X8_readWhole.2.1 70 = .ok (.aload_n 0, 1) := by decide +kernel
theorem dX8_readWhole_71 : decode mi_X8_readWhole.2.1 71 = .ok (.invokevirtual 516, 3) := by decide +kernel
theorem dX8_readWhole_74 : decode mi_X8_readWhole.2.1 74 = .ok (.aload_n 0, 1) := by decide +kernel
theorem dX8_readWhole_75 : decode mi_X8_readWhole.2.1 75 = .ok (.getfield 453, 3) := by decide +kernel
theorem dX8_readWhole_78 : decode mi_X8_readWhole.2.1 78 = .ok (.ifCond .le 4, 3) := by decide +kernel
theorem dX8_readWhole_81 : decode mi_X8_readWhole.2.1 81 = .ok (.return_, 1) := by decide +kernel
theorem dX8_readWhole_82 : decode mi_X8_readWhole.2.1 82 = .ok (.aload_n 0, 1) := by decide +kernel
theorem dX8_readWhole_83 : decode mi_X8_readWhole.2.1 83 = .ok (.getfield 500, 3) := by decide +kernel
theorem dX8_readWhole_86 : decode mi_X8_readWhole.2.1 86 = .ok (.istore_n 2, 1) := by decide +kernel
theorem dX8_readWhole_87 : decode mi_X8_readWhole.2.1 87 = .ok (.aload_n 0, 1) := by decide +kernel
theorem dX8_readWhole_88 : decode mi_X8_readWhole.2.1 88 = .ok (.bipush 15, 2) := by decide +kernel
theorem dX8_readWhole_90 : decode mi_X8_readWhole.2.1 90 = .ok (.iconst 0, 1) := by decide +kernel
theorem dX8_readWhole_91 : decode mi_X8_readWhole.2.1 91 = .ok (.invokevirtual 528, 3) := by decide +kernel
theorem dX8_readWhole_94 : decode mi_X8_readWhole.2.1 94 = .ok (.aload_n 0, 1) := by decide +kernel
theorem dX8_readWhole_95 : decode mi_X8_readWhole.2.1 95 = .ok (.invokevirtual 522, 3) := by decide +kernel
theorem dX8_readWhole_98 : decode mi_X8_readWhole.2.1 98 = .ok (.aload_n 0, 1) := by decide +kernel
theorem dX8_readWhole_99 : decode mi_X8_readWhole.2.1 99 = .ok (.iload_n 1, 1) := by decide +kernel
theorem dX8_readWhole_100 : decode mi_X8_readWhole.2.1 100 = .ok (.iconst 1, 1) := by decide +kernel
theorem dX8_readWhole_101 : decode mi_X8_readWhole.2.1 101 = .ok (.iadd, 1) := by decide +kernel
theorem dX8_readWhole_102 : decode mi_X8_readWhole.2.1 102 = .ok (.invokevirtual 531, 3) := by decide +kernel
theorem dX8_readWhole_105 : decode mi_X8_readWhole.2.1 105 = .ok (.aload_n 0, 1) := by decide +kernel
theorem dX8_readWhole_106 : decode mi_X8_readWhole.2.1 106 = .ok (.getfield 453, 3) := by decide +kernel
theorem dX8_readWhole_109 : decode mi_X8_readWhole.2.1 109 = .ok (.ifCond .ne 14, 3) := by decide +kernel
theorem dX8_readWhole_112 : decode mi_X8_readWhole.2.1 112 = .ok (.aload_n 0, 1) := by decide +kernel
theorem dX8_readWhole_113 : decode mi_X8_readWhole.2.1 113 = .ok (.invokevirtual 479, 3) := by decide +kernel
theorem dX8_readWhole_116 : decode mi_X8_readWhole.2.1 116 = .ok (.ifCond .ne 7, 3) := by decide +kernel
theorem dX8_readWhole_119 : decode mi_X8_readWhole.2.1 119 = .ok (.aload_n 0, 1) := by decide +kernel
theorem dX8_readWhole_120 : decode mi_X8_readWhole.2.1 120 = .ok (.invokevirtual 516, 3) := by decide +kernel
theorem dX8_readWhole_123 : decode mi_X8_readWhole.2.1 123 = .ok (.aload_n 0, 1) := by decide +kernel
theorem dX8_readWhole_124 : decode mi_X8_readWhole.2.1 124 = .ok (.getfield 453, 3) := by decide +kernel
theorem dX8_readWhole_127 : decode mi_X8_readWhole.2.1 127 = .ok (.ifCond .le 4, 3) := by decide +kernel
theorem dX8_readWhole_130 : decode mi_X8_readWhole.2.1 130 = .ok (.return_, 1) := by decide +kernel
theorem dX8_readWhole_131 : decode mi_X8_readWhole.2.1 131 = .ok (.aload_n 0, 1) := by decide +kernel
theorem dX8_readWhole_132 : decode mi_X8_readWhole.2.1 132 = .ok (.getfield 500, 3) := by decide +kernel
theorem dX8_readWhole_135 : decode mi_X8_readWhole.2.1 135 = .ok (.istore_n 3, 1) := by decide +kernel
theorem dX8_readWhole_136 : decode mi_X8_readWhole.2.1 136 = .ok (.aload_n 0, 1) := by decide +kernel
theorem dX8_readWhole_137 : decode mi_X8_readWhole.2.1 137 = .ok (.bipush 16, 2) := by decide +kernel
theorem dX8_readWhole_139 : decode mi_X8_readWhole.2.1 139 = .ok (.iconst 0, 1) := by decide +kernel
theorem dX8_readWhole_140 : decode mi_X8_readWhole.2.1 140 = .ok (.invokevirtual 528, 3) := by decide +kernel
theorem dX8_readWhole_143 : decode mi_X8_readWhole.2.1 143 = .ok (.aload_n 0, 1) := by decide +kernel
theorem dX8_readWhole_144 : decode mi_X8_readWhole.2.1 144 = .ok (.getfield 139, 3) := by decide +kernel
theorem dX8_readWhole_147 : decode mi_X8_readWhole.2.1 147 = .ok (.iload_n 2, 1) := by decide +kernel
theorem dX8_readWhole_148 : decode mi_X8_readWhole.2.1 148 = .ok (.dup2, 1) := by decide +kernel
theorem dX8_readWhole_149 : decode mi_X8_readWhole.2.1 149 = .ok (.iaload, 1) := by decide +kernel
theorem dX8_readWhole_150 : decode mi_X8_readWhole.2.1 150 = .ok (.aload_n 0, 1) := by decide +kernel
theorem dX8_readWhole_151 : decode mi_X8_readWhole.2.1 151 = .ok (.getfield 500, 3) := by decide +kernel
theorem dX8_readWhole_154 : decode mi_X8_readWhole.2.1 154 = .ok (.iadd, 1) := by decide +kernel
theorem dX8_readWhole_155 : decode mi_X8_readWhole.2.1 155 = .ok (.iastore, 1) := by decide +kernel
theorem dX8_readWhole_156 : decode mi_X8_readWhole.2.1 156 = .ok (.aload_n 0, 1) := by decide +kernel
theorem dX8_readWhole_157 : decode mi_X8_readWhole.2.1 157 = .ok (.invokevirtual 522, 3) := by decide +kernel
theorem dX8_readWhole_160 : decode mi_X8_readWhole.2.1 160 = .ok (.aload_n 0, 1) := by decide +kernel
theorem dX8_readWhole_161 : decode mi_X8_readWhole.2.1 161 = .ok (.iload_n 1, 1) := by decide +kernel
theorem dX8_readWhole_162 : decode mi_X8_readWhole.2.1 162 = .ok (.iconst 1, 1) := by decide +kernel
theorem dX8_readWhole_163 : decode mi_X8_readWhole.2.1 163 = .ok (.iadd, 1) := by decide +kernel
theorem dX8_readWhole_164 : decode mi_X8_readWhole.2.1 164 = .ok (.invokevirtual 531, 3) := by decide +kernel
theorem dX8_readWhole_167 : decode mi_X8_readWhole.2.1 167 = .ok (.aload_n 0, 1) := by decide +kernel
theorem dX8_readWhole_168 : decode mi_X8_readWhole.2.1 168 = .ok (.getfield 139, 3) := by decide +kernel
theorem dX8_readWhole_171 : decode mi_X8_readWhole.2.1 171 = .ok (.iload_n 3, 1) := by decide +kernel
theorem dX8_readWhole_172 : decode mi_X8_readWhole.2.1 172 = .ok (.dup2, 1) := by decide +kernel
theorem dX8_readWhole_173 : decode mi_X8_readWhole.2.1 173 = .ok (.iaload, 1) := by decide +kernel
theorem dX8_readWhole_174 : decode mi_X8_readWhole.2.1 174 = .ok (.aload_n 0, 1) := by decide +kernel
theorem dX8_readWhole_175 : decode mi_X8_readWhole.2.1 175 = .ok (.getfield 500, 3) := by decide +kernel
theorem dX8_readWhole_178 : decode mi_X8_readWhole.2.1 178 = .ok (.iadd, 1) := by decide +kernel
theorem dX8_readWhole_179 : decode mi_X8_readWhole.2.1 179 = .ok (.iastore, 1) := by decide +kernel
theorem dX8_readWhole_180 : decode mi_X8_readWhole.2.1 180 = .ok (.return_, 1) := by decide +kernel
theorem v_X8_readWhole {G : ma_G} {d : Nat} {a0 : Nat} {x1 : Int32} {h : ah_T} {Q : Option ma_V → ah_T → Prop} {E : Nat → ah_T → Prop} (La0_h : LY8 h a0) (H : MX G mi_X8_canBegin (d + 1) 0 [some (rv a0)] [] h (Qi fun r2 h1 => ah_ext h h1 → (¬ r2 = 0 → (x1 ≤ (8 : Int32) → MX G mi_X8_readWhole (d + 2) 26 [some (rv a0), some (iv x1), none, none] [] h1 Q E) ∧ (¬ x1 ≤ (8 : Int32) → ((ah_I h1 a0 48) ≤ 0 → ∀ h6 : ah_T, h6 = ah_wI h1 a0 48 (5 : Int32) → ah_ext h1 h6 → ∀ h7 : ah_T, h7 = ah_wI h6 a0 49 (ah_I h1 a0 51) → ah_ext h6 h7 → MX G mi_X8_readWhole (d + 2) 26 [some (rv a0), some (iv x1), none, none] [] h7 Q E) ∧ (¬ (ah_I h1 a0 48) ≤ 0 → MX G mi_X8_readWhole (d + 2) 26 [some (rv a0), some (iv x1), none, none] [] h1 Q E))) ∧ (r2 = 0 → (¬ (ah_I h1 a0 50) = (4 : Int32) → ((ah_I h1 a0 48) ≤ 0 → ∀ h10 : ah_T, h10 = ah_wI h1 a0 48 (2 : Int32) → ah_ext h1 h10 → ∀ h11 : ah_T, h11 = ah_wI h10 a0 49 (ah_I h1 a0 51) → ah_ext h10 h11 → (x1 ≤ (8 : Int32) → MX G mi_X8_readWhole (d + 2) 26 [some (rv a0), some (iv x1), none, none] [] h11 Q E) ∧ (¬ x1 ≤ (8 : Int32) → MX G mi_X8_readWhole (d + 2) 26 [some (rv a0), some (iv x1), none, none] [] h11 Q E)) ∧ (¬ (ah_I h1 a0 48) ≤ 0 → (x1 ≤ (8 : Int32) → MX G mi_X8_readWhole (d + 2) 26 [some (rv a0), some (iv x1), none, none] [] h1 Q E) ∧ (¬ x1 ≤ (8 : Int32) → MX G mi_X8_readWhole (d + 2) 26 [some (rv a0), some (iv x1), none, none] [] h1 Q E))) ∧ ((ah_I h1 a0 50) = (4 : Int32) → ((ah_I h1 a0 48) ≤ 0 → ∀ h15 : ah_T, h15 = ah_wI h1 a0 48 (1 : Int32) → ah_ext h1 h15 → ∀ h16 : ah_T, h16 = ah_wI h15 a0 49 (ah_I h1 a0 51) → ah_ext h15 h16 → (x1 ≤ (8 : Int32) → MX G mi_X8_readWhole (d + 2) 26 [some (rv a0), some (iv x1), none, none] [] h16 Q E) ∧ (¬ x1 ≤ (8 : Int32) → MX G mi_X8_readWhole (d + 2) 26 [some (rv a0), some (iv x1), none, none] [] h16 Q E)) ∧ (¬ (ah_I h1 a0 48) ≤ 0 → (x1 ≤ (8 : Int32) → MX G mi_X8_readWhole (d + 2) 26 [some (rv a0), some (iv x1), none, none] [] h1 Q E) ∧ (¬ x1 ≤ (8 : Int32) → MX G mi_X8_readWhole (d + 2) 26 [some (rv a0), some (iv x1), none, none] [] h1 Q E))))) E) : MX G mi_X8_readWhole (d + 2) 0 [some (rv a0), some (iv x1), none, none] [] h Q E := by
  refine mx_aload_n dX8_readWhole_0 rfl rfl ?_
  refine mx_callV 8 (y' := mi_X8_canBegin) (vs := []) (st := []) (al' := [some (rv a0)]) cl_8 V_X8_canBegin (Or.inl q2259) dX8_readWhole_1 rfl rfl (Nat.le_of_ble_eq_true rfl) (Nat.le_of_ble_eq_true rfl) (ly8_k La0_h) ?_
  refine ma_ki H (fun r2 h1 Xh1 H => ?_) (fun x1 h1 X1 H => mt_out rfl H)
  have H := H Xh1
  have La0_h1 := La0_h.ext Xh1
  refine mx_if_ne (tgt := 11) dX8_readWhole_4 rfl (fun c3 => ?_) (fun c3 => ?_)
  · have H := H.1 c3
    refine mx_iload_n dX8_readWhole_11 rfl rfl ?_
    refine mx_bipush dX8_readWhole_12 ib_8 ?_
    refine mx_icmp_le (tgt := 26) dX8_readWhole_14 rfl (fun c4 => ?_) (fun c4 => ?_)
    · have H := H.1 c4
      exact mx_weak (al' := [some (rv a0), some (iv x1), none, none]) ⟨rfl, ⟨rfl, trivial⟩⟩ H
    · have H := H.2 c4
      refine mx_aload_n dX8_readWhole_17 rfl rfl ?_
      refine mx_iconst dX8_readWhole_18 ic_5 ?_
      refine mx_aload_n dX8_readWhole_19 rfl rfl ?_
      refine mx_get 8 51 (ref := "PrairiePoolModel") cl_8 (Nat.le_of_ble_eq_true rfl) (Or.inl q1678) (Or.inl rfl) dX8_readWhole_20 (fv_8_51 _ _) (ly8_k La0_h1) ?_
      refine mx_callV 8 (y' := mi_X8_fail) (vs := [iv (5 : Int32), iv (ah_I h1 a0 51)]) (st := []) (al' := [some (rv a0), some (iv (5 : Int32)), some (iv (ah_I h1 a0 51))]) cl_8 V_X8_fail (Or.inl q2243) dX8_readWhole_23 rfl rfl (Nat.le_of_ble_eq_true rfl) (Nat.le_of_ble_eq_true rfl) (ly8_k La0_h1) ?_
      refine mx_aload_n dX8_fail_0 rfl rfl ?_
      refine mx_get 8 48 (ref := "PrairiePoolModel") cl_8 (Nat.le_of_ble_eq_true rfl) (Or.inl q1675) (Or.inl rfl) dX8_fail_1 (fv_8_48 _ _) (ly8_k La0_h1) ?_
      refine mx_if_le (tgt := 8) dX8_fail_4 rfl (fun c5 => ?_) (fun c5 => ?_)
      · have H := H.1 c5
        refine mx_aload_n dX8_fail_8 rfl rfl ?_
        refine mx_iload_n dX8_fail_9 rfl rfl ?_
        refine mx_putI 8 48 (ref := "PrairiePoolModel") cl_8 (Nat.le_of_ble_eq_true rfl) (Or.inl q1675) (Or.inl rfl) dX8_fail_10 (Or.inl rfl) rfl (ly8_k La0_h1) ?_
        refine mx_nmI  (fun h6 eh6 Xh6 Kh6 Lh6 => ?_)
        have H := H h6 eh6 Xh6
        have La0_h6 := La0_h1.ext Xh6
        refine mx_aload_n dX8_fail_13 rfl rfl ?_
        refine mx_iload_n dX8_fail_14 rfl rfl ?_
        refine mx_putI 8 49 (ref := "PrairiePoolModel") cl_8 (Nat.le_of_ble_eq_true rfl) (Or.inl q1676) (Or.inl rfl) dX8_fail_15 (Or.inl rfl) rfl (ly8_k La0_h6) ?_
        refine mx_nmI  (fun h7 eh7 Xh7 Kh7 Lh7 => ?_)
        have H := H h7 eh7 Xh7
        have Kh7 := Kh7.trans Kh6
        have Lh7 := Lh7.trans Lh6
        have La0_h7 := La0_h6.ext Xh7
        refine mx_vretK rfl dX8_fail_18 ?_
        exact mx_weak (al' := [some (rv a0), some (iv x1), none, none]) ⟨rfl, ⟨rfl, trivial⟩⟩ H
      · have H := H.2 c5
        refine mx_vretK rfl dX8_fail_7 ?_
        exact mx_weak (al' := [some (rv a0), some (iv x1), none, none]) ⟨rfl, ⟨rfl, trivial⟩⟩ H
  · have H := H.2 c3
    refine mx_aload_n dX8_readWhole_7 rfl rfl ?_
    refine mx_callV 8 (y' := mi_X8_wrong) (vs := []) (st := []) (al' := [some (rv a0)]) cl_8 V_X8_wrong (Or.inl q2239) dX8_readWhole_8 rfl rfl (Nat.le_of_ble_eq_true rfl) (Nat.le_of_ble_eq_true rfl) (ly8_k La0_h1) ?_
    refine mx_aload_n dX8_wrong_0 rfl rfl ?_
    refine mx_aload_n dX8_wrong_1 rfl rfl ?_
    refine mx_get 8 50 (ref := "PrairiePoolModel") cl_8 (Nat.le_of_ble_eq_true rfl) (Or.inl q1677) (Or.inl rfl) dX8_wrong_2 (fv_8_50 _ _) (ly8_k La0_h1) ?_
    refine mx_iconst dX8_wrong_5 ic_4 ?_
    refine mx_icmp_ne (tgt := 13) dX8_wrong_6 rfl (fun c8 => ?_) (fun c8 => ?_)
    · have H := H.1 c8
      refine mx_iconst dX8_wrong_13 ic_2 ?_
      refine mx_aload_n dX8_wrong_14 rfl rfl ?_
      refine mx_get 8 51 (ref := "PrairiePoolModel") cl_8 (Nat.le_of_ble_eq_true rfl) (Or.inl q1678) (Or.inl rfl) dX8_wrong_15 (fv_8_51 _ _) (ly8_k La0_h1) ?_
      refine mx_callV 8 (y' := mi_X8_fail) (vs := [iv (2 : Int32), iv (ah_I h1 a0 51)]) (st := []) (al' := [some (rv a0), some (iv (2 : Int32)), some (iv (ah_I h1 a0 51))]) cl_8 V_X8_fail (Or.inl q2243) dX8_wrong_18 rfl rfl (Nat.le_of_ble_eq_true rfl) (Nat.le_of_ble_eq_true rfl) (ly8_k La0_h1) ?_
      refine mx_aload_n dX8_fail_0 rfl rfl ?_
      refine mx_get 8 48 (ref := "PrairiePoolModel") cl_8 (Nat.le_of_ble_eq_true rfl) (Or.inl q1675) (Or.inl rfl) dX8_fail_1 (fv_8_48 _ _) (ly8_k La0_h1) ?_
      refine mx_if_le (tgt := 8) dX8_fail_4 rfl (fun c9 => ?_) (fun c9 => ?_)
      · have H := H.1 c9
        refine mx_aload_n dX8_fail_8 rfl rfl ?_
        refine mx_iload_n dX8_fail_9 rfl rfl ?_
        refine mx_putI 8 48 (ref := "PrairiePoolModel") cl_8 (Nat.le_of_ble_eq_true rfl) (Or.inl q1675) (Or.inl rfl) dX8_fail_10 (Or.inl rfl) rfl (ly8_k La0_h1) ?_
        refine mx_nmI  (fun h10 eh10 Xh10 Kh10 Lh10 => ?_)
        have H := H h10 eh10 Xh10
        have La0_h10 := La0_h1.ext Xh10
        refine mx_aload_n dX8_fail_13 rfl rfl ?_
        refine mx_iload_n dX8_fail_14 rfl rfl ?_
        refine mx_putI 8 49 (ref := "PrairiePoolModel") cl_8 (Nat.le_of_ble_eq_true rfl) (Or.inl q1676) (Or.inl rfl) dX8_fail_15 (Or.inl rfl) rfl (ly8_k La0_h10) ?_
        refine mx_nmI  (fun h11 eh11 Xh11 Kh11 Lh11 => ?_)
        have H := H h11 eh11 Xh11
        have Kh11 := Kh11.trans Kh10
        have Lh11 := Lh11.trans Lh10
        have La0_h11 := La0_h10.ext Xh11
        refine mx_vretK rfl dX8_fail_18 ?_
        refine mx_vretK rfl dX8_wrong_21 ?_
        refine mx_iload_n dX8_readWhole_11 rfl rfl ?_
        refine mx_bipush dX8_readWhole_12 ib_8 ?_
        refine mx_icmp_le (tgt := 26) dX8_readWhole_14 rfl (fun c12 => ?_) (fun c12 => ?_)
        · have H := H.1 c12
          exact mx_weak (al' := [some (rv a0), some (iv x1), none, none]) ⟨rfl, ⟨rfl, trivial⟩⟩ H
        · have H := H.2 c12
          refine mx_aload_n dX8_readWhole_17 rfl rfl ?_
          refine mx_iconst dX8_readWhole_18 ic_5 ?_
          refine mx_aload_n dX8_readWhole_19 rfl rfl ?_
          refine mx_get 8 51 (ref := "PrairiePoolModel") cl_8 (Nat.le_of_ble_eq_true rfl) (Or.inl q1678) (Or.inl rfl) dX8_readWhole_20 (fv_8_51 _ _) (ly8_k La0_h11) ?_
          refine mx_ti ((ah_skIK eh11 (by decide)).trans (ah_skIK eh10 (by decide))) ?_
          refine mx_callV 8 (y' := mi_X8_fail) (vs := [iv (5 : Int32), iv (ah_I h1 a0 51)]) (st := []) (al' := [some (rv a0), some (iv (5 : Int32)), some (iv (ah_I h1 a0 51))]) cl_8 V_X8_fail (Or.inl q2243) dX8_readWhole_23 rfl rfl (Nat.le_of_ble_eq_true rfl) (Nat.le_of_ble_eq_true rfl) (ly8_k La0_h11) ?_
          refine mx_aload_n dX8_fail_0 rfl rfl ?_
          refine mx_get 8 48 (ref := "PrairiePoolModel") cl_8 (Nat.le_of_ble_eq_true rfl) (Or.inl q1675) (Or.inl rfl) dX8_fail_1 (fv_8_48 _ _) (ly8_k La0_h11) ?_
          refine mx_ti ((ah_skIK eh11 (by decide)).trans (ah_hitI eh10)) ?_
          refine mx_if_le (tgt := 8) dX8_fail_4 rfl (fun _ => absurd ‹_› (by decide)) (fun _ => ?_)
          refine mx_vretK rfl dX8_fail_7 ?_
          exact mx_weak (al' := [some (rv a0), some (iv x1), none, none]) ⟨rfl, ⟨rfl, trivial⟩⟩ H
      · have H := H.2 c9
        refine mx_vretK rfl dX8_fail_7 ?_
        refine mx_vretK rfl dX8_wrong_21 ?_
        refine mx_iload_n dX8_readWhole_11 rfl rfl ?_
        refine mx_bipush dX8_readWhole_12 ib_8 ?_
        refine mx_icmp_le (tgt := 26) dX8_readWhole_14 rfl (fun c13 => ?_) (fun c13 => ?_)
        · have H := H.1 c13
          exact mx_weak (al' := [some (rv a0), some (iv x1), none, none]) ⟨rfl, ⟨rfl, trivial⟩⟩ H
        · have H := H.2 c13
          refine mx_aload_n dX8_readWhole_17 rfl rfl ?_
          refine mx_iconst dX8_readWhole_18 ic_5 ?_
          refine mx_aload_n dX8_readWhole_19 rfl rfl ?_
          refine mx_get 8 51 (ref := "PrairiePoolModel") cl_8 (Nat.le_of_ble_eq_true rfl) (Or.inl q1678) (Or.inl rfl) dX8_readWhole_20 (fv_8_51 _ _) (ly8_k La0_h1) ?_
          refine mx_callV 8 (y' := mi_X8_fail) (vs := [iv (5 : Int32), iv (ah_I h1 a0 51)]) (st := []) (al' := [some (rv a0), some (iv (5 : Int32)), some (iv (ah_I h1 a0 51))]) cl_8 V_X8_fail (Or.inl q2243) dX8_readWhole_23 rfl rfl (Nat.le_of_ble_eq_true rfl) (Nat.le_of_ble_eq_true rfl) (ly8_k La0_h1) ?_
          refine mx_aload_n dX8_fail_0 rfl rfl ?_
          refine mx_get 8 48 (ref := "PrairiePoolModel") cl_8 (Nat.le_of_ble_eq_true rfl) (Or.inl q1675) (Or.inl rfl) dX8_fail_1 (fv_8_48 _ _) (ly8_k La0_h1) ?_
          refine mx_if_le (tgt := 8) dX8_fail_4 rfl (fun q_ => absurd q_ c9) (fun _ => ?_)
          refine mx_vretK rfl dX8_fail_7 ?_
          exact mx_weak (al' := [some (rv a0), some (iv x1), none, none]) ⟨rfl, ⟨rfl, trivial⟩⟩ H
    · have H := H.2 c8
      refine mx_iconst dX8_wrong_9 ic_1 ?_
      refine mx_goto (tgt := 14) dX8_wrong_10 rfl ?_
      refine mx_aload_n dX8_wrong_14 rfl rfl ?_
      refine mx_get 8 51 (ref := "PrairiePoolModel") cl_8 (Nat.le_of_ble_eq_true rfl) (Or.inl q1678) (Or.inl rfl) dX8_wrong_15 (fv_8_51 _ _) (ly8_k La0_h1) ?_
      refine mx_callV 8 (y' := mi_X8_fail) (vs := [iv (1 : Int32), iv (ah_I h1 a0 51)]) (st := []) (al' := [some (rv a0), some (iv (1 : Int32)), some (iv (ah_I h1 a0 51))]) cl_8 V_X8_fail (Or.inl q2243) dX8_wrong_18 rfl rfl (Nat.le_of_ble_eq_true rfl) (Nat.le_of_ble_eq_true rfl) (ly8_k La0_h1) ?_
      refine mx_aload_n dX8_fail_0 rfl rfl ?_
      refine mx_get 8 48 (ref := "PrairiePoolModel") cl_8 (Nat.le_of_ble_eq_true rfl) (Or.inl q1675) (Or.inl rfl) dX8_fail_1 (fv_8_48 _ _) (ly8_k La0_h1) ?_
      refine mx_if_le (tgt := 8) dX8_fail_4 rfl (fun c14 => ?_) (fun c14 => ?_)
      · have H := H.1 c14
        refine mx_aload_n dX8_fail_8 rfl rfl ?_
        refine mx_iload_n dX8_fail_9 rfl rfl ?_
        refine mx_putI 8 48 (ref := "PrairiePoolModel") cl_8 (Nat.le_of_ble_eq_true rfl) (Or.inl q1675) (Or.inl rfl) dX8_fail_10 (Or.inl rfl) rfl (ly8_k La0_h1) ?_
        refine mx_nmI  (fun h15 eh15 Xh15 Kh15 Lh15 => ?_)
        have H := H h15 eh15 Xh15
        have La0_h15 := La0_h1.ext Xh15
        refine mx_aload_n dX8_fail_13 rfl rfl ?_
        refine mx_iload_n dX8_fail_14 rfl rfl ?_
        refine mx_putI 8 49 (ref := "PrairiePoolModel") cl_8 (Nat.le_of_ble_eq_true rfl) (Or.inl q1676) (Or.inl rfl) dX8_fail_15 (Or.inl rfl) rfl (ly8_k La0_h15) ?_
        refine mx_nmI  (fun h16 eh16 Xh16 Kh16 Lh16 => ?_)
        have H := H h16 eh16 Xh16
        have Kh16 := Kh16.trans Kh15
        have Lh16 := Lh16.trans Lh15
        have La0_h16 := La0_h15.ext Xh16
        refine mx_vretK rfl dX8_fail_18 ?_
        refine mx_vretK rfl dX8_wrong_21 ?_
        refine mx_iload_n dX8_readWhole_11 rfl rfl ?_
        refine mx_bipush dX8_readWhole_12 ib_8 ?_
        refine mx_icmp_le (tgt := 26) dX8_readWhole_14 rfl (fun c17 => ?_) (fun c17 => ?_)
        · have H := H.1 c17
          exact mx_weak (al' := [some (rv a0), some (iv x1), none, none]) ⟨rfl, ⟨rfl, trivial⟩⟩ H
        · have H := H.2 c17
          refine mx_aload_n dX8_readWhole_17 rfl rfl ?_
          refine mx_iconst dX8_readWhole_18 ic_5 ?_
          refine mx_aload_n dX8_readWhole_19 rfl rfl ?_
          refine mx_get 8 51 (ref := "PrairiePoolModel") cl_8 (Nat.le_of_ble_eq_true rfl) (Or.inl q1678) (Or.inl rfl) dX8_readWhole_20 (fv_8_51 _ _) (ly8_k La0_h16) ?_
          refine mx_ti ((ah_skIK eh16 (by decide)).trans (ah_skIK eh15 (by decide))) ?_
          refine mx_callV 8 (y' := mi_X8_fail) (vs := [iv (5 : Int32), iv (ah_I h1 a0 51)]) (st := []) (al' := [some (rv a0), some (iv (5 : Int32)), some (iv (ah_I h1 a0 51))]) cl_8 V_X8_fail (Or.inl q2243) dX8_readWhole_23 rfl rfl (Nat.le_of_ble_eq_true rfl) (Nat.le_of_ble_eq_true rfl) (ly8_k La0_h16) ?_
          refine mx_aload_n dX8_fail_0 rfl rfl ?_
          refine mx_get 8 48 (ref := "PrairiePoolModel") cl_8 (Nat.le_of_ble_eq_true rfl) (Or.inl q1675) (Or.inl rfl) dX8_fail_1 (fv_8_48 _ _) (ly8_k La0_h16) ?_
          refine mx_ti ((ah_skIK eh16 (by decide)).trans (ah_hitI eh15)) ?_
          refine mx_if_le (tgt := 8) dX8_fail_4 rfl (fun _ => absurd ‹_› (by decide)) (fun _ => ?_)
          refine mx_vretK rfl dX8_fail_7 ?_
          exact mx_weak (al' := [some (rv a0), some (iv x1), none, none]) ⟨rfl, ⟨rfl, trivial⟩⟩ H
      · have H := H.2 c14
        refine mx_vretK rfl dX8_fail_7 ?_
        refine mx_vretK rfl dX8_wrong_21 ?_
        refine mx_iload_n dX8_readWhole_11 rfl rfl ?_
        refine mx_bipush dX8_readWhole_12 ib_8 ?_
        refine mx_icmp_le (tgt := 26) dX8_readWhole_14 rfl (fun c18 => ?_) (fun c18 => ?_)
        · have H := H.1 c18
          exact mx_weak (al' := [some (rv a0), some (iv x1), none, none]) ⟨rfl, ⟨rfl, trivial⟩⟩ H
        · have H := H.2 c18
          refine mx_aload_n dX8_readWhole_17 rfl rfl ?_
          refine mx_iconst dX8_readWhole_18 ic_5 ?_
          refine mx_aload_n dX8_readWhole_19 rfl rfl ?_
          refine mx_get 8 51 (ref := "PrairiePoolModel") cl_8 (Nat.le_of_ble_eq_true rfl) (Or.inl q1678) (Or.inl rfl) dX8_readWhole_20 (fv_8_51 _ _) (ly8_k La0_h1) ?_
          refine mx_callV 8 (y' := mi_X8_fail) (vs := [iv (5 : Int32), iv (ah_I h1 a0 51)]) (st := []) (al' := [some (rv a0), some (iv (5 : Int32)), some (iv (ah_I h1 a0 51))]) cl_8 V_X8_fail (Or.inl q2243) dX8_readWhole_23 rfl rfl (Nat.le_of_ble_eq_true rfl) (Nat.le_of_ble_eq_true rfl) (ly8_k La0_h1) ?_
          refine mx_aload_n dX8_fail_0 rfl rfl ?_
          refine mx_get 8 48 (ref := "PrairiePoolModel") cl_8 (Nat.le_of_ble_eq_true rfl) (Or.inl q1675) (Or.inl rfl) dX8_fail_1 (fv_8_48 _ _) (ly8_k La0_h1) ?_
          refine mx_if_le (tgt := 8) dX8_fail_4 rfl (fun q_ => absurd q_ c14) (fun _ => ?_)
          refine mx_vretK rfl dX8_fail_7 ?_
          exact mx_weak (al' := [some (rv a0), some (iv x1), none, none]) ⟨rfl, ⟨rfl, trivial⟩⟩ H
theorem v_X8_readWhole_26 {G : ma_G} {d : Nat} {a0 : Nat} {x1 : Int32} {h : ah_T} {Q : Option ma_V → ah_T → Prop} {E : Nat → ah_T → Prop} (La0_h : LY8 h a0) (H : ((ah_I h a0 48) ≤ 0 → (¬ (ah_I h a0 50) = (1 : Int32) → MX G mi_X8_readSum (d + 1) 0 [some (rv a0), some (iv x1), none] [] h (Qv fun h3 => ah_ext h h3 → Q none h3) E) ∧ ((ah_I h a0 50) = (1 : Int32) → (¬ (ah_J h a0 55) = (294 : Int64) → MX G mi_X8_readSum (d + 1) 0 [some (rv a0), some (iv x1), none] [] h (Qv fun h6 => ah_ext h h6 → Q none h6) E) ∧ ((ah_J h a0 55) = (294 : Int64) → MX G mi_X8_next (d + 1) 0 [some (rv a0), none] [] h (Qv fun h8 => ah_ext h h8 → MX G mi_X8_readTest (d + 1) 0 [some (rv a0), some (iv x1), none] [] h8 (Qv fun h10 => ah_ext h8 h10 → (¬ (ah_I h10 a0 48) = 0 → MX G mi_X8_readWhole (d + 2) 74 [some (rv a0), some (iv x1), none, none] [] h10 Q E) ∧ ((ah_I h10 a0 48) = 0 → (¬ (ah_I h10 a0 50) = (1 : Int32) → (¬ (ah_I h10 a0 50) = (4 : Int32) → ((ah_I h10 a0 48) ≤ 0 → ∀ h16 : ah_T, h16 = ah_wI h10 a0 48 (2 : Int32) → ah_ext h10 h16 → ∀ h17 : ah_T, h17 = ah_wI h16 a0 49 (ah_I h10 a0 51) → ah_ext h16 h17 → MX G mi_X8_readWhole (d + 2) 74 [some (rv a0), some (iv x1), none, none] [] h17 Q E) ∧ (¬ (ah_I h10 a0 48) ≤ 0 → MX G mi_X8_readWhole (d + 2) 74 [some (rv a0), some (iv x1), none, none] [] h10 Q E)) ∧ ((ah_I h10 a0 50) = (4 : Int32) → ((ah_I h10 a0 48) ≤ 0 → ∀ h19 : ah_T, h19 = ah_wI h10 a0 48 (1 : Int32) → ah_ext h10 h19 → ∀ h20 : ah_T, h20 = ah_wI h19 a0 49 (ah_I h10 a0 51) → ah_ext h19 h20 → MX G mi_X8_readWhole (d + 2) 74 [some (rv a0), some (iv x1), none, none] [] h20 Q E) ∧ (¬ (ah_I h10 a0 48) ≤ 0 → MX G mi_X8_readWhole (d + 2) 74 [some (rv a0), some (iv x1), none, none] [] h10 Q E))) ∧ ((ah_I h10 a0 50) = (1 : Int32) → (¬ (ah_J h10 a0 55) = (663726 : Int64) → (¬ (ah_I h10 a0 50) = (4 : Int32) → ((ah_I h10 a0 48) ≤ 0 → ∀ h24 : ah_T, h24 = ah_wI h10 a0 48 (2 : Int32) → ah_ext h10 h24 → ∀ h25 : ah_T, h25 = ah_wI h24 a0 49 (ah_I h10 a0 51) → ah_ext h24 h25 → MX G mi_X8_readWhole (d + 2) 74 [some (rv a0), some (iv x1), none, none] [] h25 Q E) ∧ (¬ (ah_I h10 a0 48) ≤ 0 → MX G mi_X8_readWhole (d + 2) 74 [some (rv a0), some (iv x1), none, none] [] h10 Q E)) ∧ ((ah_I h10 a0 50) = (4 : Int32) → ((ah_I h10 a0 48) ≤ 0 → ∀ h27 : ah_T, h27 = ah_wI h10 a0 48 (1 : Int32) → ah_ext h10 h27 → ∀ h28 : ah_T, h28 = ah_wI h27 a0 49 (ah_I h10 a0 51) → ah_ext h27 h28 → MX G mi_X8_readWhole (d + 2) 74 [some (rv a0), some (iv x1), none, none] [] h28 Q E) ∧ (¬ (ah_I h10 a0 48) ≤ 0 → MX G mi_X8_readWhole (d + 2) 74 [some (rv a0), some (iv x1), none, none] [] h10 Q E))) ∧ ((ah_J h10 a0 55) = (663726 : Int64) → MX G mi_X8_readWhole (d + 2) 74 [some (rv a0), some (iv x1), none, none] [] h10 Q E)))) E) E))) ∧ (¬ (ah_I h a0 48) ≤ 0 → Q none h)) : MX G mi_X8_readWhole (d + 2) 26 [some (rv a0), some (iv x1), none, none] [] h Q E := by
  refine mx_aload_n dX8_readWhole_26 rfl rfl ?_
  refine mx_get 8 48 (ref := "PrairiePoolModel") cl_8 (Nat.le_of_ble_eq_true rfl) (Or.inl q1675) (Or.inl rfl) dX8_readWhole_27 (fv_8_48 _ _) (ly8_k La0_h) ?_
  refine mx_if_le (tgt := 34) dX8_readWhole_30 rfl (fun c1 => ?_) (fun c1 => ?_)
  · have H := H.1 c1
    refine mx_aload_n dX8_readWhole_34 rfl rfl ?_
    refine mx_callV 8 (y' := mi_X8_isIf) (vs := []) (st := []) (al' := [some (rv a0)]) cl_8 V_X8_isIf (Or.inl q2207) dX8_readWhole_35 rfl rfl (Nat.le_of_ble_eq_true rfl) (Nat.le_of_ble_eq_true rfl) (ly8_k La0_h) ?_
    refine mx_aload_n dX8_isIf_0 rfl rfl ?_
    refine mx_bipush dX8_isIf_1 ib_105 ?_
    refine mx_bipush dX8_isIf_3 ib_102 ?_
    refine mx_iconst dX8_isIf_5 ic_0 ?_
    refine mx_iconst dX8_isIf_6 ic_0 ?_
    refine mx_iconst dX8_isIf_7 ic_0 ?_
    refine mx_iconst dX8_isIf_8 ic_0 ?_
    refine mx_callS (y' := mi_X8_spelled) (vs := [iv (105 : Int32), iv (102 : Int32), iv (0 : Int32), iv (0 : Int32), iv (0 : Int32), iv (0 : Int32)]) (st := [rv a0]) (al' := [some (iv (105 : Int32)), some (iv (102 : Int32)), some (iv (0 : Int32)), some (iv (0 : Int32)), some (iv (0 : Int32)), some (iv (0 : Int32)), none, none]) S_X8_spelled q2075 dX8_isIf_9 rfl rfl (Nat.le_of_ble_eq_true rfl) (Nat.le_of_ble_eq_true rfl) ?_
    refine mx_iload_n dX8_spelled_0 rfl rfl ?_
    refine mx_i2l dX8_spelled_1 ?_
    refine mx_ldc2 q2078 dX8_spelled_2 ?_
    refine mx_lsub dX8_spelled_5 ?_
    refine mx_lstore (al' := [some (iv (105 : Int32)), some (iv (102 : Int32)), some (iv (0 : Int32)), some (iv (0 : Int32)), some (iv (0 : Int32)), some (iv (0 : Int32)), some (jv ((105 : Int32).toInt64 - (96 : Int64))), none]) dX8_spelled_6 (Nat.le_of_ble_eq_true rfl) rfl ?_
    refine mx_lload dX8_spelled_8 rfl ?_
    refine mx_ldc2 q2079 dX8_spelled_10 ?_
    refine mx_lmul dX8_spelled_13 ?_
    refine mx_iload_n dX8_spelled_14 rfl rfl ?_
    refine mx_i2l dX8_spelled_15 ?_
    refine mx_ladd dX8_spelled_16 ?_
    refine mx_ldc2 q2078 dX8_spelled_17 ?_
    refine mx_lsub dX8_spelled_20 ?_
    refine mx_lstore (al' := [some (iv (105 : Int32)), some (iv (102 : Int32)), some (iv (0 : Int32)), some (iv (0 : Int32)), some (iv (0 : Int32)), some (iv (0 : Int32)), some (jv (((((105 : Int32).toInt64 - (96 : Int64)) * (32 : Int64)) + (102 : Int32).toInt64) - (96 : Int64))), none]) dX8_spelled_21 (Nat.le_of_ble_eq_true rfl) rfl ?_
    refine mx_iload_n dX8_spelled_23 rfl rfl ?_
    refine mx_if_le (tgt := 43) dX8_spelled_24 rfl (fun _ => ?_) (fun _ => absurd ‹_› (by decide))
    refine mx_lload dX8_spelled_43 rfl ?_
    refine mx_lstore (al' := [some (iv (105 : Int32)), some (iv (102 : Int32)), some (iv (0 : Int32)), some (iv (0 : Int32)), some (iv (0 : Int32)), some (iv (0 : Int32)), some (jv (((((105 : Int32).toInt64 - (96 : Int64)) * (32 : Int64)) + (102 : Int32).toInt64) - (96 : Int64))), none]) dX8_spelled_45 (Nat.le_of_ble_eq_true rfl) rfl ?_
    refine mx_iload_n dX8_spelled_47 rfl rfl ?_
    refine mx_if_le (tgt := 67) dX8_spelled_48 rfl (fun _ => ?_) (fun _ => absurd ‹_› (by decide))
    refine mx_lload dX8_spelled_67 rfl ?_
    refine mx_lstore (al' := [some (iv (105 : Int32)), some (iv (102 : Int32)), some (iv (0 : Int32)), some (iv (0 : Int32)), some (iv (0 : Int32)), some (iv (0 : Int32)), some (jv (((((105 : Int32).toInt64 - (96 : Int64)) * (32 : Int64)) + (102 : Int32).toInt64) - (96 : Int64))), none]) dX8_spelled_69 (Nat.le_of_ble_eq_true rfl) rfl ?_
    refine mx_iload dX8_spelled_71 rfl ?_
    refine mx_if_le (tgt := 93) dX8_spelled_73 rfl (fun _ => ?_) (fun _ => absurd ‹_› (by decide))
    refine mx_lload dX8_spelled_93 rfl ?_
    refine mx_lstore (al' := [some (iv (105 : Int32)), some (iv (102 : Int32)), some (iv (0 : Int32)), some (iv (0 : Int32)), some (iv (0 : Int32)), some (iv (0 : Int32)), some (jv (((((105 : Int32).toInt64 - (96 : Int64)) * (32 : Int64)) + (102 : Int32).toInt64) - (96 : Int64))), none]) dX8_spelled_95 (Nat.le_of_ble_eq_true rfl) rfl ?_
    refine mx_iload dX8_spelled_97 rfl ?_
    refine mx_if_le (tgt := 119) dX8_spelled_99 rfl (fun _ => ?_) (fun _ => absurd ‹_› (by decide))
    refine mx_lload dX8_spelled_119 rfl ?_
    refine mx_lretK rfl dX8_spelled_121 ?_
    refine mx_tj (show (((((105 : Int32).toInt64 - (96 : Int64)) * (32 : Int64)) + (102 : Int32).toInt64) - (96 : Int64)) = (294 : Int64) by decide) ?_
    refine mx_callV 8 (y' := mi_X8_isWord) (vs := [jv (294 : Int64)]) (st := []) (al' := [some (rv a0), some (jv (294 : Int64)), none]) cl_8 V_X8_isWord (Or.inl q2196) dX8_isIf_12 rfl rfl (Nat.le_of_ble_eq_true rfl) (Nat.le_of_ble_eq_true rfl) (ly8_k La0_h) ?_
    refine mx_aload_n dX8_isWord_0 rfl rfl ?_
    refine mx_get 8 50 (ref := "PrairiePoolModel") cl_8 (Nat.le_of_ble_eq_true rfl) (Or.inl q1677) (Or.inl rfl) dX8_isWord_1 (fv_8_50 _ _) (ly8_k La0_h) ?_
    refine mx_iconst dX8_isWord_4 ic_1 ?_
    refine mx_icmp_ne (tgt := 21) dX8_isWord_5 rfl (fun c2 => ?_) (fun c2 => ?_)
    · have H := H.1 c2
      refine mx_iconst dX8_isWord_21 ic_0 ?_
      refine mx_zretK rfl dX8_isWord_22 (Or.inl rfl) ?_
      refine mx_zretK rfl dX8_isIf_15 (Or.inl rfl) ?_
      refine mx_if_ne (tgt := 47) dX8_readWhole_38 rfl (fun _ => absurd ‹_› (by decide)) (fun _ => ?_)
      refine mx_aload_n dX8_readWhole_41 rfl rfl ?_
      refine mx_iload_n dX8_readWhole_42 rfl rfl ?_
      refine mx_callV 8 (y' := mi_X8_readSum) (vs := [iv x1]) (st := []) (al' := [some (rv a0), some (iv x1), none]) cl_8 V_X8_readSum (Or.inl q2267) dX8_readWhole_43 rfl rfl (Nat.le_of_ble_eq_true rfl) (Nat.le_of_ble_eq_true rfl) (ly8_k La0_h) ?_
      refine ma_kv H (fun h3 Xh3 H => ?_) (fun x1 h1 X1 H => mt_out rfl H)
      have H := H Xh3
      have La0_h3 := La0_h.ext Xh3
      exact mx_vret rfl dX8_readWhole_46 H
    · have H := H.2 c2
      refine mx_aload_n dX8_isWord_8 rfl rfl ?_
      refine mx_get 8 55 (ref := "PrairiePoolModel") cl_8 (Nat.le_of_ble_eq_true rfl) (Or.inl q1682) (Or.inl rfl) dX8_isWord_9 (fv_8_55 _ _) (ly8_k La0_h) ?_
      refine mx_lload_n dX8_isWord_12 rfl rfl ?_
      refine mx_lif_ne (tgt := 21) dX8_isWord_13 dX8_isWord_14 rfl (fun c5 => ?_) (fun c5 => ?_)
      · have H := H.1 c5
        refine mx_iconst dX8_isWord_21 ic_0 ?_
        refine mx_zretK rfl dX8_isWord_22 (Or.inl rfl) ?_
        refine mx_zretK rfl dX8_isIf_15 (Or.inl rfl) ?_
        refine mx_if_ne (tgt := 47) dX8_readWhole_38 rfl (fun _ => absurd ‹_› (by decide)) (fun _ => ?_)
        refine mx_aload_n dX8_readWhole_41 rfl rfl ?_
        refine mx_iload_n dX8_readWhole_42 rfl rfl ?_
        refine mx_callV 8 (y' := mi_X8_readSum) (vs := [iv x1]) (st := []) (al' := [some (rv a0), some (iv x1), none]) cl_8 V_X8_readSum (Or.inl q2267) dX8_readWhole_43 rfl rfl (Nat.le_of_ble_eq_true rfl) (Nat.le_of_ble_eq_true rfl) (ly8_k La0_h) ?_
        refine ma_kv H (fun h6 Xh6 H => ?_) (fun x1 h1 X1 H => mt_out rfl H)
        have H := H Xh6
        have La0_h6 := La0_h.ext Xh6
        exact mx_vret rfl dX8_readWhole_46 H
      · have H := H.2 c5
        refine mx_iconst dX8_isWord_17 ic_1 ?_
        refine mx_goto (tgt := 22) dX8_isWord_18 rfl ?_
        refine mx_zretK rfl dX8_isWord_22 (Or.inr rfl) ?_
        refine mx_zretK rfl dX8_isIf_15 (Or.inr rfl) ?_
        refine mx_if_ne (tgt := 47) dX8_readWhole_38 rfl (fun _ => ?_) (fun _ => absurd ‹_› (by decide))
        refine mx_aload_n dX8_readWhole_47 rfl rfl ?_
        refine mx_callV 8 (y' := mi_X8_next) (vs := []) (st := []) (al' := [some (rv a0), none]) cl_8 V_X8_next (Or.inl q2170) dX8_readWhole_48 rfl rfl (Nat.le_of_ble_eq_true rfl) (Nat.le_of_ble_eq_true rfl) (ly8_k La0_h) ?_
        refine ma_kv H (fun h8 Xh8 H => ?_) (fun x1 h1 X1 H => mt_out rfl H)
        have H := H Xh8
        have La0_h8 := La0_h.ext Xh8
        refine mx_aload_n dX8_readWhole_51 rfl rfl ?_
        refine mx_iload_n dX8_readWhole_52 rfl rfl ?_
        refine mx_callV 8 (y' := mi_X8_readTest) (vs := [iv x1]) (st := []) (al' := [some (rv a0), some (iv x1), none]) cl_8 V_X8_readTest (Or.inl q2291) dX8_readWhole_53 rfl rfl (Nat.le_of_ble_eq_true rfl) (Nat.le_of_ble_eq_true rfl) (ly8_k La0_h8) ?_
        refine ma_kv H (fun h10 Xh10 H => ?_) (fun x1 h1 X1 H => mt_out rfl H)
        have H := H Xh10
        have La0_h10 := La0_h8.ext Xh10
        refine mx_aload_n dX8_readWhole_56 rfl rfl ?_
        refine mx_get 8 48 (ref := "PrairiePoolModel") cl_8 (Nat.le_of_ble_eq_true rfl) (Or.inl q1675) (Or.inl rfl) dX8_readWhole_57 (fv_8_48 _ _) (ly8_k La0_h10) ?_
        refine mx_if_ne (tgt := 74) dX8_readWhole_60 rfl (fun c12 => ?_) (fun c12 => ?_)
        · have H := H.1 c12
          exact mx_weak (al' := [some (rv a0), some (iv x1), none, none]) ⟨rfl, ⟨rfl, trivial⟩⟩ H
        · have H := H.2 c12
          refine mx_aload_n dX8_readWhole_63 rfl rfl ?_
          refine mx_callV 8 (y' := mi_X8_isThen) (vs := []) (st := []) (al' := [some (rv a0)]) cl_8 V_X8_isThen (Or.inl q2211) dX8_readWhole_64 rfl rfl (Nat.le_of_ble_eq_true rfl) (Nat.le_of_ble_eq_true rfl) (ly8_k La0_h10) ?_
          refine mx_aload_n dX8_isThen_0 rfl rfl ?_
          refine mx_bipush dX8_isThen_1 ib_116 ?_
          refine mx_bipush dX8_isThen_3 ib_104 ?_
          refine mx_bipush dX8_isThen_5 ib_101 ?_
          refine mx_bipush dX8_isThen_7 ib_110 ?_
          refine mx_iconst dX8_isThen_9 ic_0 ?_
          refine mx_iconst dX8_isThen_10 ic_0 ?_
          refine mx_callS (y' := mi_X8_spelled) (vs := [iv (116 : Int32), iv (104 : Int32), iv (101 : Int32), iv (110 : Int32), iv (0 : Int32), iv (0 : Int32)]) (st := [rv a0]) (al' := [some (iv (116 : Int32)), some (iv (104 : Int32)), some (iv (101 : Int32)), some (iv (110 : Int32)), some (iv (0 : Int32)), some (iv (0 : Int32)), none, none]) S_X8_spelled q2075 dX8_isThen_11 rfl rfl (Nat.le_of_ble_eq_true rfl) (Nat.le_of_ble_eq_true rfl) ?_
          refine mx_iload_n dX8_spelled_0 rfl rfl ?_
          refine mx_i2l dX8_spelled_1 ?_
          refine mx_ldc2 q2078 dX8_spelled_2 ?_
          refine mx_lsub dX8_spelled_5 ?_
          refine mx_lstore (al' := [some (iv (116 : Int32)), some (iv (104 : Int32)), some (iv (101 : Int32)), some (iv (110 : Int32)), some (iv (0 : Int32)), some (iv (0 : Int32)), some (jv ((116 : Int32).toInt64 - (96 : Int64))), none]) dX8_spelled_6 (Nat.le_of_ble_eq_true rfl) rfl ?_
          refine mx_lload dX8_spelled_8 rfl ?_
          refine mx_ldc2 q2079 dX8_spelled_10 ?_
          refine mx_lmul dX8_spelled_13 ?_
          refine mx_iload_n dX8_spelled_14 rfl rfl ?_
          refine mx_i2l dX8_spelled_15 ?_
          refine mx_ladd dX8_spelled_16 ?_
          refine mx_ldc2 q2078 dX8_spelled_17 ?_
          refine mx_lsub dX8_spelled_20 ?_
          refine mx_lstore (al' := [some (iv (116 : Int32)), some (iv (104 : Int32)), some (iv (101 : Int32)), some (iv (110 : Int32)), some (iv (0 : Int32)), some (iv (0 : Int32)), some (jv (((((116 : Int32).toInt64 - (96 : Int64)) * (32 : Int64)) + (104 : Int32).toInt64) - (96 : Int64))), none]) dX8_spelled_21 (Nat.le_of_ble_eq_true rfl) rfl ?_
          refine mx_iload_n dX8_spelled_23 rfl rfl ?_
          refine mx_if_le (tgt := 43) dX8_spelled_24 rfl (fun _ => absurd ‹_› (by decide)) (fun _ => ?_)
          refine mx_lload dX8_spelled_27 rfl ?_
          refine mx_ldc2 q2079 dX8_spelled_29 ?_
          refine mx_lmul dX8_spelled_32 ?_
          refine mx_iload_n dX8_spelled_33 rfl rfl ?_
          refine mx_i2l dX8_spelled_34 ?_
          refine mx_ladd dX8_spelled_35 ?_
          refine mx_ldc2 q2078 dX8_spelled_36 ?_
          refine mx_lsub dX8_spelled_39 ?_
          refine mx_goto (tgt := 45) dX8_spelled_40 rfl ?_
          refine mx_lstore (al' := [some (iv (116 : Int32)), some (iv (104 : Int32)), some (iv (101 : Int32)), some (iv (110 : Int32)), some (iv (0 : Int32)), some (iv (0 : Int32)), some (jv ((((((((116 : Int32).toInt64 - (96 : Int64)) * (32 : Int64)) + (104 : Int32).toInt64) - (96 : Int64)) * (32 : Int64)) + (101 : Int32).toInt64) - (96 : Int64))), none]) dX8_spelled_45 (Nat.le_of_ble_eq_true rfl) rfl ?_
          refine mx_iload_n dX8_spelled_47 rfl rfl ?_
          refine mx_if_le (tgt := 67) dX8_spelled_48 rfl (fun _ => absurd ‹_› (by decide)) (fun _ => ?_)
          refine mx_lload dX8_spelled_51 rfl ?_
          refine mx_ldc2 q2079 dX8_spelled_53 ?_
          refine mx_lmul dX8_spelled_56 ?_
          refine mx_iload_n dX8_spelled_57 rfl rfl ?_
          refine mx_i2l dX8_spelled_58 ?_
          refine mx_ladd dX8_spelled_59 ?_
          refine mx_ldc2 q2078 dX8_spelled_60 ?_
          refine mx_lsub dX8_spelled_63 ?_
          refine mx_goto (tgt := 69) dX8_spelled_64 rfl ?_
          refine mx_lstore (al' := [some (iv (116 : Int32)), some (iv (104 : Int32)), some (iv (101 : Int32)), some (iv (110 : Int32)), some (iv (0 : Int32)), some (iv (0 : Int32)), some (jv (((((((((((116 : Int32).toInt64 - (96 : Int64)) * (32 : Int64)) + (104 : Int32).toInt64) - (96 : Int64)) * (32 : Int64)) + (101 : Int32).toInt64) - (96 : Int64)) * (32 : Int64)) + (110 : Int32).toInt64) - (96 : Int64))), none]) dX8_spelled_69 (Nat.le_of_ble_eq_true rfl) rfl ?_
          refine mx_iload dX8_spelled_71 rfl ?_
          refine mx_if_le (tgt := 93) dX8_spelled_73 rfl (fun _ => ?_) (fun _ => absurd ‹_› (by decide))
          refine mx_lload dX8_spelled_93 rfl ?_
          refine mx_lstore (al' := [some (iv (116 : Int32)), some (iv (104 : Int32)), some (iv (101 : Int32)), some (iv (110 : Int32)), some (iv (0 : Int32)), some (iv (0 : Int32)), some (jv (((((((((((116 : Int32).toInt64 - (96 : Int64)) * (32 : Int64)) + (104 : Int32).toInt64) - (96 : Int64)) * (32 : Int64)) + (101 : Int32).toInt64) - (96 : Int64)) * (32 : Int64)) + (110 : Int32).toInt64) - (96 : Int64))), none]) dX8_spelled_95 (Nat.le_of_ble_eq_true rfl) rfl ?_
          refine mx_iload dX8_spelled_97 rfl ?_
          refine mx_if_le (tgt := 119) dX8_spelled_99 rfl (fun _ => ?_) (fun _ => absurd ‹_› (by decide))
          refine mx_lload dX8_spelled_119 rfl ?_
          refine mx_lretK rfl dX8_spelled_121 ?_
          refine mx_tj (show (((((((((((116 : Int32).toInt64 - (96 : Int64)) * (32 : Int64)) + (104 : Int32).toInt64) - (96 : Int64)) * (32 : Int64)) + (101 : Int32).toInt64) - (96 : Int64)) * (32 : Int64)) + (110 : Int32).toInt64) - (96 : Int64)) = (663726 : Int64) by decide) ?_
          refine mx_callV 8 (y' := mi_X8_isWord) (vs := [jv (663726 : Int64)]) (st := []) (al' := [some (rv a0), some (jv (663726 : Int64)), none]) cl_8 V_X8_isWord (Or.inl q2196) dX8_isThen_14 rfl rfl (Nat.le_of_ble_eq_true rfl) (Nat.le_of_ble_eq_true rfl) (ly8_k La0_h10) ?_
          refine mx_aload_n dX8_isWord_0 rfl rfl ?_
          refine mx_get 8 50 (ref := "PrairiePoolModel") cl_8 (Nat.le_of_ble_eq_true rfl) (Or.inl q1677) (Or.inl rfl) dX8_isWord_1 (fv_8_50 _ _) (ly8_k La0_h10) ?_
          refine mx_iconst dX8_isWord_4 ic_1 ?_
          refine mx_icmp_ne (tgt := 21) dX8_isWord_5 rfl (fun c13 => ?_) (fun c13 => ?_)
          · have H := H.1 c13
            refine mx_iconst dX8_isWord_21 ic_0 ?_
            refine mx_zretK rfl dX8_isWord_22 (Or.inl rfl) ?_
            refine mx_zretK rfl dX8_isThen_17 (Or.inl rfl) ?_
            refine mx_if_ne (tgt := 74) dX8_readWhole_67 rfl (fun _ => absurd ‹_› (by decide)) (fun _ => ?_)
            refine mx_aload_n dX8_readWhole_70 rfl rfl ?_
            refine mx_callV 8 (y' := mi_X8_wrong) (vs := []) (st := []) (al' := [some (rv a0)]) cl_8 V_X8_wrong (Or.inl q2239) dX8_readWhole_71 rfl rfl (Nat.le_of_ble_eq_true rfl) (Nat.le_of_ble_eq_true rfl) (ly8_k La0_h10) ?_
            refine mx_aload_n dX8_wrong_0 rfl rfl ?_
            refine mx_aload_n dX8_wrong_1 rfl rfl ?_
            refine mx_get 8 50 (ref := "PrairiePoolModel") cl_8 (Nat.le_of_ble_eq_true rfl) (Or.inl q1677) (Or.inl rfl) dX8_wrong_2 (fv_8_50 _ _) (ly8_k La0_h10) ?_
            refine mx_iconst dX8_wrong_5 ic_4 ?_
            refine mx_icmp_ne (tgt := 13) dX8_wrong_6 rfl (fun c14 => ?_) (fun c14 => ?_)
            · have H := H.1 c14
              refine mx_iconst dX8_wrong_13 ic_2 ?_
              refine mx_aload_n dX8_wrong_14 rfl rfl ?_
              refine mx_get 8 51 (ref := "PrairiePoolModel") cl_8 (Nat.le_of_ble_eq_true rfl) (Or.inl q1678) (Or.inl rfl) dX8_wrong_15 (fv_8_51 _ _) (ly8_k La0_h10) ?_
              refine mx_callV 8 (y' := mi_X8_fail) (vs := [iv (2 : Int32), iv (ah_I h10 a0 51)]) (st := []) (al' := [some (rv a0), some (iv (2 : Int32)), some (iv (ah_I h10 a0 51))]) cl_8 V_X8_fail (Or.inl q2243) dX8_wrong_18 rfl rfl (Nat.le_of_ble_eq_true rfl) (Nat.le_of_ble_eq_true rfl) (ly8_k La0_h10) ?_
              refine mx_aload_n dX8_fail_0 rfl rfl ?_
              refine mx_get 8 48 (ref := "PrairiePoolModel") cl_8 (Nat.le_of_ble_eq_true rfl) (Or.inl q1675) (Or.inl rfl) dX8_fail_1 (fv_8_48 _ _) (ly8_k La0_h10) ?_
              refine mx_if_le (tgt := 8) dX8_fail_4 rfl (fun c15 => ?_) (fun c15 => ?_)
              · have H := H.1 c15
                refine mx_aload_n dX8_fail_8 rfl rfl ?_
                refine mx_iload_n dX8_fail_9 rfl rfl ?_
                refine mx_putI 8 48 (ref := "PrairiePoolModel") cl_8 (Nat.le_of_ble_eq_true rfl) (Or.inl q1675) (Or.inl rfl) dX8_fail_10 (Or.inl rfl) rfl (ly8_k La0_h10) ?_
                refine mx_nmI  (fun h16 eh16 Xh16 Kh16 Lh16 => ?_)
                have H := H h16 eh16 Xh16
                have La0_h16 := La0_h10.ext Xh16
                refine mx_aload_n dX8_fail_13 rfl rfl ?_
                refine mx_iload_n dX8_fail_14 rfl rfl ?_
                refine mx_putI 8 49 (ref := "PrairiePoolModel") cl_8 (Nat.le_of_ble_eq_true rfl) (Or.inl q1676) (Or.inl rfl) dX8_fail_15 (Or.inl rfl) rfl (ly8_k La0_h16) ?_
                refine mx_nmI  (fun h17 eh17 Xh17 Kh17 Lh17 => ?_)
                have H := H h17 eh17 Xh17
                have Kh17 := Kh17.trans Kh16
                have Lh17 := Lh17.trans Lh16
                have La0_h17 := La0_h16.ext Xh17
                refine mx_vretK rfl dX8_fail_18 ?_
                refine mx_vretK rfl dX8_wrong_21 ?_
                exact mx_weak (al' := [some (rv a0), some (iv x1), none, none]) ⟨rfl, ⟨rfl, trivial⟩⟩ H
              · have H := H.2 c15
                refine mx_vretK rfl dX8_fail_7 ?_
                refine mx_vretK rfl dX8_wrong_21 ?_
                exact mx_weak (al' := [some (rv a0), some (iv x1), none, none]) ⟨rfl, ⟨rfl, trivial⟩⟩ H
            · have H := H.2 c14
              refine mx_iconst dX8_wrong_9 ic_1 ?_
              refine mx_goto (tgt := 14) dX8_wrong_10 rfl ?_
              refine mx_aload_n dX8_wrong_14 rfl rfl ?_
              refine mx_get 8 51 (ref := "PrairiePoolModel") cl_8 (Nat.le_of_ble_eq_true rfl) (Or.inl q1678) (Or.inl rfl) dX8_wrong_15 (fv_8_51 _ _) (ly8_k La0_h10) ?_
              refine mx_callV 8 (y' := mi_X8_fail) (vs := [iv (1 : Int32), iv (ah_I h10 a0 51)]) (st := []) (al' := [some (rv a0), some (iv (1 : Int32)), some (iv (ah_I h10 a0 51))]) cl_8 V_X8_fail (Or.inl q2243) dX8_wrong_18 rfl rfl (Nat.le_of_ble_eq_true rfl) (Nat.le_of_ble_eq_true rfl) (ly8_k La0_h10) ?_
              refine mx_aload_n dX8_fail_0 rfl rfl ?_
              refine mx_get 8 48 (ref := "PrairiePoolModel") cl_8 (Nat.le_of_ble_eq_true rfl) (Or.inl q1675) (Or.inl rfl) dX8_fail_1 (fv_8_48 _ _) (ly8_k La0_h10) ?_
              refine mx_if_le (tgt := 8) dX8_fail_4 rfl (fun c18 => ?_) (fun c18 => ?_)
              · have H := H.1 c18
                refine mx_aload_n dX8_fail_8 rfl rfl ?_
                refine mx_iload_n dX8_fail_9 rfl rfl ?_
                refine mx_putI 8 48 (ref := "PrairiePoolModel") cl_8 (Nat.le_of_ble_eq_true rfl) (Or.inl q1675) (Or.inl rfl) dX8_fail_10 (Or.inl rfl) rfl (ly8_k La0_h10) ?_
                refine mx_nmI  (fun h19 eh19 Xh19 Kh19 Lh19 => ?_)
                have H := H h19 eh19 Xh19
                have La0_h19 := La0_h10.ext Xh19
                refine mx_aload_n dX8_fail_13 rfl rfl ?_
                refine mx_iload_n dX8_fail_14 rfl rfl ?_
                refine mx_putI 8 49 (ref := "PrairiePoolModel") cl_8 (Nat.le_of_ble_eq_true rfl) (Or.inl q1676) (Or.inl rfl) dX8_fail_15 (Or.inl rfl) rfl (ly8_k La0_h19) ?_
                refine mx_nmI  (fun h20 eh20 Xh20 Kh20 Lh20 => ?_)
                have H := H h20 eh20 Xh20
                have Kh20 := Kh20.trans Kh19
                have Lh20 := Lh20.trans Lh19
                have La0_h20 := La0_h19.ext Xh20
                refine mx_vretK rfl dX8_fail_18 ?_
                refine mx_vretK rfl dX8_wrong_21 ?_
                exact mx_weak (al' := [some (rv a0), some (iv x1), none, none]) ⟨rfl, ⟨rfl, trivial⟩⟩ H
              · have H := H.2 c18
                refine mx_vretK rfl dX8_fail_7 ?_
                refine mx_vretK rfl dX8_wrong_21 ?_
                exact mx_weak (al' := [some (rv a0), some (iv x1), none, none]) ⟨rfl, ⟨rfl, trivial⟩⟩ H
          · have H := H.2 c13
            refine mx_aload_n dX8_isWord_8 rfl rfl ?_
            refine mx_get 8 55 (ref := "PrairiePoolModel") cl_8 (Nat.le_of_ble_eq_true rfl) (Or.inl q1682) (Or.inl rfl) dX8_isWord_9 (fv_8_55 _ _) (ly8_k La0_h10) ?_
            refine mx_lload_n dX8_isWord_12 rfl rfl ?_
            refine mx_lif_ne (tgt := 21) dX8_isWord_13 dX8_isWord_14 rfl (fun c21 => ?_) (fun c21 => ?_)
            · have H := H.1 c21
              refine mx_iconst dX8_isWord_21 ic_0 ?_
              refine mx_zretK rfl dX8_isWord_22 (Or.inl rfl) ?_
              refine mx_zretK rfl dX8_isThen_17 (Or.inl rfl) ?_
              refine mx_if_ne (tgt := 74) dX8_readWhole_67 rfl (fun _ => absurd ‹_› (by decide)) (fun _ => ?_)
              refine mx_aload_n dX8_readWhole_70 rfl rfl ?_
              refine mx_callV 8 (y' := mi_X8_wrong) (vs := []) (st := []) (al' := [some (rv a0)]) cl_8 V_X8_wrong (Or.inl q2239) dX8_readWhole_71 rfl rfl (Nat.le_of_ble_eq_true rfl) (Nat.le_of_ble_eq_true rfl) (ly8_k La0_h10) ?_
              refine mx_aload_n dX8_wrong_0 rfl rfl ?_
              refine mx_aload_n dX8_wrong_1 rfl rfl ?_
              refine mx_get 8 50 (ref := "PrairiePoolModel") cl_8 (Nat.le_of_ble_eq_true rfl) (Or.inl q1677) (Or.inl rfl) dX8_wrong_2 (fv_8_50 _ _) (ly8_k La0_h10) ?_
              refine mx_iconst dX8_wrong_5 ic_4 ?_
              refine mx_icmp_ne (tgt := 13) dX8_wrong_6 rfl (fun c22 => ?_) (fun c22 => ?_)
              · have H := H.1 c22
                refine mx_iconst dX8_wrong_13 ic_2 ?_
                refine mx_aload_n dX8_wrong_14 rfl rfl ?_
                refine mx_get 8 51 (ref := "PrairiePoolModel") cl_8 (Nat.le_of_ble_eq_true rfl) (Or.inl q1678) (Or.inl rfl) dX8_wrong_15 (fv_8_51 _ _) (ly8_k La0_h10) ?_
                refine mx_callV 8 (y' := mi_X8_fail) (vs := [iv (2 : Int32), iv (ah_I h10 a0 51)]) (st := []) (al' := [some (rv a0), some (iv (2 : Int32)), some (iv (ah_I h10 a0 51))]) cl_8 V_X8_fail (Or.inl q2243) dX8_wrong_18 rfl rfl (Nat.le_of_ble_eq_true rfl) (Nat.le_of_ble_eq_true rfl) (ly8_k La0_h10) ?_
                refine mx_aload_n dX8_fail_0 rfl rfl ?_
                refine mx_get 8 48 (ref := "PrairiePoolModel") cl_8 (Nat.le_of_ble_eq_true rfl) (Or.inl q1675) (Or.inl rfl) dX8_fail_1 (fv_8_48 _ _) (ly8_k La0_h10) ?_
                refine mx_if_le (tgt := 8) dX8_fail_4 rfl (fun c23 => ?_) (fun c23 => ?_)
                · have H := H.1 c23
                  refine mx_aload_n dX8_fail_8 rfl rfl ?_
                  refine mx_iload_n dX8_fail_9 rfl rfl ?_
                  refine mx_putI 8 48 (ref := "PrairiePoolModel") cl_8 (Nat.le_of_ble_eq_true rfl) (Or.inl q1675) (Or.inl rfl) dX8_fail_10 (Or.inl rfl) rfl (ly8_k La0_h10) ?_
                  refine mx_nmI  (fun h24 eh24 Xh24 Kh24 Lh24 => ?_)
                  have H := H h24 eh24 Xh24
                  have La0_h24 := La0_h10.ext Xh24
                  refine mx_aload_n dX8_fail_13 rfl rfl ?_
                  refine mx_iload_n dX8_fail_14 rfl rfl ?_
                  refine mx_putI 8 49 (ref := "PrairiePoolModel") cl_8 (Nat.le_of_ble_eq_true rfl) (Or.inl q1676) (Or.inl rfl) dX8_fail_15 (Or.inl rfl) rfl (ly8_k La0_h24) ?_
                  refine mx_nmI  (fun h25 eh25 Xh25 Kh25 Lh25 => ?_)
                  have H := H h25 eh25 Xh25
                  have Kh25 := Kh25.trans Kh24
                  have Lh25 := Lh25.trans Lh24
                  have La0_h25 := La0_h24.ext Xh25
                  refine mx_vretK rfl dX8_fail_18 ?_
                  refine mx_vretK rfl dX8_wrong_21 ?_
                  exact mx_weak (al' := [some (rv a0), some (iv x1), none, none]) ⟨rfl, ⟨rfl, trivial⟩⟩ H
                · have H := H.2 c23
                  refine mx_vretK rfl dX8_fail_7 ?_
                  refine mx_vretK rfl dX8_wrong_21 ?_
                  exact mx_weak (al' := [some (rv a0), some (iv x1), none, none]) ⟨rfl, ⟨rfl, trivial⟩⟩ H
              · have H := H.2 c22
                refine mx_iconst dX8_wrong_9 ic_1 ?_
                refine mx_goto (tgt := 14) dX8_wrong_10 rfl ?_
                refine mx_aload_n dX8_wrong_14 rfl rfl ?_
                refine mx_get 8 51 (ref := "PrairiePoolModel") cl_8 (Nat.le_of_ble_eq_true rfl) (Or.inl q1678) (Or.inl rfl) dX8_wrong_15 (fv_8_51 _ _) (ly8_k La0_h10) ?_
                refine mx_callV 8 (y' := mi_X8_fail) (vs := [iv (1 : Int32), iv (ah_I h10 a0 51)]) (st := []) (al' := [some (rv a0), some (iv (1 : Int32)), some (iv (ah_I h10 a0 51))]) cl_8 V_X8_fail (Or.inl q2243) dX8_wrong_18 rfl rfl (Nat.le_of_ble_eq_true rfl) (Nat.le_of_ble_eq_true rfl) (ly8_k La0_h10) ?_
                refine mx_aload_n dX8_fail_0 rfl rfl ?_
                refine mx_get 8 48 (ref := "PrairiePoolModel") cl_8 (Nat.le_of_ble_eq_true rfl) (Or.inl q1675) (Or.inl rfl) dX8_fail_1 (fv_8_48 _ _) (ly8_k La0_h10) ?_
                refine mx_if_le (tgt := 8) dX8_fail_4 rfl (fun c26 => ?_) (fun c26 => ?_)
                · have H := H.1 c26
                  refine mx_aload_n dX8_fail_8 rfl rfl ?_
                  refine mx_iload_n dX8_fail_9 rfl rfl ?_
                  refine mx_putI 8 48 (ref := "PrairiePoolModel") cl_8 (Nat.le_of_ble_eq_true rfl) (Or.inl q1675) (Or.inl rfl) dX8_fail_10 (Or.inl rfl) rfl (ly8_k La0_h10) ?_
                  refine mx_nmI  (fun h27 eh27 Xh27 Kh27 Lh27 => ?_)
                  have H := H h27 eh27 Xh27
                  have La0_h27 := La0_h10.ext Xh27
                  refine mx_aload_n dX8_fail_13 rfl rfl ?_
                  refine mx_iload_n dX8_fail_14 rfl rfl ?_
                  refine mx_putI 8 49 (ref := "PrairiePoolModel") cl_8 (Nat.le_of_ble_eq_true rfl) (Or.inl q1676) (Or.inl rfl) dX8_fail_15 (Or.inl rfl) rfl (ly8_k La0_h27) ?_
                  refine mx_nmI  (fun h28 eh28 Xh28 Kh28 Lh28 => ?_)
                  have H := H h28 eh28 Xh28
                  have Kh28 := Kh28.trans Kh27
                  have Lh28 := Lh28.trans Lh27
                  have La0_h28 := La0_h27.ext Xh28
                  refine mx_vretK rfl dX8_fail_18 ?_
                  refine mx_vretK rfl dX8_wrong_21 ?_
                  exact mx_weak (al' := [some (rv a0), some (iv x1), none, none]) ⟨rfl, ⟨rfl, trivial⟩⟩ H
                · have H := H.2 c26
                  refine mx_vretK rfl dX8_fail_7 ?_
                  refine mx_vretK rfl dX8_wrong_21 ?_
                  exact mx_weak (al' := [some (rv a0), some (iv x1), none, none]) ⟨rfl, ⟨rfl, trivial⟩⟩ H
            · have H := H.2 c21
              refine mx_iconst dX8_isWord_17 ic_1 ?_
              refine mx_goto (tgt := 22) dX8_isWord_18 rfl ?_
              refine mx_zretK rfl dX8_isWord_22 (Or.inr rfl) ?_
              refine mx_zretK rfl dX8_isThen_17 (Or.inr rfl) ?_
              refine mx_if_ne (tgt := 74) dX8_readWhole_67 rfl (fun _ => ?_) (fun _ => absurd ‹_› (by decide))
              exact mx_weak (al' := [some (rv a0), some (iv x1), none, none]) ⟨rfl, ⟨rfl, trivial⟩⟩ H
  · have H := H.2 c1
    exact mx_vret rfl dX8_readWhole_33 H
theorem v_X8_readWhole_74 {G : ma_G} {d : Nat} {a0 : Nat} {x1 : Int32} {h : ah_T} {Q : Option ma_V → ah_T → Prop} {E : Nat → ah_T → Prop} (La0_h : LY8 h a0) (H : ((ah_I h a0 48) ≤ 0 → vp_in (ah_I h a0 58) 1100 ∧ ∀ h3 : ah_T, h3 = ah_wI h (a0 + 41) (ah_I h a0 58).toNatClampNeg (((1048576 : Int32) * (15 : Int32)) + (0 : Int32)) → ah_ext h h3 → ∀ h4 : ah_T, h4 = ah_wI h3 a0 58 ((ah_I h a0 58) + (1 : Int32)) → ah_ext h3 h4 → MX G mi_X8_next (d + 1) 0 [some (rv a0), none] [] h4 (Qv fun h5 => ah_ext h4 h5 → MX G mi_X8_readWhole (d + 1) 0 [some (rv a0), some (iv (x1 + (1 : Int32))), none, none] [] h5 (Qv fun h7 => ah_ext h5 h7 → (¬ (ah_I h7 a0 48) = 0 → MX G mi_X8_readWhole (d + 2) 123 [some (rv a0), some (iv x1), some (iv (ah_I h a0 58)), none] [] h7 Q E) ∧ ((ah_I h7 a0 48) = 0 → (¬ (ah_I h7 a0 50) = (1 : Int32) → (¬ (ah_I h7 a0 50) = (4 : Int32) → ((ah_I h7 a0 48) ≤ 0 → ∀ h13 : ah_T, h13 = ah_wI h7 a0 48 (2 : Int32) → ah_ext h7 h13 → ∀ h14 : ah_T, h14 = ah_wI h13 a0 49 (ah_I h7 a0 51) → ah_ext h13 h14 → MX G mi_X8_readWhole (d + 2) 123 [some (rv a0), some (iv x1), some (iv (ah_I h a0 58)), none] [] h14 Q E) ∧ (¬ (ah_I h7 a0 48) ≤ 0 → MX G mi_X8_readWhole (d + 2) 123 [some (rv a0), some (iv x1), some (iv (ah_I h a0 58)), none] [] h7 Q E)) ∧ ((ah_I h7 a0 50) = (4 : Int32) → ((ah_I h7 a0 48) ≤ 0 → ∀ h16 : ah_T, h16 = ah_wI h7 a0 48 (1 : Int32) → ah_ext h7 h16 → ∀ h17 : ah_T, h17 = ah_wI h16 a0 49 (ah_I h7 a0 51) → ah_ext h16 h17 → MX G mi_X8_readWhole (d + 2) 123 [some (rv a0), some (iv x1), some (iv (ah_I h a0 58)), none] [] h17 Q E) ∧ (¬ (ah_I h7 a0 48) ≤ 0 → MX G mi_X8_readWhole (d + 2) 123 [some (rv a0), some (iv x1), some (iv (ah_I h a0 58)), none] [] h7 Q E))) ∧ ((ah_I h7 a0 50) = (1 : Int32) → (¬ (ah_J h7 a0 55) = (176741 : Int64) → (¬ (ah_I h7 a0 50) = (4 : Int32) → ((ah_I h7 a0 48) ≤ 0 → ∀ h21 : ah_T, h21 = ah_wI h7 a0 48 (2 : Int32) → ah_ext h7 h21 → ∀ h22 : ah_T, h22 = ah_wI h21 a0 49 (ah_I h7 a0 51) → ah_ext h21 h22 → MX G mi_X8_readWhole (d + 2) 123 [some (rv a0), some (iv x1), some (iv (ah_I h a0 58)), none] [] h22 Q E) ∧ (¬ (ah_I h7 a0 48) ≤ 0 → MX G mi_X8_readWhole (d + 2) 123 [some (rv a0), some (iv x1), some (iv (ah_I h a0 58)), none] [] h7 Q E)) ∧ ((ah_I h7 a0 50) = (4 : Int32) → ((ah_I h7 a0 48) ≤ 0 → ∀ h24 : ah_T, h24 = ah_wI h7 a0 48 (1 : Int32) → ah_ext h7 h24 → ∀ h25 : ah_T, h25 = ah_wI h24 a0 49 (ah_I h7 a0 51) → ah_ext h24 h25 → MX G mi_X8_readWhole (d + 2) 123 [some (rv a0), some (iv x1), some (iv (ah_I h a0 58)), none] [] h25 Q E) ∧ (¬ (ah_I h7 a0 48) ≤ 0 → MX G mi_X8_readWhole (d + 2) 123 [some (rv a0), some (iv x1), some (iv (ah_I h a0 58)), none] [] h7 Q E))) ∧ ((ah_J h7 a0 55) = (176741 : Int64) → MX G mi_X8_readWhole (d + 2) 123 [some (rv a0), some (iv x1), some (iv (ah_I h a0 58)), none] [] h7 Q E)))) E) E) ∧ (¬ (ah_I h a0 48) ≤ 0 → Q none h)) : MX G mi_X8_readWhole (d + 2) 74 [some (rv a0), some (iv x1), none, none] [] h Q E := by
  refine mx_aload_n dX8_readWhole_74 rfl rfl ?_
  refine mx_get 8 48 (ref := "PrairiePoolModel") cl_8 (Nat.le_of_ble_eq_true rfl) (Or.inl q1675) (Or.inl rfl) dX8_readWhole_75 (fv_8_48 _ _) (ly8_k La0_h) ?_
  refine mx_if_le (tgt := 82) dX8_readWhole_78 rfl (fun c1 => ?_) (fun c1 => ?_)
  · have H := H.1 c1
    refine mx_aload_n dX8_readWhole_82 rfl rfl ?_
    refine mx_get 8 58 (ref := "PrairiePoolModel") cl_8 (Nat.le_of_ble_eq_true rfl) (Or.inl q1685) (Or.inl rfl) dX8_readWhole_83 (fv_8_58 _ _) (ly8_k La0_h) ?_
    refine mx_istore_n (al' := [some (rv a0), some (iv x1), some (iv (ah_I h a0 58)), none]) dX8_readWhole_86 rfl (Nat.le_of_ble_eq_true rfl) rfl ?_
    refine mx_aload_n dX8_readWhole_87 rfl rfl ?_
    refine mx_bipush dX8_readWhole_88 ib_15 ?_
    refine mx_iconst dX8_readWhole_90 ic_0 ?_
    refine mx_callV 8 (y' := mi_X8_mark) (vs := [iv (15 : Int32), iv (0 : Int32)]) (st := []) (al' := [some (rv a0), some (iv (15 : Int32)), some (iv (0 : Int32))]) cl_8 V_X8_mark (Or.inl q2279) dX8_readWhole_91 rfl rfl (Nat.le_of_ble_eq_true rfl) (Nat.le_of_ble_eq_true rfl) (ly8_k La0_h) ?_
    refine mx_aload_n dX8_mark_0 rfl rfl ?_
    refine mx_get 8 64 (ref := "PrairiePoolModel") cl_8 (Nat.le_of_ble_eq_true rfl) (Or.inl q1691) (Or.inl rfl) dX8_mark_1 (fv_8_64 _ _) (ly8_k La0_h) ?_
    refine mx_tr (ly8_R_0_64 La0_h) ?_
    refine mx_aload_n dX8_mark_4 rfl rfl ?_
    refine mx_get 8 58 (ref := "PrairiePoolModel") cl_8 (Nat.le_of_ble_eq_true rfl) (Or.inl q1685) (Or.inl rfl) dX8_mark_5 (fv_8_58 _ _) (ly8_k La0_h) ?_
    refine mx_ldcw q2096 dX8_mark_8 ?_
    refine mx_iload_n dX8_mark_11 rfl rfl ?_
    refine mx_imul dX8_mark_12 ?_
    refine mx_iload_n dX8_mark_13 rfl rfl ?_
    refine mx_iadd dX8_mark_14 ?_
    obtain ⟨k2, H⟩ := H
    refine my_iast dX8_mark_15 rfl (ly8_A_41 La0_h k2) ?_
    refine mx_nmI  (fun h3 eh3 Xh3 Kh3 Lh3 => ?_)
    have H := H h3 eh3 Xh3
    have La0_h3 := La0_h.ext Xh3
    refine mx_aload_n dX8_mark_16 rfl rfl ?_
    refine mx_dup_r dX8_mark_17 ?_
    refine mx_get 8 58 (ref := "PrairiePoolModel") cl_8 (Nat.le_of_ble_eq_true rfl) (Or.inl q1685) (Or.inl rfl) dX8_mark_18 (fv_8_58 _ _) (ly8_k La0_h3) ?_
    refine mx_ti (ah_skIA eh3 (by omega)) ?_
    refine mx_iconst dX8_mark_21 ic_1 ?_
    refine mx_iadd dX8_mark_22 ?_
    refine mx_putI 8 58 (ref := "PrairiePoolModel") cl_8 (Nat.le_of_ble_eq_true rfl) (Or.inl q1685) (Or.inl rfl) dX8_mark_23 (Or.inl rfl) rfl (ly8_k La0_h3) ?_
    refine mx_nmI  (fun h4 eh4 Xh4 Kh4 Lh4 => ?_)
    have H := H h4 eh4 Xh4
    have Kh4 := Kh4.trans Kh3
    have Lh4 := Lh4.trans Lh3
    have La0_h4 := La0_h3.ext Xh4
    refine mx_vretK rfl dX8_mark_26 ?_
    refine mx_aload_n dX8_readWhole_94 rfl rfl ?_
    refine mx_callV 8 (y' := mi_X8_next) (vs := []) (st := []) (al' := [some (rv a0), none]) cl_8 V_X8_next (Or.inl q2170) dX8_readWhole_95 rfl rfl (Nat.le_of_ble_eq_true rfl) (Nat.le_of_ble_eq_true rfl) (ly8_k La0_h4) ?_
    refine ma_kv H (fun h5 Xh5 H => ?_) (fun x1 h1 X1 H => mt_out rfl H)
    have H := H Xh5
    have La0_h5 := La0_h4.ext Xh5
    refine mx_aload_n dX8_readWhole_98 rfl rfl ?_
    refine mx_iload_n dX8_readWhole_99 rfl rfl ?_
    refine mx_iconst dX8_readWhole_100 ic_1 ?_
    refine mx_iadd dX8_readWhole_101 ?_
    refine mx_callV 8 (y' := mi_X8_readWhole) (vs := [iv (x1 + (1 : Int32))]) (st := []) (al' := [some (rv a0), some (iv (x1 + (1 : Int32))), none, none]) cl_8 V_X8_readWhole (Or.inl q2255) dX8_readWhole_102 rfl rfl (Nat.le_of_ble_eq_true rfl) (Nat.le_of_ble_eq_true rfl) (ly8_k La0_h5) ?_
    refine ma_kv H (fun h7 Xh7 H => ?_) (fun x1 h1 X1 H => mt_out rfl H)
    have H := H Xh7
    have La0_h7 := La0_h5.ext Xh7
    refine mx_aload_n dX8_readWhole_105 rfl rfl ?_
    refine mx_get 8 48 (ref := "PrairiePoolModel") cl_8 (Nat.le_of_ble_eq_true rfl) (Or.inl q1675) (Or.inl rfl) dX8_readWhole_106 (fv_8_48 _ _) (ly8_k La0_h7) ?_
    refine mx_if_ne (tgt := 123) dX8_readWhole_109 rfl (fun c9 => ?_) (fun c9 => ?_)
    · have H := H.1 c9
      exact mx_weak (al' := [some (rv a0), some (iv x1), some (iv (ah_I h a0 58)), none]) ⟨rfl, ⟨rfl, ⟨rfl, trivial⟩⟩⟩ H
    · have H := H.2 c9
      refine mx_aload_n dX8_readWhole_112 rfl rfl ?_
      refine mx_callV 8 (y' := mi_X8_isElse) (vs := []) (st := []) (al' := [some (rv a0)]) cl_8 V_X8_isElse (Or.inl q2215) dX8_readWhole_113 rfl rfl (Nat.le_of_ble_eq_true rfl) (Nat.le_of_ble_eq_true rfl) (ly8_k La0_h7) ?_
      refine mx_aload_n dX8_isElse_0 rfl rfl ?_
      refine mx_bipush dX8_isElse_1 ib_101 ?_
      refine mx_bipush dX8_isElse_3 ib_108 ?_
      refine mx_bipush dX8_isElse_5 ib_115 ?_
      refine mx_bipush dX8_isElse_7 ib_101 ?_
      refine mx_iconst dX8_isElse_9 ic_0 ?_
      refine mx_iconst dX8_isElse_10 ic_0 ?_
      refine mx_callS (y' := mi_X8_spelled) (vs := [iv (101 : Int32), iv (108 : Int32), iv (115 : Int32), iv (101 : Int32), iv (0 : Int32), iv (0 : Int32)]) (st := [rv a0]) (al' := [some (iv (101 : Int32)), some (iv (108 : Int32)), some (iv (115 : Int32)), some (iv (101 : Int32)), some (iv (0 : Int32)), some (iv (0 : Int32)), none, none]) S_X8_spelled q2075 dX8_isElse_11 rfl rfl (Nat.le_of_ble_eq_true rfl) (Nat.le_of_ble_eq_true rfl) ?_
      refine mx_iload_n dX8_spelled_0 rfl rfl ?_
      refine mx_i2l dX8_spelled_1 ?_
      refine mx_ldc2 q2078 dX8_spelled_2 ?_
      refine mx_lsub dX8_spelled_5 ?_
      refine mx_lstore (al' := [some (iv (101 : Int32)), some (iv (108 : Int32)), some (iv (115 : Int32)), some (iv (101 : Int32)), some (iv (0 : Int32)), some (iv (0 : Int32)), some (jv ((101 : Int32).toInt64 - (96 : Int64))), none]) dX8_spelled_6 (Nat.le_of_ble_eq_true rfl) rfl ?_
      refine mx_lload dX8_spelled_8 rfl ?_
      refine mx_ldc2 q2079 dX8_spelled_10 ?_
      refine mx_lmul dX8_spelled_13 ?_
      refine mx_iload_n dX8_spelled_14 rfl rfl ?_
      refine mx_i2l dX8_spelled_15 ?_
      refine mx_ladd dX8_spelled_16 ?_
      refine mx_ldc2 q2078 dX8_spelled_17 ?_
      refine mx_lsub dX8_spelled_20 ?_
      refine mx_lstore (al' := [some (iv (101 : Int32)), some (iv (108 : Int32)), some (iv (115 : Int32)), some (iv (101 : Int32)), some (iv (0 : Int32)), some (iv (0 : Int32)), some (jv (((((101 : Int32).toInt64 - (96 : Int64)) * (32 : Int64)) + (108 : Int32).toInt64) - (96 : Int64))), none]) dX8_spelled_21 (Nat.le_of_ble_eq_true rfl) rfl ?_
      refine mx_iload_n dX8_spelled_23 rfl rfl ?_
      refine mx_if_le (tgt := 43) dX8_spelled_24 rfl (fun _ => absurd ‹_› (by decide)) (fun _ => ?_)
      refine mx_lload dX8_spelled_27 rfl ?_
      refine mx_ldc2 q2079 dX8_spelled_29 ?_
      refine mx_lmul dX8_spelled_32 ?_
      refine mx_iload_n dX8_spelled_33 rfl rfl ?_
      refine mx_i2l dX8_spelled_34 ?_
      refine mx_ladd dX8_spelled_35 ?_
      refine mx_ldc2 q2078 dX8_spelled_36 ?_
      refine mx_lsub dX8_spelled_39 ?_
      refine mx_goto (tgt := 45) dX8_spelled_40 rfl ?_
      refine mx_lstore (al' := [some (iv (101 : Int32)), some (iv (108 : Int32)), some (iv (115 : Int32)), some (iv (101 : Int32)), some (iv (0 : Int32)), some (iv (0 : Int32)), some (jv ((((((((101 : Int32).toInt64 - (96 : Int64)) * (32 : Int64)) + (108 : Int32).toInt64) - (96 : Int64)) * (32 : Int64)) + (115 : Int32).toInt64) - (96 : Int64))), none]) dX8_spelled_45 (Nat.le_of_ble_eq_true rfl) rfl ?_
      refine mx_iload_n dX8_spelled_47 rfl rfl ?_
      refine mx_if_le (tgt := 67) dX8_spelled_48 rfl (fun _ => absurd ‹_› (by decide)) (fun _ => ?_)
      refine mx_lload dX8_spelled_51 rfl ?_
      refine mx_ldc2 q2079 dX8_spelled_53 ?_
      refine mx_lmul dX8_spelled_56 ?_
      refine mx_iload_n dX8_spelled_57 rfl rfl ?_
      refine mx_i2l dX8_spelled_58 ?_
      refine mx_ladd dX8_spelled_59 ?_
      refine mx_ldc2 q2078 dX8_spelled_60 ?_
      refine mx_lsub dX8_spelled_63 ?_
      refine mx_goto (tgt := 69) dX8_spelled_64 rfl ?_
      refine mx_lstore (al' := [some (iv (101 : Int32)), some (iv (108 : Int32)), some (iv (115 : Int32)), some (iv (101 : Int32)), some (iv (0 : Int32)), some (iv (0 : Int32)), some (jv (((((((((((101 : Int32).toInt64 - (96 : Int64)) * (32 : Int64)) + (108 : Int32).toInt64) - (96 : Int64)) * (32 : Int64)) + (115 : Int32).toInt64) - (96 : Int64)) * (32 : Int64)) + (101 : Int32).toInt64) - (96 : Int64))), none]) dX8_spelled_69 (Nat.le_of_ble_eq_true rfl) rfl ?_
      refine mx_iload dX8_spelled_71 rfl ?_
      refine mx_if_le (tgt := 93) dX8_spelled_73 rfl (fun _ => ?_) (fun _ => absurd ‹_› (by decide))
      refine mx_lload dX8_spelled_93 rfl ?_
      refine mx_lstore (al' := [some (iv (101 : Int32)), some (iv (108 : Int32)), some (iv (115 : Int32)), some (iv (101 : Int32)), some (iv (0 : Int32)), some (iv (0 : Int32)), some (jv (((((((((((101 : Int32).toInt64 - (96 : Int64)) * (32 : Int64)) + (108 : Int32).toInt64) - (96 : Int64)) * (32 : Int64)) + (115 : Int32).toInt64) - (96 : Int64)) * (32 : Int64)) + (101 : Int32).toInt64) - (96 : Int64))), none]) dX8_spelled_95 (Nat.le_of_ble_eq_true rfl) rfl ?_
      refine mx_iload dX8_spelled_97 rfl ?_
      refine mx_if_le (tgt := 119) dX8_spelled_99 rfl (fun _ => ?_) (fun _ => absurd ‹_› (by decide))
      refine mx_lload dX8_spelled_119 rfl ?_
      refine mx_lretK rfl dX8_spelled_121 ?_
      refine mx_tj (show (((((((((((101 : Int32).toInt64 - (96 : Int64)) * (32 : Int64)) + (108 : Int32).toInt64) - (96 : Int64)) * (32 : Int64)) + (115 : Int32).toInt64) - (96 : Int64)) * (32 : Int64)) + (101 : Int32).toInt64) - (96 : Int64)) = (176741 : Int64) by decide) ?_
      refine mx_callV 8 (y' := mi_X8_isWord) (vs := [jv (176741 : Int64)]) (st := []) (al' := [some (rv a0), some (jv (176741 : Int64)), none]) cl_8 V_X8_isWord (Or.inl q2196) dX8_isElse_14 rfl rfl (Nat.le_of_ble_eq_true rfl) (Nat.le_of_ble_eq_true rfl) (ly8_k La0_h7) ?_
      refine mx_aload_n dX8_isWord_0 rfl rfl ?_
      refine mx_get 8 50 (ref := "PrairiePoolModel") cl_8 (Nat.le_of_ble_eq_true rfl) (Or.inl q1677) (Or.inl rfl) dX8_isWord_1 (fv_8_50 _ _) (ly8_k La0_h7) ?_
      refine mx_iconst dX8_isWord_4 ic_1 ?_
      refine mx_icmp_ne (tgt := 21) dX8_isWord_5 rfl (fun c10 => ?_) (fun c10 => ?_)
      · have H := H.1 c10
        refine mx_iconst dX8_isWord_21 ic_0 ?_
        refine mx_zretK rfl dX8_isWord_22 (Or.inl rfl) ?_
        refine mx_zretK rfl dX8_isElse_17 (Or.inl rfl) ?_
        refine mx_if_ne (tgt := 123) dX8_readWhole_116 rfl (fun _ => absurd ‹_› (by decide)) (fun _ => ?_)
        refine mx_aload_n dX8_readWhole_119 rfl rfl ?_
        refine mx_callV 8 (y' := mi_X8_wrong) (vs := []) (st := []) (al' := [some (rv a0)]) cl_8 V_X8_wrong (Or.inl q2239) dX8_readWhole_120 rfl rfl (Nat.le_of_ble_eq_true rfl) (Nat.le_of_ble_eq_true rfl) (ly8_k La0_h7) ?_
        refine mx_aload_n dX8_wrong_0 rfl rfl ?_
        refine mx_aload_n dX8_wrong_1 rfl rfl ?_
        refine mx_get 8 50 (ref := "PrairiePoolModel") cl_8 (Nat.le_of_ble_eq_true rfl) (Or.inl q1677) (Or.inl rfl) dX8_wrong_2 (fv_8_50 _ _) (ly8_k La0_h7) ?_
        refine mx_iconst dX8_wrong_5 ic_4 ?_
        refine mx_icmp_ne (tgt := 13) dX8_wrong_6 rfl (fun c11 => ?_) (fun c11 => ?_)
        · have H := H.1 c11
          refine mx_iconst dX8_wrong_13 ic_2 ?_
          refine mx_aload_n dX8_wrong_14 rfl rfl ?_
          refine mx_get 8 51 (ref := "PrairiePoolModel") cl_8 (Nat.le_of_ble_eq_true rfl) (Or.inl q1678) (Or.inl rfl) dX8_wrong_15 (fv_8_51 _ _) (ly8_k La0_h7) ?_
          refine mx_callV 8 (y' := mi_X8_fail) (vs := [iv (2 : Int32), iv (ah_I h7 a0 51)]) (st := []) (al' := [some (rv a0), some (iv (2 : Int32)), some (iv (ah_I h7 a0 51))]) cl_8 V_X8_fail (Or.inl q2243) dX8_wrong_18 rfl rfl (Nat.le_of_ble_eq_true rfl) (Nat.le_of_ble_eq_true rfl) (ly8_k La0_h7) ?_
          refine mx_aload_n dX8_fail_0 rfl rfl ?_
          refine mx_get 8 48 (ref := "PrairiePoolModel") cl_8 (Nat.le_of_ble_eq_true rfl) (Or.inl q1675) (Or.inl rfl) dX8_fail_1 (fv_8_48 _ _) (ly8_k La0_h7) ?_
          refine mx_if_le (tgt := 8) dX8_fail_4 rfl (fun c12 => ?_) (fun c12 => ?_)
          · have H := H.1 c12
            refine mx_aload_n dX8_fail_8 rfl rfl ?_
            refine mx_iload_n dX8_fail_9 rfl rfl ?_
            refine mx_putI 8 48 (ref := "PrairiePoolModel") cl_8 (Nat.le_of_ble_eq_true rfl) (Or.inl q1675) (Or.inl rfl) dX8_fail_10 (Or.inl rfl) rfl (ly8_k La0_h7) ?_
            refine mx_nmI  (fun h13 eh13 Xh13 Kh13 Lh13 => ?_)
            have H := H h13 eh13 Xh13
            have La0_h13 := La0_h7.ext Xh13
            refine mx_aload_n dX8_fail_13 rfl rfl ?_
            refine mx_iload_n dX8_fail_14 rfl rfl ?_
            refine mx_putI 8 49 (ref := "PrairiePoolModel") cl_8 (Nat.le_of_ble_eq_true rfl) (Or.inl q1676) (Or.inl rfl) dX8_fail_15 (Or.inl rfl) rfl (ly8_k La0_h13) ?_
            refine mx_nmI  (fun h14 eh14 Xh14 Kh14 Lh14 => ?_)
            have H := H h14 eh14 Xh14
            have Kh14 := Kh14.trans Kh13
            have Lh14 := Lh14.trans Lh13
            have La0_h14 := La0_h13.ext Xh14
            refine mx_vretK rfl dX8_fail_18 ?_
            refine mx_vretK rfl dX8_wrong_21 ?_
            exact mx_weak (al' := [some (rv a0), some (iv x1), some (iv (ah_I h a0 58)), none]) ⟨rfl, ⟨rfl, ⟨rfl, trivial⟩⟩⟩ H
          · have H := H.2 c12
            refine mx_vretK rfl dX8_fail_7 ?_
            refine mx_vretK rfl dX8_wrong_21 ?_
            exact mx_weak (al' := [some (rv a0), some (iv x1), some (iv (ah_I h a0 58)), none]) ⟨rfl, ⟨rfl, ⟨rfl, trivial⟩⟩⟩ H
        · have H := H.2 c11
          refine mx_iconst dX8_wrong_9 ic_1 ?_
          refine mx_goto (tgt := 14) dX8_wrong_10 rfl ?_
          refine mx_aload_n dX8_wrong_14 rfl rfl ?_
          refine mx_get 8 51 (ref := "PrairiePoolModel") cl_8 (Nat.le_of_ble_eq_true rfl) (Or.inl q1678) (Or.inl rfl) dX8_wrong_15 (fv_8_51 _ _) (ly8_k La0_h7) ?_
          refine mx_callV 8 (y' := mi_X8_fail) (vs := [iv (1 : Int32), iv (ah_I h7 a0 51)]) (st := []) (al' := [some (rv a0), some (iv (1 : Int32)), some (iv (ah_I h7 a0 51))]) cl_8 V_X8_fail (Or.inl q2243) dX8_wrong_18 rfl rfl (Nat.le_of_ble_eq_true rfl) (Nat.le_of_ble_eq_true rfl) (ly8_k La0_h7) ?_
          refine mx_aload_n dX8_fail_0 rfl rfl ?_
          refine mx_get 8 48 (ref := "PrairiePoolModel") cl_8 (Nat.le_of_ble_eq_true rfl) (Or.inl q1675) (Or.inl rfl) dX8_fail_1 (fv_8_48 _ _) (ly8_k La0_h7) ?_
          refine mx_if_le (tgt := 8) dX8_fail_4 rfl (fun c15 => ?_) (fun c15 => ?_)
          · have H := H.1 c15
            refine mx_aload_n dX8_fail_8 rfl rfl ?_
            refine mx_iload_n dX8_fail_9 rfl rfl ?_
            refine mx_putI 8 48 (ref := "PrairiePoolModel") cl_8 (Nat.le_of_ble_eq_true rfl) (Or.inl q1675) (Or.inl rfl) dX8_fail_10 (Or.inl rfl) rfl (ly8_k La0_h7) ?_
            refine mx_nmI  (fun h16 eh16 Xh16 Kh16 Lh16 => ?_)
            have H := H h16 eh16 Xh16
            have La0_h16 := La0_h7.ext Xh16
            refine mx_aload_n dX8_fail_13 rfl rfl ?_
            refine mx_iload_n dX8_fail_14 rfl rfl ?_
            refine mx_putI 8 49 (ref := "PrairiePoolModel") cl_8 (Nat.le_of_ble_eq_true rfl) (Or.inl q1676) (Or.inl rfl) dX8_fail_15 (Or.inl rfl) rfl (ly8_k La0_h16) ?_
            refine mx_nmI  (fun h17 eh17 Xh17 Kh17 Lh17 => ?_)
            have H := H h17 eh17 Xh17
            have Kh17 := Kh17.trans Kh16
            have Lh17 := Lh17.trans Lh16
            have La0_h17 := La0_h16.ext Xh17
            refine mx_vretK rfl dX8_fail_18 ?_
            refine mx_vretK rfl dX8_wrong_21 ?_
            exact mx_weak (al' := [some (rv a0), some (iv x1), some (iv (ah_I h a0 58)), none]) ⟨rfl, ⟨rfl, ⟨rfl, trivial⟩⟩⟩ H
          · have H := H.2 c15
            refine mx_vretK rfl dX8_fail_7 ?_
            refine mx_vretK rfl dX8_wrong_21 ?_
            exact mx_weak (al' := [some (rv a0), some (iv x1), some (iv (ah_I h a0 58)), none]) ⟨rfl, ⟨rfl, ⟨rfl, trivial⟩⟩⟩ H
      · have H := H.2 c10
        refine mx_aload_n dX8_isWord_8 rfl rfl ?_
        refine mx_get 8 55 (ref := "PrairiePoolModel") cl_8 (Nat.le_of_ble_eq_true rfl) (Or.inl q1682) (Or.inl rfl) dX8_isWord_9 (fv_8_55 _ _) (ly8_k La0_h7) ?_
        refine mx_lload_n dX8_isWord_12 rfl rfl ?_
        refine mx_lif_ne (tgt := 21) dX8_isWord_13 dX8_isWord_14 rfl (fun c18 => ?_) (fun c18 => ?_)
        · have H := H.1 c18
          refine mx_iconst dX8_isWord_21 ic_0 ?_
          refine mx_zretK rfl dX8_isWord_22 (Or.inl rfl) ?_
          refine mx_zretK rfl dX8_isElse_17 (Or.inl rfl) ?_
          refine mx_if_ne (tgt := 123) dX8_readWhole_116 rfl (fun _ => absurd ‹_› (by decide)) (fun _ => ?_)
          refine mx_aload_n dX8_readWhole_119 rfl rfl ?_
          refine mx_callV 8 (y' := mi_X8_wrong) (vs := []) (st := []) (al' := [some (rv a0)]) cl_8 V_X8_wrong (Or.inl q2239) dX8_readWhole_120 rfl rfl (Nat.le_of_ble_eq_true rfl) (Nat.le_of_ble_eq_true rfl) (ly8_k La0_h7) ?_
          refine mx_aload_n dX8_wrong_0 rfl rfl ?_
          refine mx_aload_n dX8_wrong_1 rfl rfl ?_
          refine mx_get 8 50 (ref := "PrairiePoolModel") cl_8 (Nat.le_of_ble_eq_true rfl) (Or.inl q1677) (Or.inl rfl) dX8_wrong_2 (fv_8_50 _ _) (ly8_k La0_h7) ?_
          refine mx_iconst dX8_wrong_5 ic_4 ?_
          refine mx_icmp_ne (tgt := 13) dX8_wrong_6 rfl (fun c19 => ?_) (fun c19 => ?_)
          · have H := H.1 c19
            refine mx_iconst dX8_wrong_13 ic_2 ?_
            refine mx_aload_n dX8_wrong_14 rfl rfl ?_
            refine mx_get 8 51 (ref := "PrairiePoolModel") cl_8 (Nat.le_of_ble_eq_true rfl) (Or.inl q1678) (Or.inl rfl) dX8_wrong_15 (fv_8_51 _ _) (ly8_k La0_h7) ?_
            refine mx_callV 8 (y' := mi_X8_fail) (vs := [iv (2 : Int32), iv (ah_I h7 a0 51)]) (st := []) (al' := [some (rv a0), some (iv (2 : Int32)), some (iv (ah_I h7 a0 51))]) cl_8 V_X8_fail (Or.inl q2243) dX8_wrong_18 rfl rfl (Nat.le_of_ble_eq_true rfl) (Nat.le_of_ble_eq_true rfl) (ly8_k La0_h7) ?_
            refine mx_aload_n dX8_fail_0 rfl rfl ?_
            refine mx_get 8 48 (ref := "PrairiePoolModel") cl_8 (Nat.le_of_ble_eq_true rfl) (Or.inl q1675) (Or.inl rfl) dX8_fail_1 (fv_8_48 _ _) (ly8_k La0_h7) ?_
            refine mx_if_le (tgt := 8) dX8_fail_4 rfl (fun c20 => ?_) (fun c20 => ?_)
            · have H := H.1 c20
              refine mx_aload_n dX8_fail_8 rfl rfl ?_
              refine mx_iload_n dX8_fail_9 rfl rfl ?_
              refine mx_putI 8 48 (ref := "PrairiePoolModel") cl_8 (Nat.le_of_ble_eq_true rfl) (Or.inl q1675) (Or.inl rfl) dX8_fail_10 (Or.inl rfl) rfl (ly8_k La0_h7) ?_
              refine mx_nmI  (fun h21 eh21 Xh21 Kh21 Lh21 => ?_)
              have H := H h21 eh21 Xh21
              have La0_h21 := La0_h7.ext Xh21
              refine mx_aload_n dX8_fail_13 rfl rfl ?_
              refine mx_iload_n dX8_fail_14 rfl rfl ?_
              refine mx_putI 8 49 (ref := "PrairiePoolModel") cl_8 (Nat.le_of_ble_eq_true rfl) (Or.inl q1676) (Or.inl rfl) dX8_fail_15 (Or.inl rfl) rfl (ly8_k La0_h21) ?_
              refine mx_nmI  (fun h22 eh22 Xh22 Kh22 Lh22 => ?_)
              have H := H h22 eh22 Xh22
              have Kh22 := Kh22.trans Kh21
              have Lh22 := Lh22.trans Lh21
              have La0_h22 := La0_h21.ext Xh22
              refine mx_vretK rfl dX8_fail_18 ?_
              refine mx_vretK rfl dX8_wrong_21 ?_
              exact mx_weak (al' := [some (rv a0), some (iv x1), some (iv (ah_I h a0 58)), none]) ⟨rfl, ⟨rfl, ⟨rfl, trivial⟩⟩⟩ H
            · have H := H.2 c20
              refine mx_vretK rfl dX8_fail_7 ?_
              refine mx_vretK rfl dX8_wrong_21 ?_
              exact mx_weak (al' := [some (rv a0), some (iv x1), some (iv (ah_I h a0 58)), none]) ⟨rfl, ⟨rfl, ⟨rfl, trivial⟩⟩⟩ H
          · have H := H.2 c19
            refine mx_iconst dX8_wrong_9 ic_1 ?_
            refine mx_goto (tgt := 14) dX8_wrong_10 rfl ?_
            refine mx_aload_n dX8_wrong_14 rfl rfl ?_
            refine mx_get 8 51 (ref := "PrairiePoolModel") cl_8 (Nat.le_of_ble_eq_true rfl) (Or.inl q1678) (Or.inl rfl) dX8_wrong_15 (fv_8_51 _ _) (ly8_k La0_h7) ?_
            refine mx_callV 8 (y' := mi_X8_fail) (vs := [iv (1 : Int32), iv (ah_I h7 a0 51)]) (st := []) (al' := [some (rv a0), some (iv (1 : Int32)), some (iv (ah_I h7 a0 51))]) cl_8 V_X8_fail (Or.inl q2243) dX8_wrong_18 rfl rfl (Nat.le_of_ble_eq_true rfl) (Nat.le_of_ble_eq_true rfl) (ly8_k La0_h7) ?_
            refine mx_aload_n dX8_fail_0 rfl rfl ?_
            refine mx_get 8 48 (ref := "PrairiePoolModel") cl_8 (Nat.le_of_ble_eq_true rfl) (Or.inl q1675) (Or.inl rfl) dX8_fail_1 (fv_8_48 _ _) (ly8_k La0_h7) ?_
            refine mx_if_le (tgt := 8) dX8_fail_4 rfl (fun c23 => ?_) (fun c23 => ?_)
            · have H := H.1 c23
              refine mx_aload_n dX8_fail_8 rfl rfl ?_
              refine mx_iload_n dX8_fail_9 rfl rfl ?_
              refine mx_putI 8 48 (ref := "PrairiePoolModel") cl_8 (Nat.le_of_ble_eq_true rfl) (Or.inl q1675) (Or.inl rfl) dX8_fail_10 (Or.inl rfl) rfl (ly8_k La0_h7) ?_
              refine mx_nmI  (fun h24 eh24 Xh24 Kh24 Lh24 => ?_)
              have H := H h24 eh24 Xh24
              have La0_h24 := La0_h7.ext Xh24
              refine mx_aload_n dX8_fail_13 rfl rfl ?_
              refine mx_iload_n dX8_fail_14 rfl rfl ?_
              refine mx_putI 8 49 (ref := "PrairiePoolModel") cl_8 (Nat.le_of_ble_eq_true rfl) (Or.inl q1676) (Or.inl rfl) dX8_fail_15 (Or.inl rfl) rfl (ly8_k La0_h24) ?_
              refine mx_nmI  (fun h25 eh25 Xh25 Kh25 Lh25 => ?_)
              have H := H h25 eh25 Xh25
              have Kh25 := Kh25.trans Kh24
              have Lh25 := Lh25.trans Lh24
              have La0_h25 := La0_h24.ext Xh25
              refine mx_vretK rfl dX8_fail_18 ?_
              refine mx_vretK rfl dX8_wrong_21 ?_
              exact mx_weak (al' := [some (rv a0), some (iv x1), some (iv (ah_I h a0 58)), none]) ⟨rfl, ⟨rfl, ⟨rfl, trivial⟩⟩⟩ H
            · have H := H.2 c23
              refine mx_vretK rfl dX8_fail_7 ?_
              refine mx_vretK rfl dX8_wrong_21 ?_
              exact mx_weak (al' := [some (rv a0), some (iv x1), some (iv (ah_I h a0 58)), none]) ⟨rfl, ⟨rfl, ⟨rfl, trivial⟩⟩⟩ H
        · have H := H.2 c18
          refine mx_iconst dX8_isWord_17 ic_1 ?_
          refine mx_goto (tgt := 22) dX8_isWord_18 rfl ?_
          refine mx_zretK rfl dX8_isWord_22 (Or.inr rfl) ?_
          refine mx_zretK rfl dX8_isElse_17 (Or.inr rfl) ?_
          refine mx_if_ne (tgt := 123) dX8_readWhole_116 rfl (fun _ => ?_) (fun _ => absurd ‹_› (by decide))
          exact mx_weak (al' := [some (rv a0), some (iv x1), some (iv (ah_I h a0 58)), none]) ⟨rfl, ⟨rfl, ⟨rfl, trivial⟩⟩⟩ H
  · have H := H.2 c1
    exact mx_vret rfl dX8_readWhole_81 H
theorem v_X8_readWhole_123 {G : ma_G} {d : Nat} {a0 : Nat} {x1 : Int32} {x2 : Int32} {h : ah_T} {Q : Option ma_V → ah_T → Prop} {E : Nat → ah_T → Prop} (La0_h : LY8 h a0) (H : ((ah_I h a0 48) ≤ 0 → vp_in (ah_I h a0 58) 1100 ∧ ∀ h3 : ah_T, h3 = ah_wI h (a0 + 41) (ah_I h a0 58).toNatClampNeg (((1048576 : Int32) * (16 : Int32)) + (0 : Int32)) → ah_ext h h3 → ∀ h4 : ah_T, h4 = ah_wI h3 a0 58 ((ah_I h a0 58) + (1 : Int32)) → ah_ext h3 h4 → vp_in x2 1100 ∧ ∀ h6 : ah_T, h6 = ah_wI h4 (a0 + 41) x2.toNatClampNeg ((ah_I h3 (a0 + 41) x2.toNatClampNeg) + ((ah_I h a0 58) + (1 : Int32))) → ah_ext h4 h6 → MX G mi_X8_next (d + 1) 0 [some (rv a0), none] [] h6 (Qv fun h7 => ah_ext h6 h7 → MX G mi_X8_readWhole (d + 1) 0 [some (rv a0), some (iv (x1 + (1 : Int32))), none, none] [] h7 (Qv fun h9 => ah_ext h7 h9 → ∀ h11 : ah_T, h11 = ah_wI h9 (a0 + 41) (ah_I h a0 58).toNatClampNeg ((ah_I h9 (a0 + 41) (ah_I h a0 58).toNatClampNeg) + (ah_I h9 a0 58)) → ah_ext h9 h11 → Q none h11) E) E) ∧ (¬ (ah_I h a0 48) ≤ 0 → Q none h)) : MX G mi_X8_readWhole (d + 2) 123 [some (rv a0), some (iv x1), some (iv x2), none] [] h Q E := by
  refine mx_aload_n dX8_readWhole_123 rfl rfl ?_
  refine mx_get 8 48 (ref := "PrairiePoolModel") cl_8 (Nat.le_of_ble_eq_true rfl) (Or.inl q1675) (Or.inl rfl) dX8_readWhole_124 (fv_8_48 _ _) (ly8_k La0_h) ?_
  refine mx_if_le (tgt := 131) dX8_readWhole_127 rfl (fun c1 => ?_) (fun c1 => ?_)
  · have H := H.1 c1
    refine mx_aload_n dX8_readWhole_131 rfl rfl ?_
    refine mx_get 8 58 (ref := "PrairiePoolModel") cl_8 (Nat.le_of_ble_eq_true rfl) (Or.inl q1685) (Or.inl rfl) dX8_readWhole_132 (fv_8_58 _ _) (ly8_k La0_h) ?_
    refine mx_istore_n (al' := [some (rv a0), some (iv x1), some (iv x2), some (iv (ah_I h a0 58))]) dX8_readWhole_135 rfl (Nat.le_of_ble_eq_true rfl) rfl ?_
    refine mx_aload_n dX8_readWhole_136 rfl rfl ?_
    refine mx_bipush dX8_readWhole_137 ib_16 ?_
    refine mx_iconst dX8_readWhole_139 ic_0 ?_
    refine mx_callV 8 (y' := mi_X8_mark) (vs := [iv (16 : Int32), iv (0 : Int32)]) (st := []) (al' := [some (rv a0), some (iv (16 : Int32)), some (iv (0 : Int32))]) cl_8 V_X8_mark (Or.inl q2279) dX8_readWhole_140 rfl rfl (Nat.le_of_ble_eq_true rfl) (Nat.le_of_ble_eq_true rfl) (ly8_k La0_h) ?_
    refine mx_aload_n dX8_mark_0 rfl rfl ?_
    refine mx_get 8 64 (ref := "PrairiePoolModel") cl_8 (Nat.le_of_ble_eq_true rfl) (Or.inl q1691) (Or.inl rfl) dX8_mark_1 (fv_8_64 _ _) (ly8_k La0_h) ?_
    refine mx_tr (ly8_R_0_64 La0_h) ?_
    refine mx_aload_n dX8_mark_4 rfl rfl ?_
    refine mx_get 8 58 (ref := "PrairiePoolModel") cl_8 (Nat.le_of_ble_eq_true rfl) (Or.inl q1685) (Or.inl rfl) dX8_mark_5 (fv_8_58 _ _) (ly8_k La0_h) ?_
    refine mx_ldcw q2096 dX8_mark_8 ?_
    refine mx_iload_n dX8_mark_11 rfl rfl ?_
    refine mx_imul dX8_mark_12 ?_
    refine mx_iload_n dX8_mark_13 rfl rfl ?_
    refine mx_iadd dX8_mark_14 ?_
    obtain ⟨k2, H⟩ := H
    refine my_iast dX8_mark_15 rfl (ly8_A_41 La0_h k2) ?_
    refine mx_nmI  (fun h3 eh3 Xh3 Kh3 Lh3 => ?_)
    have H := H h3 eh3 Xh3
    have La0_h3 := La0_h.ext Xh3
    refine mx_aload_n dX8_mark_16 rfl rfl ?_
    refine mx_dup_r dX8_mark_17 ?_
    refine mx_get 8 58 (ref := "PrairiePoolModel") cl_8 (Nat.le_of_ble_eq_true rfl) (Or.inl q1685) (Or.inl rfl) dX8_mark_18 (fv_8_58 _ _) (ly8_k La0_h3) ?_
    refine mx_ti (ah_skIA eh3 (by omega)) ?_
    refine mx_iconst dX8_mark_21 ic_1 ?_
    refine mx_iadd dX8_mark_22 ?_
    refine mx_putI 8 58 (ref := "PrairiePoolModel") cl_8 (Nat.le_of_ble_eq_true rfl) (Or.inl q1685) (Or.inl rfl) dX8_mark_23 (Or.inl rfl) rfl (ly8_k La0_h3) ?_
    refine mx_nmI  (fun h4 eh4 Xh4 Kh4 Lh4 => ?_)
    have H := H h4 eh4 Xh4
    have Kh4 := Kh4.trans Kh3
    have Lh4 := Lh4.trans Lh3
    have La0_h4 := La0_h3.ext Xh4
    refine mx_vretK rfl dX8_mark_26 ?_
    refine mx_aload_n dX8_readWhole_143 rfl rfl ?_
    refine mx_get 8 64 (ref := "PrairiePoolModel") cl_8 (Nat.le_of_ble_eq_true rfl) (Or.inl q1691) (Or.inl rfl) dX8_readWhole_144 (fv_8_64 _ _) (ly8_k La0_h4) ?_
    refine mx_tr (ly8_R_0_64 La0_h4) ?_
    refine mx_iload_n dX8_readWhole_147 rfl rfl ?_
    refine mx_dup2_ir dX8_readWhole_148 ?_
    obtain ⟨k5, H⟩ := H
    refine my_iald dX8_readWhole_149 rfl (ly8_A_41 La0_h4 k5) ?_
    refine mx_ti (ah_skIA eh4 (by omega)) ?_
    refine mx_aload_n dX8_readWhole_150 rfl rfl ?_
    refine mx_get 8 58 (ref := "PrairiePoolModel") cl_8 (Nat.le_of_ble_eq_true rfl) (Or.inl q1685) (Or.inl rfl) dX8_readWhole_151 (fv_8_58 _ _) (ly8_k La0_h4) ?_
    refine mx_ti (ah_hitI eh4) ?_
    refine mx_iadd dX8_readWhole_154 ?_
    refine my_iast dX8_readWhole_155 rfl (ly8_A_41 La0_h4 k5) ?_
    refine mx_nmI  (fun h6 eh6 Xh6 Kh6 Lh6 => ?_)
    have H := H h6 eh6 Xh6
    have Kh6 := Kh6.trans Kh4
    have Lh6 := Lh6.trans Lh4
    have La0_h6 := La0_h4.ext Xh6
    refine mx_aload_n dX8_readWhole_156 rfl rfl ?_
    refine mx_callV 8 (y' := mi_X8_next) (vs := []) (st := []) (al' := [some (rv a0), none]) cl_8 V_X8_next (Or.inl q2170) dX8_readWhole_157 rfl rfl (Nat.le_of_ble_eq_true rfl) (Nat.le_of_ble_eq_true rfl) (ly8_k La0_h6) ?_
    refine ma_kv H (fun h7 Xh7 H => ?_) (fun x1 h1 X1 H => mt_out rfl H)
    have H := H Xh7
    have La0_h7 := La0_h6.ext Xh7
    refine mx_aload_n dX8_readWhole_160 rfl rfl ?_
    refine mx_iload_n dX8_readWhole_161 rfl rfl ?_
    refine mx_iconst dX8_readWhole_162 ic_1 ?_
    refine mx_iadd dX8_readWhole_163 ?_
    refine mx_callV 8 (y' := mi_X8_readWhole) (vs := [iv (x1 + (1 : Int32))]) (st := []) (al' := [some (rv a0), some (iv (x1 + (1 : Int32))), none, none]) cl_8 V_X8_readWhole (Or.inl q2255) dX8_readWhole_164 rfl rfl (Nat.le_of_ble_eq_true rfl) (Nat.le_of_ble_eq_true rfl) (ly8_k La0_h7) ?_
    refine ma_kv H (fun h9 Xh9 H => ?_) (fun x1 h1 X1 H => mt_out rfl H)
    have H := H Xh9
    have La0_h9 := La0_h7.ext Xh9
    refine mx_aload_n dX8_readWhole_167 rfl rfl ?_
    refine mx_get 8 64 (ref := "PrairiePoolModel") cl_8 (Nat.le_of_ble_eq_true rfl) (Or.inl q1691) (Or.inl rfl) dX8_readWhole_168 (fv_8_64 _ _) (ly8_k La0_h9) ?_
    refine mx_tr (ly8_R_0_64 La0_h9) ?_
    refine mx_iload_n dX8_readWhole_171 rfl rfl ?_
    refine mx_dup2_ir dX8_readWhole_172 ?_
    refine my_iald dX8_readWhole_173 rfl (ly8_A_41 La0_h9 k2) ?_
    refine mx_aload_n dX8_readWhole_174 rfl rfl ?_
    refine mx_get 8 58 (ref := "PrairiePoolModel") cl_8 (Nat.le_of_ble_eq_true rfl) (Or.inl q1685) (Or.inl rfl) dX8_readWhole_175 (fv_8_58 _ _) (ly8_k La0_h9) ?_
    refine mx_iadd dX8_readWhole_178 ?_
    refine my_iast dX8_readWhole_179 rfl (ly8_A_41 La0_h9 k2) ?_
    refine mx_nmI  (fun h11 eh11 Xh11 Kh11 Lh11 => ?_)
    have H := H h11 eh11 Xh11
    have La0_h11 := La0_h9.ext Xh11
    exact mx_vret rfl dX8_readWhole_180 H
  · have H := H.2 c1
    exact mx_vret rfl dX8_readWhole_130 H
theorem dX8_canBegin_0 : decode mi_X8_canBegin.2.1 0 = .ok (.aload_n 0, 1) := by decide +kernel
theorem dX8_canBegin_1 : decode mi_X8_canBegin.2.1 1 = .ok (.invokevirtual 472, 3) := by decide +kernel
theorem dX8_canBegin_4 : decode mi_X8_canBegin.2.1 4 = .ok (.ifCond .ne 10, 3) := by decide +kernel
theorem dX8_canBegin_7 : decode mi_X8_canBegin.2.1 7 = .ok (.aload_n 0, 1) := by decide +kernel
theorem dX8_canBegin_8 : decode mi_X8_canBegin.2.1 8 = .ok (.invokevirtual 504, 3) := by decide +kernel
theorem dX8_canBegin_11 : decode mi_X8_canBegin.2.1 11 = .ok (.ifCond .eq 7, 3) := by decide +kernel
theorem dX8_canBegin_14 : decode mi_X8_canBegin.2.1 14 = .ok (.iconst 1, 1) := by decide +kernel
theorem dX8_canBegin_15 : decode mi_X8_canBegin.2.1 15 = .ok (.goto 4, 3) := by decide +kernel
theorem dX8_canBegin_18 : decode mi_X8_canBegin.2.1 18 = .ok (.iconst 0, 1) := by decide +kernel
theorem dX8_canBegin_19 : decode mi_X8_canBegin.2.1 19 = .ok (.ireturn, 1) := by decide +kernel
theorem v_X8_canBegin {G : ma_G} {d : Nat} {a0 : Nat} {h : ah_T} {Q : Option ma_V → ah_T → Prop} {E : Nat → ah_T → Prop} (La0_h : LY8 h a0) (H : (¬ (ah_I h a0 50) = (1 : Int32) → MX G mi_X8_canBeginSum (d + 1) 0 [some (rv a0)] [] h (Qi fun r3 h2 => ah_ext h h2 → (r3 = 0 → Q (some (iv (0 : Int32))) h2) ∧ (¬ r3 = 0 → Q (some (iv (1 : Int32))) h2)) E) ∧ ((ah_I h a0 50) = (1 : Int32) → (¬ (ah_J h a0 55) = (294 : Int64) → MX G mi_X8_canBeginSum (d + 1) 0 [some (rv a0)] [] h (Qi fun r7 h6 => ah_ext h h6 → (r7 = 0 → Q (some (iv (0 : Int32))) h6) ∧ (¬ r7 = 0 → Q (some (iv (1 : Int32))) h6)) E) ∧ ((ah_J h a0 55) = (294 : Int64) → Q (some (iv (1 : Int32))) h))) : MX G mi_X8_canBegin (d + 2) 0 [some (rv a0)] [] h Q E := by
  refine mx_aload_n dX8_canBegin_0 rfl rfl ?_
  refine mx_callV 8 (y' := mi_X8_isIf) (vs := []) (st := []) (al' := [some (rv a0)]) cl_8 V_X8_isIf (Or.inl q2207) dX8_canBegin_1 rfl rfl (Nat.le_of_ble_eq_true rfl) (Nat.le_of_ble_eq_true rfl) (ly8_k La0_h) ?_
  refine mx_aload_n dX8_isIf_0 rfl rfl ?_
  refine mx_bipush dX8_isIf_1 ib_105 ?_
  refine mx_bipush dX8_isIf_3 ib_102 ?_
  refine mx_iconst dX8_isIf_5 ic_0 ?_
  refine mx_iconst dX8_isIf_6 ic_0 ?_
  refine mx_iconst dX8_isIf_7 ic_0 ?_
  refine mx_iconst dX8_isIf_8 ic_0 ?_
  refine mx_callS (y' := mi_X8_spelled) (vs := [iv (105 : Int32), iv (102 : Int32), iv (0 : Int32), iv (0 : Int32), iv (0 : Int32), iv (0 : Int32)]) (st := [rv a0]) (al' := [some (iv (105 : Int32)), some (iv (102 : Int32)), some (iv (0 : Int32)), some (iv (0 : Int32)), some (iv (0 : Int32)), some (iv (0 : Int32)), none, none]) S_X8_spelled q2075 dX8_isIf_9 rfl rfl (Nat.le_of_ble_eq_true rfl) (Nat.le_of_ble_eq_true rfl) ?_
  refine mx_iload_n dX8_spelled_0 rfl rfl ?_
  refine mx_i2l dX8_spelled_1 ?_
  refine mx_ldc2 q2078 dX8_spelled_2 ?_
  refine mx_lsub dX8_spelled_5 ?_
  refine mx_lstore (al' := [some (iv (105 : Int32)), some (iv (102 : Int32)), some (iv (0 : Int32)), some (iv (0 : Int32)), some (iv (0 : Int32)), some (iv (0 : Int32)), some (jv ((105 : Int32).toInt64 - (96 : Int64))), none]) dX8_spelled_6 (Nat.le_of_ble_eq_true rfl) rfl ?_
  refine mx_lload dX8_spelled_8 rfl ?_
  refine mx_ldc2 q2079 dX8_spelled_10 ?_
  refine mx_lmul dX8_spelled_13 ?_
  refine mx_iload_n dX8_spelled_14 rfl rfl ?_
  refine mx_i2l dX8_spelled_15 ?_
  refine mx_ladd dX8_spelled_16 ?_
  refine mx_ldc2 q2078 dX8_spelled_17 ?_
  refine mx_lsub dX8_spelled_20 ?_
  refine mx_lstore (al' := [some (iv (105 : Int32)), some (iv (102 : Int32)), some (iv (0 : Int32)), some (iv (0 : Int32)), some (iv (0 : Int32)), some (iv (0 : Int32)), some (jv (((((105 : Int32).toInt64 - (96 : Int64)) * (32 : Int64)) + (102 : Int32).toInt64) - (96 : Int64))), none]) dX8_spelled_21 (Nat.le_of_ble_eq_true rfl) rfl ?_
  refine mx_iload_n dX8_spelled_23 rfl rfl ?_
  refine mx_if_le (tgt := 43) dX8_spelled_24 rfl (fun _ => ?_) (fun _ => absurd ‹_› (by decide))
  refine mx_lload dX8_spelled_43 rfl ?_
  refine mx_lstore (al' := [some (iv (105 : Int32)), some (iv (102 : Int32)), some (iv (0 : Int32)), some (iv (0 : Int32)), some (iv (0 : Int32)), some (iv (0 : Int32)), some (jv (((((105 : Int32).toInt64 - (96 : Int64)) * (32 : Int64)) + (102 : Int32).toInt64) - (96 : Int64))), none]) dX8_spelled_45 (Nat.le_of_ble_eq_true rfl) rfl ?_
  refine mx_iload_n dX8_spelled_47 rfl rfl ?_
  refine mx_if_le (tgt := 67) dX8_spelled_48 rfl (fun _ => ?_) (fun _ => absurd ‹_› (by decide))
  refine mx_lload dX8_spelled_67 rfl ?_
  refine mx_lstore (al' := [some (iv (105 : Int32)), some (iv (102 : Int32)), some (iv (0 : Int32)), some (iv (0 : Int32)), some (iv (0 : Int32)), some (iv (0 : Int32)), some (jv (((((105 : Int32).toInt64 - (96 : Int64)) * (32 : Int64)) + (102 : Int32).toInt64) - (96 : Int64))), none]) dX8_spelled_69 (Nat.le_of_ble_eq_true rfl) rfl ?_
  refine mx_iload dX8_spelled_71 rfl ?_
  refine mx_if_le (tgt := 93) dX8_spelled_73 rfl (fun _ => ?_) (fun _ => absurd ‹_› (by decide))
  refine mx_lload dX8_spelled_93 rfl ?_
  refine mx_lstore (al' := [some (iv (105 : Int32)), some (iv (102 : Int32)), some (iv (0 : Int32)), some (iv (0 : Int32)), some (iv (0 : Int32)), some (iv (0 : Int32)), some (jv (((((105 : Int32).toInt64 - (96 : Int64)) * (32 : Int64)) + (102 : Int32).toInt64) - (96 : Int64))), none]) dX8_spelled_95 (Nat.le_of_ble_eq_true rfl) rfl ?_
  refine mx_iload dX8_spelled_97 rfl ?_
  refine mx_if_le (tgt := 119) dX8_spelled_99 rfl (fun _ => ?_) (fun _ => absurd ‹_› (by decide))
  refine mx_lload dX8_spelled_119 rfl ?_
  refine mx_lretK rfl dX8_spelled_121 ?_
  refine mx_tj (show (((((105 : Int32).toInt64 - (96 : Int64)) * (32 : Int64)) + (102 : Int32).toInt64) - (96 : Int64)) = (294 : Int64) by decide) ?_
  refine mx_callV 8 (y' := mi_X8_isWord) (vs := [jv (294 : Int64)]) (st := []) (al' := [some (rv a0), some (jv (294 : Int64)), none]) cl_8 V_X8_isWord (Or.inl q2196) dX8_isIf_12 rfl rfl (Nat.le_of_ble_eq_true rfl) (Nat.le_of_ble_eq_true rfl) (ly8_k La0_h) ?_
  refine mx_aload_n dX8_isWord_0 rfl rfl ?_
  refine mx_get 8 50 (ref := "PrairiePoolModel") cl_8 (Nat.le_of_ble_eq_true rfl) (Or.inl q1677) (Or.inl rfl) dX8_isWord_1 (fv_8_50 _ _) (ly8_k La0_h) ?_
  refine mx_iconst dX8_isWord_4 ic_1 ?_
  refine mx_icmp_ne (tgt := 21) dX8_isWord_5 rfl (fun c1 => ?_) (fun c1 => ?_)
  · have H := H.1 c1
    refine mx_iconst dX8_isWord_21 ic_0 ?_
    refine mx_zretK rfl dX8_isWord_22 (Or.inl rfl) ?_
    refine mx_zretK rfl dX8_isIf_15 (Or.inl rfl) ?_
    refine mx_if_ne (tgt := 14) dX8_canBegin_4 rfl (fun _ => absurd ‹_› (by decide)) (fun _ => ?_)
    refine mx_aload_n dX8_canBegin_7 rfl rfl ?_
    refine mx_callV 8 (y' := mi_X8_canBeginSum) (vs := []) (st := []) (al' := [some (rv a0)]) cl_8 V_X8_canBeginSum (Or.inl q2263) dX8_canBegin_8 rfl rfl (Nat.le_of_ble_eq_true rfl) (Nat.le_of_ble_eq_true rfl) (ly8_k La0_h) ?_
    refine ma_ki H (fun r3 h2 Xh2 H => ?_) (fun x1 h1 X1 H => mt_out rfl H)
    have H := H Xh2
    have La0_h2 := La0_h.ext Xh2
    refine mx_if_eq (tgt := 18) dX8_canBegin_11 rfl (fun c4 => ?_) (fun c4 => ?_)
    · have H := H.1 c4
      refine mx_iconst dX8_canBegin_18 ic_0 ?_
      exact mx_zret rfl dX8_canBegin_19 (Or.inl rfl) H
    · have H := H.2 c4
      refine mx_iconst dX8_canBegin_14 ic_1 ?_
      refine mx_goto (tgt := 19) dX8_canBegin_15 rfl ?_
      exact mx_zret rfl dX8_canBegin_19 (Or.inr rfl) H
  · have H := H.2 c1
    refine mx_aload_n dX8_isWord_8 rfl rfl ?_
    refine mx_get 8 55 (ref := "PrairiePoolModel") cl_8 (Nat.le_of_ble_eq_true rfl) (Or.inl q1682) (Or.inl rfl) dX8_isWord_9 (fv_8_55 _ _) (ly8_k La0_h) ?_
    refine mx_lload_n dX8_isWord_12 rfl rfl ?_
    refine mx_lif_ne (tgt := 21) dX8_isWord_13 dX8_isWord_14 rfl (fun c5 => ?_) (fun c5 => ?_)
    · have H := H.1 c5
      refine mx_iconst dX8_isWord_21 ic_0 ?_
      refine mx_zretK rfl dX8_isWord_22 (Or.inl rfl) ?_
      refine mx_zretK rfl dX8_isIf_15 (Or.inl rfl) ?_
      refine mx_if_ne (tgt := 14) dX8_canBegin_4 rfl (fun _ => absurd ‹_› (by decide)) (fun _ => ?_)
      refine mx_aload_n dX8_canBegin_7 rfl rfl ?_
      refine mx_callV 8 (y' := mi_X8_canBeginSum) (vs := []) (st := []) (al' := [some (rv a0)]) cl_8 V_X8_canBeginSum (Or.inl q2263) dX8_canBegin_8 rfl rfl (Nat.le_of_ble_eq_true rfl) (Nat.le_of_ble_eq_true rfl) (ly8_k La0_h) ?_
      refine ma_ki H (fun r7 h6 Xh6 H => ?_) (fun x1 h1 X1 H => mt_out rfl H)
      have H := H Xh6
      have La0_h6 := La0_h.ext Xh6
      refine mx_if_eq (tgt := 18) dX8_canBegin_11 rfl (fun c8 => ?_) (fun c8 => ?_)
      · have H := H.1 c8
        refine mx_iconst dX8_canBegin_18 ic_0 ?_
        exact mx_zret rfl dX8_canBegin_19 (Or.inl rfl) H
      · have H := H.2 c8
        refine mx_iconst dX8_canBegin_14 ic_1 ?_
        refine mx_goto (tgt := 19) dX8_canBegin_15 rfl ?_
        exact mx_zret rfl dX8_canBegin_19 (Or.inr rfl) H
    · have H := H.2 c5
      refine mx_iconst dX8_isWord_17 ic_1 ?_
      refine mx_goto (tgt := 22) dX8_isWord_18 rfl ?_
      refine mx_zretK rfl dX8_isWord_22 (Or.inr rfl) ?_
      refine mx_zretK rfl dX8_isIf_15 (Or.inr rfl) ?_
      refine mx_if_ne (tgt := 14) dX8_canBegin_4 rfl (fun _ => ?_) (fun _ => absurd ‹_› (by decide))
      refine mx_iconst dX8_canBegin_14 ic_1 ?_
      refine mx_goto (tgt := 19) dX8_canBegin_15 rfl ?_
      exact mx_zret rfl dX8_canBegin_19 (Or.inr rfl) H
theorem dX8_canBeginSum_0 : decode mi_X8_canBeginSum.2.1 0 = .ok (.aload_n 0, 1) := by decide +kernel
theorem dX8_canBeginSum_1 : decode mi_X8_canBeginSum.2.1 1 = .ok (.getfield 422, 3) := by decide +kernel
theorem dX8_canBeginSum_4 : decode mi_X8_canBeginSum.2.1 4 = .ok (.iconst 2, 1) := by decide +kernel
theorem dX8_canBeginSum_5 : decode mi_X8_canBeginSum.2.1 5 = .ok (.if_icmp .eq 41, 3) := by decide +kernel
theorem dX8_canBeginSum_8 : decode mi_X8_canBeginSum.2.1 8 = .ok (.aload_n 0, 1) := by decide +kernel
theorem dX8_canBeginSum_9 : decode mi_X8_canBeginSum.2.1 9 = .ok (.bipush 40, 2) := by decide +kernel
theorem dX8_canBeginSum_11 : decode mi_X8_canBeginSum.2.1 11 = .ok (.invokevirtual 507, 3) := by decide +kernel
theorem dX8_canBeginSum_14 : decode mi_X8_canBeginSum.2.1 14 = .ok (.ifCond .ne 32, 3) := by decide +kernel
theorem dX8_canBeginSum_17 : decode mi_X8_canBeginSum.2.1 17 = .ok (.aload_n 0, 1) := by decide +kernel
theorem dX8_canBeginSum_18 : decode mi_X8_canBeginSum.2.1 18 = .ok (.invokevirtual 491, 3) := by decide +kernel
theorem dX8_canBeginSum_21 : decode mi_X8_canBeginSum.2.1 21 = .ok (.ifCond .ne 25, 3) := by decide +kernel
theorem dX8_canBeginSum_24 : decode mi_X8_canBeginSum.2.1 24 = .ok (.aload_n 0, 1) := by decide +kernel
theorem dX8_canBeginSum_25 : decode mi_X8_canBeginSum.2.1 25 = .ok (.invokevirtual 494, 3) := by decide +kernel
theorem dX8_canBeginSum_28 : decode mi_X8_canBeginSum.2.1 28 = .ok (.ifCond .ne 18, 3) := by decide +kernel
theorem dX8_canBeginSum_31 : decode mi_X8_canBeginSum.2.1 31 = .ok (.aload_n 0, 1) := by decide +kernel
theorem dX8_canBeginSum_32 : decode mi_X8_canBeginSum.2.1 32 = .ok (.getfield 422, 3) := by decide +kernel
theorem dX8_canBeginSum_35 : decode mi_X8_canBeginSum.2.1 35 = .ok (.iconst 1, 1) := by decide +kernel
theorem dX8_canBeginSum_36 : decode mi_X8_canBeginSum.2.1 36 = .ok (.if_icmp .ne 14, 3) := by decide +kernel
theorem dX8_canBeginSum_39 : decode mi_X8_canBeginSum.2.1 39 = .ok (.aload_n 0, 1) := by decide +kernel
theorem dX8_canBeginSum_40 : decode mi_X8_canBeginSum.2.1 40 = .ok (.invokevirtual 510, 3) := by decide +kernel
theorem dX8_canBeginSum_43 : decode mi_X8_canBeginSum.2.1 43 = .ok (.ifCond .ne 7, 3) := by decide +kernel
theorem dX8_canBeginSum_46 : decode mi_X8_canBeginSum.2.1 46 = .ok (.iconst 1, 1) := by decide +kernel
theorem dX8_canBeginSum_47 : decode mi_X8_canBeginSum.2.1 47 = .ok (.goto 4, 3) := by decide +kernel
theorem dX8_canBeginSum_50 : decode mi_X8_canBeginSum.2.1 50 = .ok (.iconst 0, 1) := by decide +kernel
theorem dX8_canBeginSum_51 : decode mi_X8_canBeginSum.2.1 51 = .ok (.ireturn, 1) := by decide +kernel
theorem v_X8_canBeginSum {G : ma_G} {d : Nat} {a0 : Nat} {h : ah_T} {Q : Option ma_V → ah_T → Prop} {E : Nat → ah_T → Prop} (La0_h : LY8 h a0) (H : ((ah_I h a0 50) = (2 : Int32) → Q (some (iv (1 : Int32))) h) ∧ (¬ (ah_I h a0 50) = (2 : Int32) → (¬ (ah_I h a0 50) = (3 : Int32) → (¬ (ah_I h a0 50) = (1 : Int32) → Q (some (iv (0 : Int32))) h) ∧ ((ah_I h a0 50) = (1 : Int32) → (¬ (ah_J h a0 55) = (12748404 : Int64) → (¬ (ah_J h a0 55) = (441972 : Int64) → MX G mi_X8_isKept (d + 1) 0 [some (rv a0)] [] h (Qi fun r7 h6 => ah_ext h h6 → (¬ r7 = 0 → Q (some (iv (0 : Int32))) h6) ∧ (r7 = 0 → Q (some (iv (1 : Int32))) h6)) E) ∧ ((ah_J h a0 55) = (441972 : Int64) → Q (some (iv (1 : Int32))) h)) ∧ ((ah_J h a0 55) = (12748404 : Int64) → Q (some (iv (1 : Int32))) h))) ∧ ((ah_I h a0 50) = (3 : Int32) → (¬ (ah_I h a0 53) = (40 : Int32) → (¬ (ah_I h a0 50) = (1 : Int32) → Q (some (iv (0 : Int32))) h) ∧ ((ah_I h a0 50) = (1 : Int32) → (¬ (ah_J h a0 55) = (12748404 : Int64) → (¬ (ah_J h a0 55) = (441972 : Int64) → MX G mi_X8_isKept (d + 1) 0 [some (rv a0)] [] h (Qi fun r14 h13 => ah_ext h h13 → (¬ r14 = 0 → Q (some (iv (0 : Int32))) h13) ∧ (r14 = 0 → Q (some (iv (1 : Int32))) h13)) E) ∧ ((ah_J h a0 55) = (441972 : Int64) → Q (some (iv (1 : Int32))) h)) ∧ ((ah_J h a0 55) = (12748404 : Int64) → Q (some (iv (1 : Int32))) h))) ∧ ((ah_I h a0 53) = (40 : Int32) → Q (some (iv (1 : Int32))) h)))) : MX G mi_X8_canBeginSum (d + 2) 0 [some (rv a0)] [] h Q E := by
  refine mx_aload_n dX8_canBeginSum_0 rfl rfl ?_
  refine mx_get 8 50 (ref := "PrairiePoolModel") cl_8 (Nat.le_of_ble_eq_true rfl) (Or.inl q1677) (Or.inl rfl) dX8_canBeginSum_1 (fv_8_50 _ _) (ly8_k La0_h) ?_
  refine mx_iconst dX8_canBeginSum_4 ic_2 ?_
  refine mx_icmp_eq (tgt := 46) dX8_canBeginSum_5 rfl (fun c1 => ?_) (fun c1 => ?_)
  · have H := H.1 c1
    refine mx_iconst dX8_canBeginSum_46 ic_1 ?_
    refine mx_goto (tgt := 51) dX8_canBeginSum_47 rfl ?_
    exact mx_zret rfl dX8_canBeginSum_51 (Or.inr rfl) H
  · have H := H.2 c1
    refine mx_aload_n dX8_canBeginSum_8 rfl rfl ?_
    refine mx_bipush dX8_canBeginSum_9 ib_40 ?_
    refine mx_callV 8 (y' := mi_X8_isSign) (vs := [iv (40 : Int32)]) (st := []) (al' := [some (rv a0), some (iv (40 : Int32))]) cl_8 V_X8_isSign (Or.inl q2251) dX8_canBeginSum_11 rfl rfl (Nat.le_of_ble_eq_true rfl) (Nat.le_of_ble_eq_true rfl) (ly8_k La0_h) ?_
    refine mx_aload_n dX8_isSign_0 rfl rfl ?_
    refine mx_get 8 50 (ref := "PrairiePoolModel") cl_8 (Nat.le_of_ble_eq_true rfl) (Or.inl q1677) (Or.inl rfl) dX8_isSign_1 (fv_8_50 _ _) (ly8_k La0_h) ?_
    refine mx_iconst dX8_isSign_4 ic_3 ?_
    refine mx_icmp_ne (tgt := 20) dX8_isSign_5 rfl (fun c2 => ?_) (fun c2 => ?_)
    · have H := H.1 c2
      refine mx_iconst dX8_isSign_20 ic_0 ?_
      refine mx_zretK rfl dX8_isSign_21 (Or.inl rfl) ?_
      refine mx_if_ne (tgt := 46) dX8_canBeginSum_14 rfl (fun _ => absurd ‹_› (by decide)) (fun _ => ?_)
      refine mx_aload_n dX8_canBeginSum_17 rfl rfl ?_
      refine mx_callV 8 (y' := mi_X8_isLeast) (vs := []) (st := []) (al' := [some (rv a0)]) cl_8 V_X8_isLeast (Or.inl q2231) dX8_canBeginSum_18 rfl rfl (Nat.le_of_ble_eq_true rfl) (Nat.le_of_ble_eq_true rfl) (ly8_k La0_h) ?_
      refine mx_aload_n dX8_isLeast_0 rfl rfl ?_
      refine mx_bipush dX8_isLeast_1 ib_108 ?_
      refine mx_bipush dX8_isLeast_3 ib_101 ?_
      refine mx_bipush dX8_isLeast_5 ib_97 ?_
      refine mx_bipush dX8_isLeast_7 ib_115 ?_
      refine mx_bipush dX8_isLeast_9 ib_116 ?_
      refine mx_iconst dX8_isLeast_11 ic_0 ?_
      refine mx_callS (y' := mi_X8_spelled) (vs := [iv (108 : Int32), iv (101 : Int32), iv (97 : Int32), iv (115 : Int32), iv (116 : Int32), iv (0 : Int32)]) (st := [rv a0]) (al' := [some (iv (108 : Int32)), some (iv (101 : Int32)), some (iv (97 : Int32)), some (iv (115 : Int32)), some (iv (116 : Int32)), some (iv (0 : Int32)), none, none]) S_X8_spelled q2075 dX8_isLeast_12 rfl rfl (Nat.le_of_ble_eq_true rfl) (Nat.le_of_ble_eq_true rfl) ?_
      refine mx_iload_n dX8_spelled_0 rfl rfl ?_
      refine mx_i2l dX8_spelled_1 ?_
      refine mx_ldc2 q2078 dX8_spelled_2 ?_
      refine mx_lsub dX8_spelled_5 ?_
      refine mx_lstore (al' := [some (iv (108 : Int32)), some (iv (101 : Int32)), some (iv (97 : Int32)), some (iv (115 : Int32)), some (iv (116 : Int32)), some (iv (0 : Int32)), some (jv ((108 : Int32).toInt64 - (96 : Int64))), none]) dX8_spelled_6 (Nat.le_of_ble_eq_true rfl) rfl ?_
      refine mx_lload dX8_spelled_8 rfl ?_
      refine mx_ldc2 q2079 dX8_spelled_10 ?_
      refine mx_lmul dX8_spelled_13 ?_
      refine mx_iload_n dX8_spelled_14 rfl rfl ?_
      refine mx_i2l dX8_spelled_15 ?_
      refine mx_ladd dX8_spelled_16 ?_
      refine mx_ldc2 q2078 dX8_spelled_17 ?_
      refine mx_lsub dX8_spelled_20 ?_
      refine mx_lstore (al' := [some (iv (108 : Int32)), some (iv (101 : Int32)), some (iv (97 : Int32)), some (iv (115 : Int32)), some (iv (116 : Int32)), some (iv (0 : Int32)), some (jv (((((108 : Int32).toInt64 - (96 : Int64)) * (32 : Int64)) + (101 : Int32).toInt64) - (96 : Int64))), none]) dX8_spelled_21 (Nat.le_of_ble_eq_true rfl) rfl ?_
      refine mx_iload_n dX8_spelled_23 rfl rfl ?_
      refine mx_if_le (tgt := 43) dX8_spelled_24 rfl (fun _ => absurd ‹_› (by decide)) (fun _ => ?_)
      refine mx_lload dX8_spelled_27 rfl ?_
      refine mx_ldc2 q2079 dX8_spelled_29 ?_
      refine mx_lmul dX8_spelled_32 ?_
      refine mx_iload_n dX8_spelled_33 rfl rfl ?_
      refine mx_i2l dX8_spelled_34 ?_
      refine mx_ladd dX8_spelled_35 ?_
      refine mx_ldc2 q2078 dX8_spelled_36 ?_
      refine mx_lsub dX8_spelled_39 ?_
      refine mx_goto (tgt := 45) dX8_spelled_40 rfl ?_
      refine mx_lstore (al' := [some (iv (108 : Int32)), some (iv (101 : Int32)), some (iv (97 : Int32)), some (iv (115 : Int32)), some (iv (116 : Int32)), some (iv (0 : Int32)), some (jv ((((((((108 : Int32).toInt64 - (96 : Int64)) * (32 : Int64)) + (101 : Int32).toInt64) - (96 : Int64)) * (32 : Int64)) + (97 : Int32).toInt64) - (96 : Int64))), none]) dX8_spelled_45 (Nat.le_of_ble_eq_true rfl) rfl ?_
      refine mx_iload_n dX8_spelled_47 rfl rfl ?_
      refine mx_if_le (tgt := 67) dX8_spelled_48 rfl (fun _ => absurd ‹_› (by decide)) (fun _ => ?_)
      refine mx_lload dX8_spelled_51 rfl ?_
      refine mx_ldc2 q2079 dX8_spelled_53 ?_
      refine mx_lmul dX8_spelled_56 ?_
      refine mx_iload_n dX8_spelled_57 rfl rfl ?_
      refine mx_i2l dX8_spelled_58 ?_
      refine mx_ladd dX8_spelled_59 ?_
      refine mx_ldc2 q2078 dX8_spelled_60 ?_
      refine mx_lsub dX8_spelled_63 ?_
      refine mx_goto (tgt := 69) dX8_spelled_64 rfl ?_
      refine mx_lstore (al' := [some (iv (108 : Int32)), some (iv (101 : Int32)), some (iv (97 : Int32)), some (iv (115 : Int32)), some (iv (116 : Int32)), some (iv (0 : Int32)), some (jv (((((((((((108 : Int32).toInt64 - (96 : Int64)) * (32 : Int64)) + (101 : Int32).toInt64) - (96 : Int64)) * (32 : Int64)) + (97 : Int32).toInt64) - (96 : Int64)) * (32 : Int64)) + (115 : Int32).toInt64) - (96 : Int64))), none]) dX8_spelled_69 (Nat.le_of_ble_eq_true rfl) rfl ?_
      refine mx_iload dX8_spelled_71 rfl ?_
      refine mx_if_le (tgt := 93) dX8_spelled_73 rfl (fun _ => absurd ‹_› (by decide)) (fun _ => ?_)
      refine mx_lload dX8_spelled_76 rfl ?_
      refine mx_ldc2 q2079 dX8_spelled_78 ?_
      refine mx_lmul dX8_spelled_81 ?_
      refine mx_iload dX8_spelled_82 rfl ?_
      refine mx_i2l dX8_spelled_84 ?_
      refine mx_ladd dX8_spelled_85 ?_
      refine mx_ldc2 q2078 dX8_spelled_86 ?_
      refine mx_lsub dX8_spelled_89 ?_
      refine mx_goto (tgt := 95) dX8_spelled_90 rfl ?_
      refine mx_lstore (al' := [some (iv (108 : Int32)), some (iv (101 : Int32)), some (iv (97 : Int32)), some (iv (115 : Int32)), some (iv (116 : Int32)), some (iv (0 : Int32)), some (jv ((((((((((((((108 : Int32).toInt64 - (96 : Int64)) * (32 : Int64)) + (101 : Int32).toInt64) - (96 : Int64)) * (32 : Int64)) + (97 : Int32).toInt64) - (96 : Int64)) * (32 : Int64)) + (115 : Int32).toInt64) - (96 : Int64)) * (32 : Int64)) + (116 : Int32).toInt64) - (96 : Int64))), none]) dX8_spelled_95 (Nat.le_of_ble_eq_true rfl) rfl ?_
      refine mx_iload dX8_spelled_97 rfl ?_
      refine mx_if_le (tgt := 119) dX8_spelled_99 rfl (fun _ => ?_) (fun _ => absurd ‹_› (by decide))
      refine mx_lload dX8_spelled_119 rfl ?_
      refine mx_lretK rfl dX8_spelled_121 ?_
      refine mx_tj (show ((((((((((((((108 : Int32).toInt64 - (96 : Int64)) * (32 : Int64)) + (101 : Int32).toInt64) - (96 : Int64)) * (32 : Int64)) + (97 : Int32).toInt64) - (96 : Int64)) * (32 : Int64)) + (115 : Int32).toInt64) - (96 : Int64)) * (32 : Int64)) + (116 : Int32).toInt64) - (96 : Int64)) = (12748404 : Int64) by decide) ?_
      refine mx_callV 8 (y' := mi_X8_isWord) (vs := [jv (12748404 : Int64)]) (st := []) (al' := [some (rv a0), some (jv (12748404 : Int64)), none]) cl_8 V_X8_isWord (Or.inl q2196) dX8_isLeast_15 rfl rfl (Nat.le_of_ble_eq_true rfl) (Nat.le_of_ble_eq_true rfl) (ly8_k La0_h) ?_
      refine mx_aload_n dX8_isWord_0 rfl rfl ?_
      refine mx_get 8 50 (ref := "PrairiePoolModel") cl_8 (Nat.le_of_ble_eq_true rfl) (Or.inl q1677) (Or.inl rfl) dX8_isWord_1 (fv_8_50 _ _) (ly8_k La0_h) ?_
      refine mx_iconst dX8_isWord_4 ic_1 ?_
      refine mx_icmp_ne (tgt := 21) dX8_isWord_5 rfl (fun c3 => ?_) (fun c3 => ?_)
      · have H := H.1 c3
        refine mx_iconst dX8_isWord_21 ic_0 ?_
        refine mx_zretK rfl dX8_isWord_22 (Or.inl rfl) ?_
        refine mx_zretK rfl dX8_isLeast_18 (Or.inl rfl) ?_
        refine mx_if_ne (tgt := 46) dX8_canBeginSum_21 rfl (fun _ => absurd ‹_› (by decide)) (fun _ => ?_)
        refine mx_aload_n dX8_canBeginSum_24 rfl rfl ?_
        refine mx_callV 8 (y' := mi_X8_isMost) (vs := []) (st := []) (al' := [some (rv a0)]) cl_8 V_X8_isMost (Or.inl q2235) dX8_canBeginSum_25 rfl rfl (Nat.le_of_ble_eq_true rfl) (Nat.le_of_ble_eq_true rfl) (ly8_k La0_h) ?_
        refine mx_aload_n dX8_isMost_0 rfl rfl ?_
        refine mx_bipush dX8_isMost_1 ib_109 ?_
        refine mx_bipush dX8_isMost_3 ib_111 ?_
        refine mx_bipush dX8_isMost_5 ib_115 ?_
        refine mx_bipush dX8_isMost_7 ib_116 ?_
        refine mx_iconst dX8_isMost_9 ic_0 ?_
        refine mx_iconst dX8_isMost_10 ic_0 ?_
        refine mx_callS (y' := mi_X8_spelled) (vs := [iv (109 : Int32), iv (111 : Int32), iv (115 : Int32), iv (116 : Int32), iv (0 : Int32), iv (0 : Int32)]) (st := [rv a0]) (al' := [some (iv (109 : Int32)), some (iv (111 : Int32)), some (iv (115 : Int32)), some (iv (116 : Int32)), some (iv (0 : Int32)), some (iv (0 : Int32)), none, none]) S_X8_spelled q2075 dX8_isMost_11 rfl rfl (Nat.le_of_ble_eq_true rfl) (Nat.le_of_ble_eq_true rfl) ?_
        refine mx_iload_n dX8_spelled_0 rfl rfl ?_
        refine mx_i2l dX8_spelled_1 ?_
        refine mx_ldc2 q2078 dX8_spelled_2 ?_
        refine mx_lsub dX8_spelled_5 ?_
        refine mx_lstore (al' := [some (iv (109 : Int32)), some (iv (111 : Int32)), some (iv (115 : Int32)), some (iv (116 : Int32)), some (iv (0 : Int32)), some (iv (0 : Int32)), some (jv ((109 : Int32).toInt64 - (96 : Int64))), none]) dX8_spelled_6 (Nat.le_of_ble_eq_true rfl) rfl ?_
        refine mx_lload dX8_spelled_8 rfl ?_
        refine mx_ldc2 q2079 dX8_spelled_10 ?_
        refine mx_lmul dX8_spelled_13 ?_
        refine mx_iload_n dX8_spelled_14 rfl rfl ?_
        refine mx_i2l dX8_spelled_15 ?_
        refine mx_ladd dX8_spelled_16 ?_
        refine mx_ldc2 q2078 dX8_spelled_17 ?_
        refine mx_lsub dX8_spelled_20 ?_
        refine mx_lstore (al' := [some (iv (109 : Int32)), some (iv (111 : Int32)), some (iv (115 : Int32)), some (iv (116 : Int32)), some (iv (0 : Int32)), some (iv (0 : Int32)), some (jv (((((109 : Int32).toInt64 - (96 : Int64)) * (32 : Int64)) + (111 : Int32).toInt64) - (96 : Int64))), none]) dX8_spelled_21 (Nat.le_of_ble_eq_true rfl) rfl ?_
        refine mx_iload_n dX8_spelled_23 rfl rfl ?_
        refine mx_if_le (tgt := 43) dX8_spelled_24 rfl (fun _ => absurd ‹_› (by decide)) (fun _ => ?_)
        refine mx_lload dX8_spelled_27 rfl ?_
        refine mx_ldc2 q2079 dX8_spelled_29 ?_
        refine mx_lmul dX8_spelled_32 ?_
        refine mx_iload_n dX8_spelled_33 rfl rfl ?_
        refine mx_i2l dX8_spelled_34 ?_
        refine mx_ladd dX8_spelled_35 ?_
        refine mx_ldc2 q2078 dX8_spelled_36 ?_
        refine mx_lsub dX8_spelled_39 ?_
        refine mx_goto (tgt := 45) dX8_spelled_40 rfl ?_
        refine mx_lstore (al' := [some (iv (109 : Int32)), some (iv (111 : Int32)), some (iv (115 : Int32)), some (iv (116 : Int32)), some (iv (0 : Int32)), some (iv (0 : Int32)), some (jv ((((((((109 : Int32).toInt64 - (96 : Int64)) * (32 : Int64)) + (111 : Int32).toInt64) - (96 : Int64)) * (32 : Int64)) + (115 : Int32).toInt64) - (96 : Int64))), none]) dX8_spelled_45 (Nat.le_of_ble_eq_true rfl) rfl ?_
        refine mx_iload_n dX8_spelled_47 rfl rfl ?_
        refine mx_if_le (tgt := 67) dX8_spelled_48 rfl (fun _ => absurd ‹_› (by decide)) (fun _ => ?_)
        refine mx_lload dX8_spelled_51 rfl ?_
        refine mx_ldc2 q2079 dX8_spelled_53 ?_
        refine mx_lmul dX8_spelled_56 ?_
        refine mx_iload_n dX8_spelled_57 rfl rfl ?_
        refine mx_i2l dX8_spelled_58 ?_
        refine mx_ladd dX8_spelled_59 ?_
        refine mx_ldc2 q2078 dX8_spelled_60 ?_
        refine mx_lsub dX8_spelled_63 ?_
        refine mx_goto (tgt := 69) dX8_spelled_64 rfl ?_
        refine mx_lstore (al' := [some (iv (109 : Int32)), some (iv (111 : Int32)), some (iv (115 : Int32)), some (iv (116 : Int32)), some (iv (0 : Int32)), some (iv (0 : Int32)), some (jv (((((((((((109 : Int32).toInt64 - (96 : Int64)) * (32 : Int64)) + (111 : Int32).toInt64) - (96 : Int64)) * (32 : Int64)) + (115 : Int32).toInt64) - (96 : Int64)) * (32 : Int64)) + (116 : Int32).toInt64) - (96 : Int64))), none]) dX8_spelled_69 (Nat.le_of_ble_eq_true rfl) rfl ?_
        refine mx_iload dX8_spelled_71 rfl ?_
        refine mx_if_le (tgt := 93) dX8_spelled_73 rfl (fun _ => ?_) (fun _ => absurd ‹_› (by decide))
        refine mx_lload dX8_spelled_93 rfl ?_
        refine mx_lstore (al' := [some (iv (109 : Int32)), some (iv (111 : Int32)), some (iv (115 : Int32)), some (iv (116 : Int32)), some (iv (0 : Int32)), some (iv (0 : Int32)), some (jv (((((((((((109 : Int32).toInt64 - (96 : Int64)) * (32 : Int64)) + (111 : Int32).toInt64) - (96 : Int64)) * (32 : Int64)) + (115 : Int32).toInt64) - (96 : Int64)) * (32 : Int64)) + (116 : Int32).toInt64) - (96 : Int64))), none]) dX8_spelled_95 (Nat.le_of_ble_eq_true rfl) rfl ?_
        refine mx_iload dX8_spelled_97 rfl ?_
        refine mx_if_le (tgt := 119) dX8_spelled_99 rfl (fun _ => ?_) (fun _ => absurd ‹_› (by decide))
        refine mx_lload dX8_spelled_119 rfl ?_
        refine mx_lretK rfl dX8_spelled_121 ?_
        refine mx_tj (show (((((((((((109 : Int32).toInt64 - (96 : Int64)) * (32 : Int64)) + (111 : Int32).toInt64) - (96 : Int64)) * (32 : Int64)) + (115 : Int32).toInt64) - (96 : Int64)) * (32 : Int64)) + (116 : Int32).toInt64) - (96 : Int64)) = (441972 : Int64) by decide) ?_
        refine mx_callV 8 (y' := mi_X8_isWord) (vs := [jv (441972 : Int64)]) (st := []) (al' := [some (rv a0), some (jv (441972 : Int64)), none]) cl_8 V_X8_isWord (Or.inl q2196) dX8_isMost_14 rfl rfl (Nat.le_of_ble_eq_true rfl) (Nat.le_of_ble_eq_true rfl) (ly8_k La0_h) ?_
        refine mx_aload_n dX8_isWord_0 rfl rfl ?_
        refine mx_get 8 50 (ref := "PrairiePoolModel") cl_8 (Nat.le_of_ble_eq_true rfl) (Or.inl q1677) (Or.inl rfl) dX8_isWord_1 (fv_8_50 _ _) (ly8_k La0_h) ?_
        refine mx_iconst dX8_isWord_4 ic_1 ?_
        refine mx_icmp_ne (tgt := 21) dX8_isWord_5 rfl (fun _ => ?_) (fun q_ => absurd q_ c3)
        refine mx_iconst dX8_isWord_21 ic_0 ?_
        refine mx_zretK rfl dX8_isWord_22 (Or.inl rfl) ?_
        refine mx_zretK rfl dX8_isMost_17 (Or.inl rfl) ?_
        refine mx_if_ne (tgt := 46) dX8_canBeginSum_28 rfl (fun _ => absurd ‹_› (by decide)) (fun _ => ?_)
        refine mx_aload_n dX8_canBeginSum_31 rfl rfl ?_
        refine mx_get 8 50 (ref := "PrairiePoolModel") cl_8 (Nat.le_of_ble_eq_true rfl) (Or.inl q1677) (Or.inl rfl) dX8_canBeginSum_32 (fv_8_50 _ _) (ly8_k La0_h) ?_
        refine mx_iconst dX8_canBeginSum_35 ic_1 ?_
        refine mx_icmp_ne (tgt := 50) dX8_canBeginSum_36 rfl (fun _ => ?_) (fun q_ => absurd q_ c3)
        refine mx_iconst dX8_canBeginSum_50 ic_0 ?_
        exact mx_zret rfl dX8_canBeginSum_51 (Or.inl rfl) H
      · have H := H.2 c3
        refine mx_aload_n dX8_isWord_8 rfl rfl ?_
        refine mx_get 8 55 (ref := "PrairiePoolModel") cl_8 (Nat.le_of_ble_eq_true rfl) (Or.inl q1682) (Or.inl rfl) dX8_isWord_9 (fv_8_55 _ _) (ly8_k La0_h) ?_
        refine mx_lload_n dX8_isWord_12 rfl rfl ?_
        refine mx_lif_ne (tgt := 21) dX8_isWord_13 dX8_isWord_14 rfl (fun c4 => ?_) (fun c4 => ?_)
        · have H := H.1 c4
          refine mx_iconst dX8_isWord_21 ic_0 ?_
          refine mx_zretK rfl dX8_isWord_22 (Or.inl rfl) ?_
          refine mx_zretK rfl dX8_isLeast_18 (Or.inl rfl) ?_
          refine mx_if_ne (tgt := 46) dX8_canBeginSum_21 rfl (fun _ => absurd ‹_› (by decide)) (fun _ => ?_)
          refine mx_aload_n dX8_canBeginSum_24 rfl rfl ?_
          refine mx_callV 8 (y' := mi_X8_isMost) (vs := []) (st := []) (al' := [some (rv a0)]) cl_8 V_X8_isMost (Or.inl q2235) dX8_canBeginSum_25 rfl rfl (Nat.le_of_ble_eq_true rfl) (Nat.le_of_ble_eq_true rfl) (ly8_k La0_h) ?_
          refine mx_aload_n dX8_isMost_0 rfl rfl ?_
          refine mx_bipush dX8_isMost_1 ib_109 ?_
          refine mx_bipush dX8_isMost_3 ib_111 ?_
          refine mx_bipush dX8_isMost_5 ib_115 ?_
          refine mx_bipush dX8_isMost_7 ib_116 ?_
          refine mx_iconst dX8_isMost_9 ic_0 ?_
          refine mx_iconst dX8_isMost_10 ic_0 ?_
          refine mx_callS (y' := mi_X8_spelled) (vs := [iv (109 : Int32), iv (111 : Int32), iv (115 : Int32), iv (116 : Int32), iv (0 : Int32), iv (0 : Int32)]) (st := [rv a0]) (al' := [some (iv (109 : Int32)), some (iv (111 : Int32)), some (iv (115 : Int32)), some (iv (116 : Int32)), some (iv (0 : Int32)), some (iv (0 : Int32)), none, none]) S_X8_spelled q2075 dX8_isMost_11 rfl rfl (Nat.le_of_ble_eq_true rfl) (Nat.le_of_ble_eq_true rfl) ?_
          refine mx_iload_n dX8_spelled_0 rfl rfl ?_
          refine mx_i2l dX8_spelled_1 ?_
          refine mx_ldc2 q2078 dX8_spelled_2 ?_
          refine mx_lsub dX8_spelled_5 ?_
          refine mx_lstore (al' := [some (iv (109 : Int32)), some (iv (111 : Int32)), some (iv (115 : Int32)), some (iv (116 : Int32)), some (iv (0 : Int32)), some (iv (0 : Int32)), some (jv ((109 : Int32).toInt64 - (96 : Int64))), none]) dX8_spelled_6 (Nat.le_of_ble_eq_true rfl) rfl ?_
          refine mx_lload dX8_spelled_8 rfl ?_
          refine mx_ldc2 q2079 dX8_spelled_10 ?_
          refine mx_lmul dX8_spelled_13 ?_
          refine mx_iload_n dX8_spelled_14 rfl rfl ?_
          refine mx_i2l dX8_spelled_15 ?_
          refine mx_ladd dX8_spelled_16 ?_
          refine mx_ldc2 q2078 dX8_spelled_17 ?_
          refine mx_lsub dX8_spelled_20 ?_
          refine mx_lstore (al' := [some (iv (109 : Int32)), some (iv (111 : Int32)), some (iv (115 : Int32)), some (iv (116 : Int32)), some (iv (0 : Int32)), some (iv (0 : Int32)), some (jv (((((109 : Int32).toInt64 - (96 : Int64)) * (32 : Int64)) + (111 : Int32).toInt64) - (96 : Int64))), none]) dX8_spelled_21 (Nat.le_of_ble_eq_true rfl) rfl ?_
          refine mx_iload_n dX8_spelled_23 rfl rfl ?_
          refine mx_if_le (tgt := 43) dX8_spelled_24 rfl (fun _ => absurd ‹_› (by decide)) (fun _ => ?_)
          refine mx_lload dX8_spelled_27 rfl ?_
          refine mx_ldc2 q2079 dX8_spelled_29 ?_
          refine mx_lmul dX8_spelled_32 ?_
          refine mx_iload_n dX8_spelled_33 rfl rfl ?_
          refine mx_i2l dX8_spelled_34 ?_
          refine mx_ladd dX8_spelled_35 ?_
          refine mx_ldc2 q2078 dX8_spelled_36 ?_
          refine mx_lsub dX8_spelled_39 ?_
          refine mx_goto (tgt := 45) dX8_spelled_40 rfl ?_
          refine mx_lstore (al' := [some (iv (109 : Int32)), some (iv (111 : Int32)), some (iv (115 : Int32)), some (iv (116 : Int32)), some (iv (0 : Int32)), some (iv (0 : Int32)), some (jv ((((((((109 : Int32).toInt64 - (96 : Int64)) * (32 : Int64)) + (111 : Int32).toInt64) - (96 : Int64)) * (32 : Int64)) + (115 : Int32).toInt64) - (96 : Int64))), none]) dX8_spelled_45 (Nat.le_of_ble_eq_true rfl) rfl ?_
          refine mx_iload_n dX8_spelled_47 rfl rfl ?_
          refine mx_if_le (tgt := 67) dX8_spelled_48 rfl (fun _ => absurd ‹_› (by decide)) (fun _ => ?_)
          refine mx_lload dX8_spelled_51 rfl ?_
          refine mx_ldc2 q2079 dX8_spelled_53 ?_
          refine mx_lmul dX8_spelled_56 ?_
          refine mx_iload_n dX8_spelled_57 rfl rfl ?_
          refine mx_i2l dX8_spelled_58 ?_
          refine mx_ladd dX8_spelled_59 ?_
          refine mx_ldc2 q2078 dX8_spelled_60 ?_
          refine mx_lsub dX8_spelled_63 ?_
          refine mx_goto (tgt := 69) dX8_spelled_64 rfl ?_
          refine mx_lstore (al' := [some (iv (109 : Int32)), some (iv (111 : Int32)), some (iv (115 : Int32)), some (iv (116 : Int32)), some (iv (0 : Int32)), some (iv (0 : Int32)), some (jv (((((((((((109 : Int32).toInt64 - (96 : Int64)) * (32 : Int64)) + (111 : Int32).toInt64) - (96 : Int64)) * (32 : Int64)) + (115 : Int32).toInt64) - (96 : Int64)) * (32 : Int64)) + (116 : Int32).toInt64) - (96 : Int64))), none]) dX8_spelled_69 (Nat.le_of_ble_eq_true rfl) rfl ?_
          refine mx_iload dX8_spelled_71 rfl ?_
          refine mx_if_le (tgt := 93) dX8_spelled_73 rfl (fun _ => ?_) (fun _ => absurd ‹_› (by decide))
          refine mx_lload dX8_spelled_93 rfl ?_
          refine mx_lstore (al' := [some (iv (109 : Int32)), some (iv (111 : Int32)), some (iv (115 : Int32)), some (iv (116 : Int32)), some (iv (0 : Int32)), some (iv (0 : Int32)), some (jv (((((((((((109 : Int32).toInt64 - (96 : Int64)) * (32 : Int64)) + (111 : Int32).toInt64) - (96 : Int64)) * (32 : Int64)) + (115 : Int32).toInt64) - (96 : Int64)) * (32 : Int64)) + (116 : Int32).toInt64) - (96 : Int64))), none]) dX8_spelled_95 (Nat.le_of_ble_eq_true rfl) rfl ?_
          refine mx_iload dX8_spelled_97 rfl ?_
          refine mx_if_le (tgt := 119) dX8_spelled_99 rfl (fun _ => ?_) (fun _ => absurd ‹_› (by decide))
          refine mx_lload dX8_spelled_119 rfl ?_
          refine mx_lretK rfl dX8_spelled_121 ?_
          refine mx_tj (show (((((((((((109 : Int32).toInt64 - (96 : Int64)) * (32 : Int64)) + (111 : Int32).toInt64) - (96 : Int64)) * (32 : Int64)) + (115 : Int32).toInt64) - (96 : Int64)) * (32 : Int64)) + (116 : Int32).toInt64) - (96 : Int64)) = (441972 : Int64) by decide) ?_
          refine mx_callV 8 (y' := mi_X8_isWord) (vs := [jv (441972 : Int64)]) (st := []) (al' := [some (rv a0), some (jv (441972 : Int64)), none]) cl_8 V_X8_isWord (Or.inl q2196) dX8_isMost_14 rfl rfl (Nat.le_of_ble_eq_true rfl) (Nat.le_of_ble_eq_true rfl) (ly8_k La0_h) ?_
          refine mx_aload_n dX8_isWord_0 rfl rfl ?_
          refine mx_get 8 50 (ref := "PrairiePoolModel") cl_8 (Nat.le_of_ble_eq_true rfl) (Or.inl q1677) (Or.inl rfl) dX8_isWord_1 (fv_8_50 _ _) (ly8_k La0_h) ?_
          refine mx_iconst dX8_isWord_4 ic_1 ?_
          refine mx_icmp_ne (tgt := 21) dX8_isWord_5 rfl (fun q_ => absurd c3 q_) (fun _ => ?_)
          refine mx_aload_n dX8_isWord_8 rfl rfl ?_
          refine mx_get 8 55 (ref := "PrairiePoolModel") cl_8 (Nat.le_of_ble_eq_true rfl) (Or.inl q1682) (Or.inl rfl) dX8_isWord_9 (fv_8_55 _ _) (ly8_k La0_h) ?_
          refine mx_lload_n dX8_isWord_12 rfl rfl ?_
          refine mx_lif_ne (tgt := 21) dX8_isWord_13 dX8_isWord_14 rfl (fun c5 => ?_) (fun c5 => ?_)
          · have H := H.1 c5
            refine mx_iconst dX8_isWord_21 ic_0 ?_
            refine mx_zretK rfl dX8_isWord_22 (Or.inl rfl) ?_
            refine mx_zretK rfl dX8_isMost_17 (Or.inl rfl) ?_
            refine mx_if_ne (tgt := 46) dX8_canBeginSum_28 rfl (fun _ => absurd ‹_› (by decide)) (fun _ => ?_)
            refine mx_aload_n dX8_canBeginSum_31 rfl rfl ?_
            refine mx_get 8 50 (ref := "PrairiePoolModel") cl_8 (Nat.le_of_ble_eq_true rfl) (Or.inl q1677) (Or.inl rfl) dX8_canBeginSum_32 (fv_8_50 _ _) (ly8_k La0_h) ?_
            refine mx_iconst dX8_canBeginSum_35 ic_1 ?_
            refine mx_icmp_ne (tgt := 50) dX8_canBeginSum_36 rfl (fun q_ => absurd c3 q_) (fun _ => ?_)
            refine mx_aload_n dX8_canBeginSum_39 rfl rfl ?_
            refine mx_callV 8 (y' := mi_X8_isKept) (vs := []) (st := []) (al' := [some (rv a0)]) cl_8 V_X8_isKept (Or.inl q2203) dX8_canBeginSum_40 rfl rfl (Nat.le_of_ble_eq_true rfl) (Nat.le_of_ble_eq_true rfl) (ly8_k La0_h) ?_
            refine ma_ki H (fun r7 h6 Xh6 H => ?_) (fun x1 h1 X1 H => mt_out rfl H)
            have H := H Xh6
            have La0_h6 := La0_h.ext Xh6
            refine mx_if_ne (tgt := 50) dX8_canBeginSum_43 rfl (fun c8 => ?_) (fun c8 => ?_)
            · have H := H.1 c8
              refine mx_iconst dX8_canBeginSum_50 ic_0 ?_
              exact mx_zret rfl dX8_canBeginSum_51 (Or.inl rfl) H
            · have H := H.2 c8
              refine mx_iconst dX8_canBeginSum_46 ic_1 ?_
              refine mx_goto (tgt := 51) dX8_canBeginSum_47 rfl ?_
              exact mx_zret rfl dX8_canBeginSum_51 (Or.inr rfl) H
          · have H := H.2 c5
            refine mx_iconst dX8_isWord_17 ic_1 ?_
            refine mx_goto (tgt := 22) dX8_isWord_18 rfl ?_
            refine mx_zretK rfl dX8_isWord_22 (Or.inr rfl) ?_
            refine mx_zretK rfl dX8_isMost_17 (Or.inr rfl) ?_
            refine mx_if_ne (tgt := 46) dX8_canBeginSum_28 rfl (fun _ => ?_) (fun _ => absurd ‹_› (by decide))
            refine mx_iconst dX8_canBeginSum_46 ic_1 ?_
            refine mx_goto (tgt := 51) dX8_canBeginSum_47 rfl ?_
            exact mx_zret rfl dX8_canBeginSum_51 (Or.inr rfl) H
        · have H := H.2 c4
          refine mx_iconst dX8_isWord_17 ic_1 ?_
          refine mx_goto (tgt := 22) dX8_isWord_18 rfl ?_
          refine mx_zretK rfl dX8_isWord_22 (Or.inr rfl) ?_
          refine mx_zretK rfl dX8_isLeast_18 (Or.inr rfl) ?_
          refine mx_if_ne (tgt := 46) dX8_canBeginSum_21 rfl (fun _ => ?_) (fun _ => absurd ‹_› (by decide))
          refine mx_iconst dX8_canBeginSum_46 ic_1 ?_
          refine mx_goto (tgt := 51) dX8_canBeginSum_47 rfl ?_
          exact mx_zret rfl dX8_canBeginSum_51 (Or.inr rfl) H
    · have H := H.2 c2
      refine mx_aload_n dX8_isSign_8 rfl rfl ?_
      refine mx_get 8 53 (ref := "PrairiePoolModel") cl_8 (Nat.le_of_ble_eq_true rfl) (Or.inl q1680) (Or.inl rfl) dX8_isSign_9 (fv_8_53 _ _) (ly8_k La0_h) ?_
      refine mx_iload_n dX8_isSign_12 rfl rfl ?_
      refine mx_icmp_ne (tgt := 20) dX8_isSign_13 rfl (fun c9 => ?_) (fun c9 => ?_)
      · have H := H.1 c9
        refine mx_iconst dX8_isSign_20 ic_0 ?_
        refine mx_zretK rfl dX8_isSign_21 (Or.inl rfl) ?_
        refine mx_if_ne (tgt := 46) dX8_canBeginSum_14 rfl (fun _ => absurd ‹_› (by decide)) (fun _ => ?_)
        refine mx_aload_n dX8_canBeginSum_17 rfl rfl ?_
        refine mx_callV 8 (y' := mi_X8_isLeast) (vs := []) (st := []) (al' := [some (rv a0)]) cl_8 V_X8_isLeast (Or.inl q2231) dX8_canBeginSum_18 rfl rfl (Nat.le_of_ble_eq_true rfl) (Nat.le_of_ble_eq_true rfl) (ly8_k La0_h) ?_
        refine mx_aload_n dX8_isLeast_0 rfl rfl ?_
        refine mx_bipush dX8_isLeast_1 ib_108 ?_
        refine mx_bipush dX8_isLeast_3 ib_101 ?_
        refine mx_bipush dX8_isLeast_5 ib_97 ?_
        refine mx_bipush dX8_isLeast_7 ib_115 ?_
        refine mx_bipush dX8_isLeast_9 ib_116 ?_
        refine mx_iconst dX8_isLeast_11 ic_0 ?_
        refine mx_callS (y' := mi_X8_spelled) (vs := [iv (108 : Int32), iv (101 : Int32), iv (97 : Int32), iv (115 : Int32), iv (116 : Int32), iv (0 : Int32)]) (st := [rv a0]) (al' := [some (iv (108 : Int32)), some (iv (101 : Int32)), some (iv (97 : Int32)), some (iv (115 : Int32)), some (iv (116 : Int32)), some (iv (0 : Int32)), none, none]) S_X8_spelled q2075 dX8_isLeast_12 rfl rfl (Nat.le_of_ble_eq_true rfl) (Nat.le_of_ble_eq_true rfl) ?_
        refine mx_iload_n dX8_spelled_0 rfl rfl ?_
        refine mx_i2l dX8_spelled_1 ?_
        refine mx_ldc2 q2078 dX8_spelled_2 ?_
        refine mx_lsub dX8_spelled_5 ?_
        refine mx_lstore (al' := [some (iv (108 : Int32)), some (iv (101 : Int32)), some (iv (97 : Int32)), some (iv (115 : Int32)), some (iv (116 : Int32)), some (iv (0 : Int32)), some (jv ((108 : Int32).toInt64 - (96 : Int64))), none]) dX8_spelled_6 (Nat.le_of_ble_eq_true rfl) rfl ?_
        refine mx_lload dX8_spelled_8 rfl ?_
        refine mx_ldc2 q2079 dX8_spelled_10 ?_
        refine mx_lmul dX8_spelled_13 ?_
        refine mx_iload_n dX8_spelled_14 rfl rfl ?_
        refine mx_i2l dX8_spelled_15 ?_
        refine mx_ladd dX8_spelled_16 ?_
        refine mx_ldc2 q2078 dX8_spelled_17 ?_
        refine mx_lsub dX8_spelled_20 ?_
        refine mx_lstore (al' := [some (iv (108 : Int32)), some (iv (101 : Int32)), some (iv (97 : Int32)), some (iv (115 : Int32)), some (iv (116 : Int32)), some (iv (0 : Int32)), some (jv (((((108 : Int32).toInt64 - (96 : Int64)) * (32 : Int64)) + (101 : Int32).toInt64) - (96 : Int64))), none]) dX8_spelled_21 (Nat.le_of_ble_eq_true rfl) rfl ?_
        refine mx_iload_n dX8_spelled_23 rfl rfl ?_
        refine mx_if_le (tgt := 43) dX8_spelled_24 rfl (fun _ => absurd ‹_› (by decide)) (fun _ => ?_)
        refine mx_lload dX8_spelled_27 rfl ?_
        refine mx_ldc2 q2079 dX8_spelled_29 ?_
        refine mx_lmul dX8_spelled_32 ?_
        refine mx_iload_n dX8_spelled_33 rfl rfl ?_
        refine mx_i2l dX8_spelled_34 ?_
        refine mx_ladd dX8_spelled_35 ?_
        refine mx_ldc2 q2078 dX8_spelled_36 ?_
        refine mx_lsub dX8_spelled_39 ?_
        refine mx_goto (tgt := 45) dX8_spelled_40 rfl ?_
        refine mx_lstore (al' := [some (iv (108 : Int32)), some (iv (101 : Int32)), some (iv (97 : Int32)), some (iv (115 : Int32)), some (iv (116 : Int32)), some (iv (0 : Int32)), some (jv ((((((((108 : Int32).toInt64 - (96 : Int64)) * (32 : Int64)) + (101 : Int32).toInt64) - (96 : Int64)) * (32 : Int64)) + (97 : Int32).toInt64) - (96 : Int64))), none]) dX8_spelled_45 (Nat.le_of_ble_eq_true rfl) rfl ?_
        refine mx_iload_n dX8_spelled_47 rfl rfl ?_
        refine mx_if_le (tgt := 67) dX8_spelled_48 rfl (fun _ => absurd ‹_› (by decide)) (fun _ => ?_)
        refine mx_lload dX8_spelled_51 rfl ?_
        refine mx_ldc2 q2079 dX8_spelled_53 ?_
        refine mx_lmul dX8_spelled_56 ?_
        refine mx_iload_n dX8_spelled_57 rfl rfl ?_
        refine mx_i2l dX8_spelled_58 ?_
        refine mx_ladd dX8_spelled_59 ?_
        refine mx_ldc2 q2078 dX8_spelled_60 ?_
        refine mx_lsub dX8_spelled_63 ?_
        refine mx_goto (tgt := 69) dX8_spelled_64 rfl ?_
        refine mx_lstore (al' := [some (iv (108 : Int32)), some (iv (101 : Int32)), some (iv (97 : Int32)), some (iv (115 : Int32)), some (iv (116 : Int32)), some (iv (0 : Int32)), some (jv (((((((((((108 : Int32).toInt64 - (96 : Int64)) * (32 : Int64)) + (101 : Int32).toInt64) - (96 : Int64)) * (32 : Int64)) + (97 : Int32).toInt64) - (96 : Int64)) * (32 : Int64)) + (115 : Int32).toInt64) - (96 : Int64))), none]) dX8_spelled_69 (Nat.le_of_ble_eq_true rfl) rfl ?_
        refine mx_iload dX8_spelled_71 rfl ?_
        refine mx_if_le (tgt := 93) dX8_spelled_73 rfl (fun _ => absurd ‹_› (by decide)) (fun _ => ?_)
        refine mx_lload dX8_spelled_76 rfl ?_
        refine mx_ldc2 q2079 dX8_spelled_78 ?_
        refine mx_lmul dX8_spelled_81 ?_
        refine mx_iload dX8_spelled_82 rfl ?_
        refine mx_i2l dX8_spelled_84 ?_
        refine mx_ladd dX8_spelled_85 ?_
        refine mx_ldc2 q2078 dX8_spelled_86 ?_
        refine mx_lsub dX8_spelled_89 ?_
        refine mx_goto (tgt := 95) dX8_spelled_90 rfl ?_
        refine mx_lstore (al' := [some (iv (108 : Int32)), some (iv (101 : Int32)), some (iv (97 : Int32)), some (iv (115 : Int32)), some (iv (116 : Int32)), some (iv (0 : Int32)), some (jv ((((((((((((((108 : Int32).toInt64 - (96 : Int64)) * (32 : Int64)) + (101 : Int32).toInt64) - (96 : Int64)) * (32 : Int64)) + (97 : Int32).toInt64) - (96 : Int64)) * (32 : Int64)) + (115 : Int32).toInt64) - (96 : Int64)) * (32 : Int64)) + (116 : Int32).toInt64) - (96 : Int64))), none]) dX8_spelled_95 (Nat.le_of_ble_eq_true rfl) rfl ?_
        refine mx_iload dX8_spelled_97 rfl ?_
        refine mx_if_le (tgt := 119) dX8_spelled_99 rfl (fun _ => ?_) (fun _ => absurd ‹_› (by decide))
        refine mx_lload dX8_spelled_119 rfl ?_
        refine mx_lretK rfl dX8_spelled_121 ?_
        refine mx_tj (show ((((((((((((((108 : Int32).toInt64 - (96 : Int64)) * (32 : Int64)) + (101 : Int32).toInt64) - (96 : Int64)) * (32 : Int64)) + (97 : Int32).toInt64) - (96 : Int64)) * (32 : Int64)) + (115 : Int32).toInt64) - (96 : Int64)) * (32 : Int64)) + (116 : Int32).toInt64) - (96 : Int64)) = (12748404 : Int64) by decide) ?_
        refine mx_callV 8 (y' := mi_X8_isWord) (vs := [jv (12748404 : Int64)]) (st := []) (al' := [some (rv a0), some (jv (12748404 : Int64)), none]) cl_8 V_X8_isWord (Or.inl q2196) dX8_isLeast_15 rfl rfl (Nat.le_of_ble_eq_true rfl) (Nat.le_of_ble_eq_true rfl) (ly8_k La0_h) ?_
        refine mx_aload_n dX8_isWord_0 rfl rfl ?_
        refine mx_get 8 50 (ref := "PrairiePoolModel") cl_8 (Nat.le_of_ble_eq_true rfl) (Or.inl q1677) (Or.inl rfl) dX8_isWord_1 (fv_8_50 _ _) (ly8_k La0_h) ?_
        refine mx_iconst dX8_isWord_4 ic_1 ?_
        refine mx_icmp_ne (tgt := 21) dX8_isWord_5 rfl (fun c10 => ?_) (fun c10 => ?_)
        · have H := H.1 c10
          refine mx_iconst dX8_isWord_21 ic_0 ?_
          refine mx_zretK rfl dX8_isWord_22 (Or.inl rfl) ?_
          refine mx_zretK rfl dX8_isLeast_18 (Or.inl rfl) ?_
          refine mx_if_ne (tgt := 46) dX8_canBeginSum_21 rfl (fun _ => absurd ‹_› (by decide)) (fun _ => ?_)
          refine mx_aload_n dX8_canBeginSum_24 rfl rfl ?_
          refine mx_callV 8 (y' := mi_X8_isMost) (vs := []) (st := []) (al' := [some (rv a0)]) cl_8 V_X8_isMost (Or.inl q2235) dX8_canBeginSum_25 rfl rfl (Nat.le_of_ble_eq_true rfl) (Nat.le_of_ble_eq_true rfl) (ly8_k La0_h) ?_
          refine mx_aload_n dX8_isMost_0 rfl rfl ?_
          refine mx_bipush dX8_isMost_1 ib_109 ?_
          refine mx_bipush dX8_isMost_3 ib_111 ?_
          refine mx_bipush dX8_isMost_5 ib_115 ?_
          refine mx_bipush dX8_isMost_7 ib_116 ?_
          refine mx_iconst dX8_isMost_9 ic_0 ?_
          refine mx_iconst dX8_isMost_10 ic_0 ?_
          refine mx_callS (y' := mi_X8_spelled) (vs := [iv (109 : Int32), iv (111 : Int32), iv (115 : Int32), iv (116 : Int32), iv (0 : Int32), iv (0 : Int32)]) (st := [rv a0]) (al' := [some (iv (109 : Int32)), some (iv (111 : Int32)), some (iv (115 : Int32)), some (iv (116 : Int32)), some (iv (0 : Int32)), some (iv (0 : Int32)), none, none]) S_X8_spelled q2075 dX8_isMost_11 rfl rfl (Nat.le_of_ble_eq_true rfl) (Nat.le_of_ble_eq_true rfl) ?_
          refine mx_iload_n dX8_spelled_0 rfl rfl ?_
          refine mx_i2l dX8_spelled_1 ?_
          refine mx_ldc2 q2078 dX8_spelled_2 ?_
          refine mx_lsub dX8_spelled_5 ?_
          refine mx_lstore (al' := [some (iv (109 : Int32)), some (iv (111 : Int32)), some (iv (115 : Int32)), some (iv (116 : Int32)), some (iv (0 : Int32)), some (iv (0 : Int32)), some (jv ((109 : Int32).toInt64 - (96 : Int64))), none]) dX8_spelled_6 (Nat.le_of_ble_eq_true rfl) rfl ?_
          refine mx_lload dX8_spelled_8 rfl ?_
          refine mx_ldc2 q2079 dX8_spelled_10 ?_
          refine mx_lmul dX8_spelled_13 ?_
          refine mx_iload_n dX8_spelled_14 rfl rfl ?_
          refine mx_i2l dX8_spelled_15 ?_
          refine mx_ladd dX8_spelled_16 ?_
          refine mx_ldc2 q2078 dX8_spelled_17 ?_
          refine mx_lsub dX8_spelled_20 ?_
          refine mx_lstore (al' := [some (iv (109 : Int32)), some (iv (111 : Int32)), some (iv (115 : Int32)), some (iv (116 : Int32)), some (iv (0 : Int32)), some (iv (0 : Int32)), some (jv (((((109 : Int32).toInt64 - (96 : Int64)) * (32 : Int64)) + (111 : Int32).toInt64) - (96 : Int64))), none]) dX8_spelled_21 (Nat.le_of_ble_eq_true rfl) rfl ?_
          refine mx_iload_n dX8_spelled_23 rfl rfl ?_
          refine mx_if_le (tgt := 43) dX8_spelled_24 rfl (fun _ => absurd ‹_› (by decide)) (fun _ => ?_)
          refine mx_lload dX8_spelled_27 rfl ?_
          refine mx_ldc2 q2079 dX8_spelled_29 ?_
          refine mx_lmul dX8_spelled_32 ?_
          refine mx_iload_n dX8_spelled_33 rfl rfl ?_
          refine mx_i2l dX8_spelled_34 ?_
          refine mx_ladd dX8_spelled_35 ?_
          refine mx_ldc2 q2078 dX8_spelled_36 ?_
          refine mx_lsub dX8_spelled_39 ?_
          refine mx_goto (tgt := 45) dX8_spelled_40 rfl ?_
          refine mx_lstore (al' := [some (iv (109 : Int32)), some (iv (111 : Int32)), some (iv (115 : Int32)), some (iv (116 : Int32)), some (iv (0 : Int32)), some (iv (0 : Int32)), some (jv ((((((((109 : Int32).toInt64 - (96 : Int64)) * (32 : Int64)) + (111 : Int32).toInt64) - (96 : Int64)) * (32 : Int64)) + (115 : Int32).toInt64) - (96 : Int64))), none]) dX8_spelled_45 (Nat.le_of_ble_eq_true rfl) rfl ?_
          refine mx_iload_n dX8_spelled_47 rfl rfl ?_
          refine mx_if_le (tgt := 67) dX8_spelled_48 rfl (fun _ => absurd ‹_› (by decide)) (fun _ => ?_)
          refine mx_lload dX8_spelled_51 rfl ?_
          refine mx_ldc2 q2079 dX8_spelled_53 ?_
          refine mx_lmul dX8_spelled_56 ?_
          refine mx_iload_n dX8_spelled_57 rfl rfl ?_
          refine mx_i2l dX8_spelled_58 ?_
          refine mx_ladd dX8_spelled_59 ?_
          refine mx_ldc2 q2078 dX8_spelled_60 ?_
          refine mx_lsub dX8_spelled_63 ?_
          refine mx_goto (tgt := 69) dX8_spelled_64 rfl ?_
          refine mx_lstore (al' := [some (iv (109 : Int32)), some (iv (111 : Int32)), some (iv (115 : Int32)), some (iv (116 : Int32)), some (iv (0 : Int32)), some (iv (0 : Int32)), some (jv (((((((((((109 : Int32).toInt64 - (96 : Int64)) * (32 : Int64)) + (111 : Int32).toInt64) - (96 : Int64)) * (32 : Int64)) + (115 : Int32).toInt64) - (96 : Int64)) * (32 : Int64)) + (116 : Int32).toInt64) - (96 : Int64))), none]) dX8_spelled_69 (Nat.le_of_ble_eq_true rfl) rfl ?_
          refine mx_iload dX8_spelled_71 rfl ?_
          refine mx_if_le (tgt := 93) dX8_spelled_73 rfl (fun _ => ?_) (fun _ => absurd ‹_› (by decide))
          refine mx_lload dX8_spelled_93 rfl ?_
          refine mx_lstore (al' := [some (iv (109 : Int32)), some (iv (111 : Int32)), some (iv (115 : Int32)), some (iv (116 : Int32)), some (iv (0 : Int32)), some (iv (0 : Int32)), some (jv (((((((((((109 : Int32).toInt64 - (96 : Int64)) * (32 : Int64)) + (111 : Int32).toInt64) - (96 : Int64)) * (32 : Int64)) + (115 : Int32).toInt64) - (96 : Int64)) * (32 : Int64)) + (116 : Int32).toInt64) - (96 : Int64))), none]) dX8_spelled_95 (Nat.le_of_ble_eq_true rfl) rfl ?_
          refine mx_iload dX8_spelled_97 rfl ?_
          refine mx_if_le (tgt := 119) dX8_spelled_99 rfl (fun _ => ?_) (fun _ => absurd ‹_› (by decide))
          refine mx_lload dX8_spelled_119 rfl ?_
          refine mx_lretK rfl dX8_spelled_121 ?_
          refine mx_tj (show (((((((((((109 : Int32).toInt64 - (96 : Int64)) * (32 : Int64)) + (111 : Int32).toInt64) - (96 : Int64)) * (32 : Int64)) + (115 : Int32).toInt64) - (96 : Int64)) * (32 : Int64)) + (116 : Int32).toInt64) - (96 : Int64)) = (441972 : Int64) by decide) ?_
          refine mx_callV 8 (y' := mi_X8_isWord) (vs := [jv (441972 : Int64)]) (st := []) (al' := [some (rv a0), some (jv (441972 : Int64)), none]) cl_8 V_X8_isWord (Or.inl q2196) dX8_isMost_14 rfl rfl (Nat.le_of_ble_eq_true rfl) (Nat.le_of_ble_eq_true rfl) (ly8_k La0_h) ?_
          refine mx_aload_n dX8_isWord_0 rfl rfl ?_
          refine mx_get 8 50 (ref := "PrairiePoolModel") cl_8 (Nat.le_of_ble_eq_true rfl) (Or.inl q1677) (Or.inl rfl) dX8_isWord_1 (fv_8_50 _ _) (ly8_k La0_h) ?_
          refine mx_iconst dX8_isWord_4 ic_1 ?_
          refine mx_icmp_ne (tgt := 21) dX8_isWord_5 rfl (fun _ => ?_) (fun q_ => absurd q_ c10)
          refine mx_iconst dX8_isWord_21 ic_0 ?_
          refine mx_zretK rfl dX8_isWord_22 (Or.inl rfl) ?_
          refine mx_zretK rfl dX8_isMost_17 (Or.inl rfl) ?_
          refine mx_if_ne (tgt := 46) dX8_canBeginSum_28 rfl (fun _ => absurd ‹_› (by decide)) (fun _ => ?_)
          refine mx_aload_n dX8_canBeginSum_31 rfl rfl ?_
          refine mx_get 8 50 (ref := "PrairiePoolModel") cl_8 (Nat.le_of_ble_eq_true rfl) (Or.inl q1677) (Or.inl rfl) dX8_canBeginSum_32 (fv_8_50 _ _) (ly8_k La0_h) ?_
          refine mx_iconst dX8_canBeginSum_35 ic_1 ?_
          refine mx_icmp_ne (tgt := 50) dX8_canBeginSum_36 rfl (fun _ => ?_) (fun q_ => absurd q_ c10)
          refine mx_iconst dX8_canBeginSum_50 ic_0 ?_
          exact mx_zret rfl dX8_canBeginSum_51 (Or.inl rfl) H
        · have H := H.2 c10
          refine mx_aload_n dX8_isWord_8 rfl rfl ?_
          refine mx_get 8 55 (ref := "PrairiePoolModel") cl_8 (Nat.le_of_ble_eq_true rfl) (Or.inl q1682) (Or.inl rfl) dX8_isWord_9 (fv_8_55 _ _) (ly8_k La0_h) ?_
          refine mx_lload_n dX8_isWord_12 rfl rfl ?_
          refine mx_lif_ne (tgt := 21) dX8_isWord_13 dX8_isWord_14 rfl (fun c11 => ?_) (fun c11 => ?_)
          · have H := H.1 c11
            refine mx_iconst dX8_isWord_21 ic_0 ?_
            refine mx_zretK rfl dX8_isWord_22 (Or.inl rfl) ?_
            refine mx_zretK rfl dX8_isLeast_18 (Or.inl rfl) ?_
            refine mx_if_ne (tgt := 46) dX8_canBeginSum_21 rfl (fun _ => absurd ‹_› (by decide)) (fun _ => ?_)
            refine mx_aload_n dX8_canBeginSum_24 rfl rfl ?_
            refine mx_callV 8 (y' := mi_X8_isMost) (vs := []) (st := []) (al' := [some (rv a0)]) cl_8 V_X8_isMost (Or.inl q2235) dX8_canBeginSum_25 rfl rfl (Nat.le_of_ble_eq_true rfl) (Nat.le_of_ble_eq_true rfl) (ly8_k La0_h) ?_
            refine mx_aload_n dX8_isMost_0 rfl rfl ?_
            refine mx_bipush dX8_isMost_1 ib_109 ?_
            refine mx_bipush dX8_isMost_3 ib_111 ?_
            refine mx_bipush dX8_isMost_5 ib_115 ?_
            refine mx_bipush dX8_isMost_7 ib_116 ?_
            refine mx_iconst dX8_isMost_9 ic_0 ?_
            refine mx_iconst dX8_isMost_10 ic_0 ?_
            refine mx_callS (y' := mi_X8_spelled) (vs := [iv (109 : Int32), iv (111 : Int32), iv (115 : Int32), iv (116 : Int32), iv (0 : Int32), iv (0 : Int32)]) (st := [rv a0]) (al' := [some (iv (109 : Int32)), some (iv (111 : Int32)), some (iv (115 : Int32)), some (iv (116 : Int32)), some (iv (0 : Int32)), some (iv (0 : Int32)), none, none]) S_X8_spelled q2075 dX8_isMost_11 rfl rfl (Nat.le_of_ble_eq_true rfl) (Nat.le_of_ble_eq_true rfl) ?_
            refine mx_iload_n dX8_spelled_0 rfl rfl ?_
            refine mx_i2l dX8_spelled_1 ?_
            refine mx_ldc2 q2078 dX8_spelled_2 ?_
            refine mx_lsub dX8_spelled_5 ?_
            refine mx_lstore (al' := [some (iv (109 : Int32)), some (iv (111 : Int32)), some (iv (115 : Int32)), some (iv (116 : Int32)), some (iv (0 : Int32)), some (iv (0 : Int32)), some (jv ((109 : Int32).toInt64 - (96 : Int64))), none]) dX8_spelled_6 (Nat.le_of_ble_eq_true rfl) rfl ?_
            refine mx_lload dX8_spelled_8 rfl ?_
            refine mx_ldc2 q2079 dX8_spelled_10 ?_
            refine mx_lmul dX8_spelled_13 ?_
            refine mx_iload_n dX8_spelled_14 rfl rfl ?_
            refine mx_i2l dX8_spelled_15 ?_
            refine mx_ladd dX8_spelled_16 ?_
            refine mx_ldc2 q2078 dX8_spelled_17 ?_
            refine mx_lsub dX8_spelled_20 ?_
            refine mx_lstore (al' := [some (iv (109 : Int32)), some (iv (111 : Int32)), some (iv (115 : Int32)), some (iv (116 : Int32)), some (iv (0 : Int32)), some (iv (0 : Int32)), some (jv (((((109 : Int32).toInt64 - (96 : Int64)) * (32 : Int64)) + (111 : Int32).toInt64) - (96 : Int64))), none]) dX8_spelled_21 (Nat.le_of_ble_eq_true rfl) rfl ?_
            refine mx_iload_n dX8_spelled_23 rfl rfl ?_
            refine mx_if_le (tgt := 43) dX8_spelled_24 rfl (fun _ => absurd ‹_› (by decide)) (fun _ => ?_)
            refine mx_lload dX8_spelled_27 rfl ?_
            refine mx_ldc2 q2079 dX8_spelled_29 ?_
            refine mx_lmul dX8_spelled_32 ?_
            refine mx_iload_n dX8_spelled_33 rfl rfl ?_
            refine mx_i2l dX8_spelled_34 ?_
            refine mx_ladd dX8_spelled_35 ?_
            refine mx_ldc2 q2078 dX8_spelled_36 ?_
            refine mx_lsub dX8_spelled_39 ?_
            refine mx_goto (tgt := 45) dX8_spelled_40 rfl ?_
            refine mx_lstore (al' := [some (iv (109 : Int32)), some (iv (111 : Int32)), some (iv (115 : Int32)), some (iv (116 : Int32)), some (iv (0 : Int32)), some (iv (0 : Int32)), some (jv ((((((((109 : Int32).toInt64 - (96 : Int64)) * (32 : Int64)) + (111 : Int32).toInt64) - (96 : Int64)) * (32 : Int64)) + (115 : Int32).toInt64) - (96 : Int64))), none]) dX8_spelled_45 (Nat.le_of_ble_eq_true rfl) rfl ?_
            refine mx_iload_n dX8_spelled_47 rfl rfl ?_
            refine mx_if_le (tgt := 67) dX8_spelled_48 rfl (fun _ => absurd ‹_› (by decide)) (fun _ => ?_)
            refine mx_lload dX8_spelled_51 rfl ?_
            refine mx_ldc2 q2079 dX8_spelled_53 ?_
            refine mx_lmul dX8_spelled_56 ?_
            refine mx_iload_n dX8_spelled_57 rfl rfl ?_
            refine mx_i2l dX8_spelled_58 ?_
            refine mx_ladd dX8_spelled_59 ?_
            refine mx_ldc2 q2078 dX8_spelled_60 ?_
            refine mx_lsub dX8_spelled_63 ?_
            refine mx_goto (tgt := 69) dX8_spelled_64 rfl ?_
            refine mx_lstore (al' := [some (iv (109 : Int32)), some (iv (111 : Int32)), some (iv (115 : Int32)), some (iv (116 : Int32)), some (iv (0 : Int32)), some (iv (0 : Int32)), some (jv (((((((((((109 : Int32).toInt64 - (96 : Int64)) * (32 : Int64)) + (111 : Int32).toInt64) - (96 : Int64)) * (32 : Int64)) + (115 : Int32).toInt64) - (96 : Int64)) * (32 : Int64)) + (116 : Int32).toInt64) - (96 : Int64))), none]) dX8_spelled_69 (Nat.le_of_ble_eq_true rfl) rfl ?_
            refine mx_iload dX8_spelled_71 rfl ?_
            refine mx_if_le (tgt := 93) dX8_spelled_73 rfl (fun _ => ?_) (fun _ => absurd ‹_› (by decide))
            refine mx_lload dX8_spelled_93 rfl ?_
            refine mx_lstore (al' := [some (iv (109 : Int32)), some (iv (111 : Int32)), some (iv (115 : Int32)), some (iv (116 : Int32)), some (iv (0 : Int32)), some (iv (0 : Int32)), some (jv (((((((((((109 : Int32).toInt64 - (96 : Int64)) * (32 : Int64)) + (111 : Int32).toInt64) - (96 : Int64)) * (32 : Int64)) + (115 : Int32).toInt64) - (96 : Int64)) * (32 : Int64)) + (116 : Int32).toInt64) - (96 : Int64))), none]) dX8_spelled_95 (Nat.le_of_ble_eq_true rfl) rfl ?_
            refine mx_iload dX8_spelled_97 rfl ?_
            refine mx_if_le (tgt := 119) dX8_spelled_99 rfl (fun _ => ?_) (fun _ => absurd ‹_› (by decide))
            refine mx_lload dX8_spelled_119 rfl ?_
            refine mx_lretK rfl dX8_spelled_121 ?_
            refine mx_tj (show (((((((((((109 : Int32).toInt64 - (96 : Int64)) * (32 : Int64)) + (111 : Int32).toInt64) - (96 : Int64)) * (32 : Int64)) + (115 : Int32).toInt64) - (96 : Int64)) * (32 : Int64)) + (116 : Int32).toInt64) - (96 : Int64)) = (441972 : Int64) by decide) ?_
            refine mx_callV 8 (y' := mi_X8_isWord) (vs := [jv (441972 : Int64)]) (st := []) (al' := [some (rv a0), some (jv (441972 : Int64)), none]) cl_8 V_X8_isWord (Or.inl q2196) dX8_isMost_14 rfl rfl (Nat.le_of_ble_eq_true rfl) (Nat.le_of_ble_eq_true rfl) (ly8_k La0_h) ?_
            refine mx_aload_n dX8_isWord_0 rfl rfl ?_
            refine mx_get 8 50 (ref := "PrairiePoolModel") cl_8 (Nat.le_of_ble_eq_true rfl) (Or.inl q1677) (Or.inl rfl) dX8_isWord_1 (fv_8_50 _ _) (ly8_k La0_h) ?_
            refine mx_iconst dX8_isWord_4 ic_1 ?_
            refine mx_icmp_ne (tgt := 21) dX8_isWord_5 rfl (fun q_ => absurd c10 q_) (fun _ => ?_)
            refine mx_aload_n dX8_isWord_8 rfl rfl ?_
            refine mx_get 8 55 (ref := "PrairiePoolModel") cl_8 (Nat.le_of_ble_eq_true rfl) (Or.inl q1682) (Or.inl rfl) dX8_isWord_9 (fv_8_55 _ _) (ly8_k La0_h) ?_
            refine mx_lload_n dX8_isWord_12 rfl rfl ?_
            refine mx_lif_ne (tgt := 21) dX8_isWord_13 dX8_isWord_14 rfl (fun c12 => ?_) (fun c12 => ?_)
            · have H := H.1 c12
              refine mx_iconst dX8_isWord_21 ic_0 ?_
              refine mx_zretK rfl dX8_isWord_22 (Or.inl rfl) ?_
              refine mx_zretK rfl dX8_isMost_17 (Or.inl rfl) ?_
              refine mx_if_ne (tgt := 46) dX8_canBeginSum_28 rfl (fun _ => absurd ‹_› (by decide)) (fun _ => ?_)
              refine mx_aload_n dX8_canBeginSum_31 rfl rfl ?_
              refine mx_get 8 50 (ref := "PrairiePoolModel") cl_8 (Nat.le_of_ble_eq_true rfl) (Or.inl q1677) (Or.inl rfl) dX8_canBeginSum_32 (fv_8_50 _ _) (ly8_k La0_h) ?_
              refine mx_iconst dX8_canBeginSum_35 ic_1 ?_
              refine mx_icmp_ne (tgt := 50) dX8_canBeginSum_36 rfl (fun q_ => absurd c10 q_) (fun _ => ?_)
              refine mx_aload_n dX8_canBeginSum_39 rfl rfl ?_
              refine mx_callV 8 (y' := mi_X8_isKept) (vs := []) (st := []) (al' := [some (rv a0)]) cl_8 V_X8_isKept (Or.inl q2203) dX8_canBeginSum_40 rfl rfl (Nat.le_of_ble_eq_true rfl) (Nat.le_of_ble_eq_true rfl) (ly8_k La0_h) ?_
              refine ma_ki H (fun r14 h13 Xh13 H => ?_) (fun x1 h1 X1 H => mt_out rfl H)
              have H := H Xh13
              have La0_h13 := La0_h.ext Xh13
              refine mx_if_ne (tgt := 50) dX8_canBeginSum_43 rfl (fun c15 => ?_) (fun c15 => ?_)
              · have H := H.1 c15
                refine mx_iconst dX8_canBeginSum_50 ic_0 ?_
                exact mx_zret rfl dX8_canBeginSum_51 (Or.inl rfl) H
              · have H := H.2 c15
                refine mx_iconst dX8_canBeginSum_46 ic_1 ?_
                refine mx_goto (tgt := 51) dX8_canBeginSum_47 rfl ?_
                exact mx_zret rfl dX8_canBeginSum_51 (Or.inr rfl) H
            · have H := H.2 c12
              refine mx_iconst dX8_isWord_17 ic_1 ?_
              refine mx_goto (tgt := 22) dX8_isWord_18 rfl ?_
              refine mx_zretK rfl dX8_isWord_22 (Or.inr rfl) ?_
              refine mx_zretK rfl dX8_isMost_17 (Or.inr rfl) ?_
              refine mx_if_ne (tgt := 46) dX8_canBeginSum_28 rfl (fun _ => ?_) (fun _ => absurd ‹_› (by decide))
              refine mx_iconst dX8_canBeginSum_46 ic_1 ?_
              refine mx_goto (tgt := 51) dX8_canBeginSum_47 rfl ?_
              exact mx_zret rfl dX8_canBeginSum_51 (Or.inr rfl) H
          · have H := H.2 c11
            refine mx_iconst dX8_isWord_17 ic_1 ?_
            refine mx_goto (tgt := 22) dX8_isWord_18 rfl ?_
            refine mx_zretK rfl dX8_isWord_22 (Or.inr rfl) ?_
            refine mx_zretK rfl dX8_isLeast_18 (Or.inr rfl) ?_
            refine mx_if_ne (tgt := 46) dX8_canBeginSum_21 rfl (fun _ => ?_) (fun _ => absurd ‹_› (by decide))
            refine mx_iconst dX8_canBeginSum_46 ic_1 ?_
            refine mx_goto (tgt := 51) dX8_canBeginSum_47 rfl ?_
            exact mx_zret rfl dX8_canBeginSum_51 (Or.inr rfl) H
      · have H := H.2 c9
        refine mx_iconst dX8_isSign_16 ic_1 ?_
        refine mx_goto (tgt := 21) dX8_isSign_17 rfl ?_
        refine mx_zretK rfl dX8_isSign_21 (Or.inr rfl) ?_
        refine mx_if_ne (tgt := 46) dX8_canBeginSum_14 rfl (fun _ => ?_) (fun _ => absurd ‹_› (by decide))
        refine mx_iconst dX8_canBeginSum_46 ic_1 ?_
        refine mx_goto (tgt := 51) dX8_canBeginSum_47 rfl ?_
        exact mx_zret rfl dX8_canBeginSum_51 (Or.inr rfl) H
theorem dX8_readSum_0 : decode mi_X8_readSum.2.1 0 = .ok (.aload_n 0, 1) := by decide +kernel
theorem dX8_readSum_1 : decode mi_X8_readSum.2.1 1 = .ok (.iload_n 1, 1) := by decide +kernel
theorem dX8_readSum_2 : decode mi_X8_readSum.2.1 2 = .ok (.invokevirtual 537, 3) := by decide +kernel
theorem dX8_readSum_5 : decode mi_X8_readSum.2.1 5 = .ok (.aload_n 0, 1) := by decide +kernel
theorem dX8_readSum_6 : decode mi_X8_readSum.2.1 6 = .ok (.getfield 453, 3) := by decide +kernel
theorem dX8_readSum_9 : decode mi_X8_readSum.2.1 9 = .ok (.ifCond .ne 54, 3) := by decide +kernel
theorem dX8_readSum_12 : decode mi_X8_readSum.2.1 12 = .ok (.aload_n 0, 1) := by decide +kernel
theorem dX8_readSum_13 : decode mi_X8_readSum.2.1 13 = .ok (.bipush 43, 2) := by decide +kernel
theorem dX8_readSum_15 : decode mi_X8_readSum.2.1 15 = .ok (.invokevirtual 507, 3) := by decide +kernel
theorem dX8_readSum_18 : decode mi_X8_readSum.2.1 18 = .ok (.ifCond .ne 12, 3) := by decide +kernel
theorem dX8_readSum_21 : decode mi_X8_readSum.2.1 21 = .ok (.aload_n 0, 1) := by decide +kernel
theorem dX8_readSum_22 : decode mi_X8_readSum.2.1 22 = .ok (.bipush 45, 2) := by decide +kernel
theorem dX8_readSum_24 : decode mi_X8_readSum.2.1 24 = .ok (.invokevirtual 507, 3) := by decide +kernel
theorem dX8_readSum_27 : decode mi_X8_readSum.2.1 27 = .ok (.ifCond .eq 36, 3) := by decide +kernel
theorem dX8_readSum_30 : decode mi_X8_readSum.2.1 30 = .ok (.aload_n 0, 1) := by decide +kernel
theorem dX8_readSum_31 : decode mi_X8_readSum.2.1 31 = .ok (.bipush 43, 2) := by decide +kernel
theorem dX8_readSum_33 : decode mi_X8_readSum.2.1 33 = .ok (.invokevirtual 507, 3) := by decide +kernel
theorem dX8_readSum_36 : decode mi_X8_readSum.2.1 36 = .ok (.ifCond .eq 7, 3) := by decide +kernel
theorem dX8_readSum_39 : decode mi_X8_readSum.2.1 39 = .ok (.iconst 3, 1) := by decide +kernel
theorem dX8_readSum_40 : decode mi_X8_readSum.2.1 40 = .ok (.goto 4, 3) := by decide +kernel
theorem dX8_readSum_43 : decode mi_X8_readSum.2.1 43 = .ok (.iconst 4, 1) := by decide +kernel
theorem dX8_readSum_44 : decode mi_X8_readSum.2.1 44 = .ok (.istore_n 2, 1) := by decide +kernel
theorem dX8_readSum_45 : decode mi_X8_readSum.2.1 45 = .ok (.aload_n 0, 1) := by decide +kernel
theorem dX8_readSum_46 : decode mi_X8_readSum.2.1 46 = .ok (.invokevirtual 522, 3) := by decide +kernel
theorem dX8_readSum_49 : decode mi_X8_readSum.2.1 49 = .ok (.aload_n 0, 1) := by decide +kernel
theorem dX8_readSum_50 : decode mi_X8_readSum.2.1 50 = .ok (.iload_n 1, 1) := by decide +kernel
theorem dX8_readSum_51 : decode mi_X8_readSum.2.1 51 = .ok (.invokevirtual 537, 3) := by decide +kernel
theorem dX8_readSum_54 : decode mi_X8_readSum.2.1 54 = .ok (.aload_n 0, 1) := by decide +kernel
theorem dX8_readSum_55 : decode mi_X8_readSum.2.1 55 = .ok (.iload_n 2, 1) := by decide +kernel
theorem dX8_readSum_56 : decode mi_X8_readSum.2.1 56 = .ok (.iconst 0, 1) := by decide +kernel
theorem dX8_readSum_57 : decode mi_X8_readSum.2.1 57 = .ok (.invokevirtual 528, 3) := by decide +kernel
theorem dX8_readSum_60 : decode mi_X8_readSum.2.1 60 = .ok (.goto (-55), 3) := by decide +kernel
theorem dX8_readSum_63 : decode mi_X8_readSum.2.1 63 = .ok (.return_, 1) := by decide +kernel
theorem v_X8_readSum {G : ma_G} {d : Nat} {a0 : Nat} {x1 : Int32} {h : ah_T} {Q : Option ma_V → ah_T → Prop} {E : Nat → ah_T → Prop} (La0_h : LY8 h a0) (H : MX G mi_X8_readItem d 0 [some (rv a0), some (iv x1), none] [] h (Qv fun h1 => ah_ext h h1 → MX G mi_X8_readSum (d + 1) 5 [some (rv a0), some (iv x1), none] [] h1 Q E) E) : MX G mi_X8_readSum (d + 1) 0 [some (rv a0), some (iv x1), none] [] h Q E := by
  refine mx_aload_n dX8_readSum_0 rfl rfl ?_
  refine mx_iload_n dX8_readSum_1 rfl rfl ?_
  refine mx_callV 8 (y' := mi_X8_readItem) (vs := [iv x1]) (st := []) (al' := [some (rv a0), some (iv x1), none]) cl_8 V_X8_readItem (Or.inl q2271) dX8_readSum_2 rfl rfl (Nat.le_of_ble_eq_true rfl) (Nat.le_of_ble_eq_true rfl) (ly8_k La0_h) ?_
  refine ma_kv H (fun h1 Xh1 H => ?_) (fun x1 h1 X1 H => mt_out rfl H)
  have H := H Xh1
  have La0_h1 := La0_h.ext Xh1
  exact mx_weak (al' := [some (rv a0), some (iv x1), none]) ⟨rfl, ⟨rfl, trivial⟩⟩ H
theorem v_X8_readSum_5 {G : ma_G} {d : Nat} {a0 : Nat} {x1 : Int32} {h : ah_T} {Q : Option ma_V → ah_T → Prop} {E : Nat → ah_T → Prop} (La0_h : LY8 h a0) (H : (¬ (ah_I h a0 48) = 0 → Q none h) ∧ ((ah_I h a0 48) = 0 → (¬ (ah_I h a0 50) = (3 : Int32) → Q none h) ∧ ((ah_I h a0 50) = (3 : Int32) → (¬ (ah_I h a0 53) = (43 : Int32) → (¬ (ah_I h a0 53) = (45 : Int32) → Q none h) ∧ ((ah_I h a0 53) = (45 : Int32) → MX G mi_X8_readSum (d + 1) 30 [some (rv a0), some (iv x1), none] [] h Q E)) ∧ ((ah_I h a0 53) = (43 : Int32) → MX G mi_X8_readSum (d + 1) 30 [some (rv a0), some (iv x1), none] [] h Q E)))) : MX G mi_X8_readSum (d + 1) 5 [some (rv a0), some (iv x1), none] [] h Q E := by
  refine mx_aload_n dX8_readSum_5 rfl rfl ?_
  refine mx_get 8 48 (ref := "PrairiePoolModel") cl_8 (Nat.le_of_ble_eq_true rfl) (Or.inl q1675) (Or.inl rfl) dX8_readSum_6 (fv_8_48 _ _) (ly8_k La0_h) ?_
  refine mx_if_ne (tgt := 63) dX8_readSum_9 rfl (fun c1 => ?_) (fun c1 => ?_)
  · have H := H.1 c1
    exact mx_vret rfl dX8_readSum_63 H
  · have H := H.2 c1
    refine mx_aload_n dX8_readSum_12 rfl rfl ?_
    refine mx_bipush dX8_readSum_13 ib_43 ?_
    refine mx_callV 8 (y' := mi_X8_isSign) (vs := [iv (43 : Int32)]) (st := []) (al' := [some (rv a0), some (iv (43 : Int32))]) cl_8 V_X8_isSign (Or.inl q2251) dX8_readSum_15 rfl rfl (Nat.le_of_ble_eq_true rfl) (Nat.le_of_ble_eq_true rfl) (ly8_k La0_h) ?_
    refine mx_aload_n dX8_isSign_0 rfl rfl ?_
    refine mx_get 8 50 (ref := "PrairiePoolModel") cl_8 (Nat.le_of_ble_eq_true rfl) (Or.inl q1677) (Or.inl rfl) dX8_isSign_1 (fv_8_50 _ _) (ly8_k La0_h) ?_
    refine mx_iconst dX8_isSign_4 ic_3 ?_
    refine mx_icmp_ne (tgt := 20) dX8_isSign_5 rfl (fun c2 => ?_) (fun c2 => ?_)
    · have H := H.1 c2
      refine mx_iconst dX8_isSign_20 ic_0 ?_
      refine mx_zretK rfl dX8_isSign_21 (Or.inl rfl) ?_
      refine mx_if_ne (tgt := 30) dX8_readSum_18 rfl (fun _ => absurd ‹_› (by decide)) (fun _ => ?_)
      refine mx_aload_n dX8_readSum_21 rfl rfl ?_
      refine mx_bipush dX8_readSum_22 ib_45 ?_
      refine mx_callV 8 (y' := mi_X8_isSign) (vs := [iv (45 : Int32)]) (st := []) (al' := [some (rv a0), some (iv (45 : Int32))]) cl_8 V_X8_isSign (Or.inl q2251) dX8_readSum_24 rfl rfl (Nat.le_of_ble_eq_true rfl) (Nat.le_of_ble_eq_true rfl) (ly8_k La0_h) ?_
      refine mx_aload_n dX8_isSign_0 rfl rfl ?_
      refine mx_get 8 50 (ref := "PrairiePoolModel") cl_8 (Nat.le_of_ble_eq_true rfl) (Or.inl q1677) (Or.inl rfl) dX8_isSign_1 (fv_8_50 _ _) (ly8_k La0_h) ?_
      refine mx_iconst dX8_isSign_4 ic_3 ?_
      refine mx_icmp_ne (tgt := 20) dX8_isSign_5 rfl (fun _ => ?_) (fun q_ => absurd q_ c2)
      refine mx_iconst dX8_isSign_20 ic_0 ?_
      refine mx_zretK rfl dX8_isSign_21 (Or.inl rfl) ?_
      refine mx_if_eq (tgt := 63) dX8_readSum_27 rfl (fun _ => ?_) (fun _ => absurd ‹_› (by decide))
      exact mx_vret rfl dX8_readSum_63 H
    · have H := H.2 c2
      refine mx_aload_n dX8_isSign_8 rfl rfl ?_
      refine mx_get 8 53 (ref := "PrairiePoolModel") cl_8 (Nat.le_of_ble_eq_true rfl) (Or.inl q1680) (Or.inl rfl) dX8_isSign_9 (fv_8_53 _ _) (ly8_k La0_h) ?_
      refine mx_iload_n dX8_isSign_12 rfl rfl ?_
      refine mx_icmp_ne (tgt := 20) dX8_isSign_13 rfl (fun c3 => ?_) (fun c3 => ?_)
      · have H := H.1 c3
        refine mx_iconst dX8_isSign_20 ic_0 ?_
        refine mx_zretK rfl dX8_isSign_21 (Or.inl rfl) ?_
        refine mx_if_ne (tgt := 30) dX8_readSum_18 rfl (fun _ => absurd ‹_› (by decide)) (fun _ => ?_)
        refine mx_aload_n dX8_readSum_21 rfl rfl ?_
        refine mx_bipush dX8_readSum_22 ib_45 ?_
        refine mx_callV 8 (y' := mi_X8_isSign) (vs := [iv (45 : Int32)]) (st := []) (al' := [some (rv a0), some (iv (45 : Int32))]) cl_8 V_X8_isSign (Or.inl q2251) dX8_readSum_24 rfl rfl (Nat.le_of_ble_eq_true rfl) (Nat.le_of_ble_eq_true rfl) (ly8_k La0_h) ?_
        refine mx_aload_n dX8_isSign_0 rfl rfl ?_
        refine mx_get 8 50 (ref := "PrairiePoolModel") cl_8 (Nat.le_of_ble_eq_true rfl) (Or.inl q1677) (Or.inl rfl) dX8_isSign_1 (fv_8_50 _ _) (ly8_k La0_h) ?_
        refine mx_iconst dX8_isSign_4 ic_3 ?_
        refine mx_icmp_ne (tgt := 20) dX8_isSign_5 rfl (fun q_ => absurd c2 q_) (fun _ => ?_)
        refine mx_aload_n dX8_isSign_8 rfl rfl ?_
        refine mx_get 8 53 (ref := "PrairiePoolModel") cl_8 (Nat.le_of_ble_eq_true rfl) (Or.inl q1680) (Or.inl rfl) dX8_isSign_9 (fv_8_53 _ _) (ly8_k La0_h) ?_
        refine mx_iload_n dX8_isSign_12 rfl rfl ?_
        refine mx_icmp_ne (tgt := 20) dX8_isSign_13 rfl (fun c4 => ?_) (fun c4 => ?_)
        · have H := H.1 c4
          refine mx_iconst dX8_isSign_20 ic_0 ?_
          refine mx_zretK rfl dX8_isSign_21 (Or.inl rfl) ?_
          refine mx_if_eq (tgt := 63) dX8_readSum_27 rfl (fun _ => ?_) (fun _ => absurd ‹_› (by decide))
          exact mx_vret rfl dX8_readSum_63 H
        · have H := H.2 c4
          refine mx_iconst dX8_isSign_16 ic_1 ?_
          refine mx_goto (tgt := 21) dX8_isSign_17 rfl ?_
          refine mx_zretK rfl dX8_isSign_21 (Or.inr rfl) ?_
          refine mx_if_eq (tgt := 63) dX8_readSum_27 rfl (fun _ => absurd ‹_› (by decide)) (fun _ => ?_)
          exact mx_weak (al' := [some (rv a0), some (iv x1), none]) ⟨rfl, ⟨rfl, trivial⟩⟩ H
      · have H := H.2 c3
        refine mx_iconst dX8_isSign_16 ic_1 ?_
        refine mx_goto (tgt := 21) dX8_isSign_17 rfl ?_
        refine mx_zretK rfl dX8_isSign_21 (Or.inr rfl) ?_
        refine mx_if_ne (tgt := 30) dX8_readSum_18 rfl (fun _ => ?_) (fun _ => absurd ‹_› (by decide))
        exact mx_weak (al' := [some (rv a0), some (iv x1), none]) ⟨rfl, ⟨rfl, trivial⟩⟩ H
theorem v_X8_readSum_30 {G : ma_G} {d : Nat} {a0 : Nat} {x1 : Int32} {h : ah_T} {Q : Option ma_V → ah_T → Prop} {E : Nat → ah_T → Prop} (La0_h : LY8 h a0) (H : (¬ (ah_I h a0 50) = (3 : Int32) → MX G mi_X8_next d 0 [some (rv a0), none] [] h (Qv fun h2 => ah_ext h h2 → MX G mi_X8_readItem d 0 [some (rv a0), some (iv x1), none] [] h2 (Qv fun h4 => ah_ext h2 h4 → vp_in (ah_I h4 a0 58) 1100 ∧ ∀ h7 : ah_T, h7 = ah_wI h4 (a0 + 41) (ah_I h4 a0 58).toNatClampNeg (((1048576 : Int32) * (4 : Int32)) + (0 : Int32)) → ah_ext h4 h7 → ∀ h8 : ah_T, h8 = ah_wI h7 a0 58 ((ah_I h4 a0 58) + (1 : Int32)) → ah_ext h7 h8 → MX G mi_X8_readSum (d + 1) 5 [some (rv a0), some (iv x1), none] [] h8 Q E) E) E) ∧ ((ah_I h a0 50) = (3 : Int32) → (¬ (ah_I h a0 53) = (43 : Int32) → MX G mi_X8_next d 0 [some (rv a0), none] [] h (Qv fun h10 => ah_ext h h10 → MX G mi_X8_readItem d 0 [some (rv a0), some (iv x1), none] [] h10 (Qv fun h12 => ah_ext h10 h12 → vp_in (ah_I h12 a0 58) 1100 ∧ ∀ h15 : ah_T, h15 = ah_wI h12 (a0 + 41) (ah_I h12 a0 58).toNatClampNeg (((1048576 : Int32) * (4 : Int32)) + (0 : Int32)) → ah_ext h12 h15 → ∀ h16 : ah_T, h16 = ah_wI h15 a0 58 ((ah_I h12 a0 58) + (1 : Int32)) → ah_ext h15 h16 → MX G mi_X8_readSum (d + 1) 5 [some (rv a0), some (iv x1), none] [] h16 Q E) E) E) ∧ ((ah_I h a0 53) = (43 : Int32) → MX G mi_X8_next d 0 [some (rv a0), none] [] h (Qv fun h17 => ah_ext h h17 → MX G mi_X8_readItem d 0 [some (rv a0), some (iv x1), none] [] h17 (Qv fun h19 => ah_ext h17 h19 → vp_in (ah_I h19 a0 58) 1100 ∧ ∀ h22 : ah_T, h22 = ah_wI h19 (a0 + 41) (ah_I h19 a0 58).toNatClampNeg (((1048576 : Int32) * (3 : Int32)) + (0 : Int32)) → ah_ext h19 h22 → ∀ h23 : ah_T, h23 = ah_wI h22 a0 58 ((ah_I h19 a0 58) + (1 : Int32)) → ah_ext h22 h23 → MX G mi_X8_readSum (d + 1) 5 [some (rv a0), some (iv x1), none] [] h23 Q E) E) E))) : MX G mi_X8_readSum (d + 1) 30 [some (rv a0), some (iv x1), none] [] h Q E := by
  refine mx_aload_n dX8_readSum_30 rfl rfl ?_
  refine mx_bipush dX8_readSum_31 ib_43 ?_
  refine mx_callV 8 (y' := mi_X8_isSign) (vs := [iv (43 : Int32)]) (st := []) (al' := [some (rv a0), some (iv (43 : Int32))]) cl_8 V_X8_isSign (Or.inl q2251) dX8_readSum_33 rfl rfl (Nat.le_of_ble_eq_true rfl) (Nat.le_of_ble_eq_true rfl) (ly8_k La0_h) ?_
  refine mx_aload_n dX8_isSign_0 rfl rfl ?_
  refine mx_get 8 50 (ref := "PrairiePoolModel") cl_8 (Nat.le_of_ble_eq_true rfl) (Or.inl q1677) (Or.inl rfl) dX8_isSign_1 (fv_8_50 _ _) (ly8_k La0_h) ?_
  refine mx_iconst dX8_isSign_4 ic_3 ?_
  refine mx_icmp_ne (tgt := 20) dX8_isSign_5 rfl (fun c1 => ?_) (fun c1 => ?_)
  · have H := H.1 c1
    refine mx_iconst dX8_isSign_20 ic_0 ?_
    refine mx_zretK rfl dX8_isSign_21 (Or.inl rfl) ?_
    refine mx_if_eq (tgt := 43) dX8_readSum_36 rfl (fun _ => ?_) (fun _ => absurd ‹_› (by decide))
    refine mx_iconst dX8_readSum_43 ic_4 ?_
    refine mx_istore_n (al' := [some (rv a0), some (iv x1), some (iv (4 : Int32))]) dX8_readSum_44 rfl (Nat.le_of_ble_eq_true rfl) rfl ?_
    refine mx_aload_n dX8_readSum_45 rfl rfl ?_
    refine mx_callV 8 (y' := mi_X8_next) (vs := []) (st := []) (al' := [some (rv a0), none]) cl_8 V_X8_next (Or.inl q2170) dX8_readSum_46 rfl rfl (Nat.le_of_ble_eq_true rfl) (Nat.le_of_ble_eq_true rfl) (ly8_k La0_h) ?_
    refine ma_kv H (fun h2 Xh2 H => ?_) (fun x1 h1 X1 H => mt_out rfl H)
    have H := H Xh2
    have La0_h2 := La0_h.ext Xh2
    refine mx_aload_n dX8_readSum_49 rfl rfl ?_
    refine mx_iload_n dX8_readSum_50 rfl rfl ?_
    refine mx_callV 8 (y' := mi_X8_readItem) (vs := [iv x1]) (st := []) (al' := [some (rv a0), some (iv x1), none]) cl_8 V_X8_readItem (Or.inl q2271) dX8_readSum_51 rfl rfl (Nat.le_of_ble_eq_true rfl) (Nat.le_of_ble_eq_true rfl) (ly8_k La0_h2) ?_
    refine ma_kv H (fun h4 Xh4 H => ?_) (fun x1 h1 X1 H => mt_out rfl H)
    have H := H Xh4
    have La0_h4 := La0_h2.ext Xh4
    refine mx_aload_n dX8_readSum_54 rfl rfl ?_
    refine mx_iload_n dX8_readSum_55 rfl rfl ?_
    refine mx_iconst dX8_readSum_56 ic_0 ?_
    refine mx_callV 8 (y' := mi_X8_mark) (vs := [iv (4 : Int32), iv (0 : Int32)]) (st := []) (al' := [some (rv a0), some (iv (4 : Int32)), some (iv (0 : Int32))]) cl_8 V_X8_mark (Or.inl q2279) dX8_readSum_57 rfl rfl (Nat.le_of_ble_eq_true rfl) (Nat.le_of_ble_eq_true rfl) (ly8_k La0_h4) ?_
    refine mx_aload_n dX8_mark_0 rfl rfl ?_
    refine mx_get 8 64 (ref := "PrairiePoolModel") cl_8 (Nat.le_of_ble_eq_true rfl) (Or.inl q1691) (Or.inl rfl) dX8_mark_1 (fv_8_64 _ _) (ly8_k La0_h4) ?_
    refine mx_tr (ly8_R_0_64 La0_h4) ?_
    refine mx_aload_n dX8_mark_4 rfl rfl ?_
    refine mx_get 8 58 (ref := "PrairiePoolModel") cl_8 (Nat.le_of_ble_eq_true rfl) (Or.inl q1685) (Or.inl rfl) dX8_mark_5 (fv_8_58 _ _) (ly8_k La0_h4) ?_
    refine mx_ldcw q2096 dX8_mark_8 ?_
    refine mx_iload_n dX8_mark_11 rfl rfl ?_
    refine mx_imul dX8_mark_12 ?_
    refine mx_iload_n dX8_mark_13 rfl rfl ?_
    refine mx_iadd dX8_mark_14 ?_
    obtain ⟨k6, H⟩ := H
    refine my_iast dX8_mark_15 rfl (ly8_A_41 La0_h4 k6) ?_
    refine mx_nmI  (fun h7 eh7 Xh7 Kh7 Lh7 => ?_)
    have H := H h7 eh7 Xh7
    have La0_h7 := La0_h4.ext Xh7
    refine mx_aload_n dX8_mark_16 rfl rfl ?_
    refine mx_dup_r dX8_mark_17 ?_
    refine mx_get 8 58 (ref := "PrairiePoolModel") cl_8 (Nat.le_of_ble_eq_true rfl) (Or.inl q1685) (Or.inl rfl) dX8_mark_18 (fv_8_58 _ _) (ly8_k La0_h7) ?_
    refine mx_ti (ah_skIA eh7 (by omega)) ?_
    refine mx_iconst dX8_mark_21 ic_1 ?_
    refine mx_iadd dX8_mark_22 ?_
    refine mx_putI 8 58 (ref := "PrairiePoolModel") cl_8 (Nat.le_of_ble_eq_true rfl) (Or.inl q1685) (Or.inl rfl) dX8_mark_23 (Or.inl rfl) rfl (ly8_k La0_h7) ?_
    refine mx_nmI  (fun h8 eh8 Xh8 Kh8 Lh8 => ?_)
    have H := H h8 eh8 Xh8
    have Kh8 := Kh8.trans Kh7
    have Lh8 := Lh8.trans Lh7
    have La0_h8 := La0_h7.ext Xh8
    refine mx_vretK rfl dX8_mark_26 ?_
    refine mx_goto (tgt := 5) dX8_readSum_60 rfl ?_
    exact mx_weak (al' := [some (rv a0), some (iv x1), none]) ⟨rfl, ⟨rfl, trivial⟩⟩ H
  · have H := H.2 c1
    refine mx_aload_n dX8_isSign_8 rfl rfl ?_
    refine mx_get 8 53 (ref := "PrairiePoolModel") cl_8 (Nat.le_of_ble_eq_true rfl) (Or.inl q1680) (Or.inl rfl) dX8_isSign_9 (fv_8_53 _ _) (ly8_k La0_h) ?_
    refine mx_iload_n dX8_isSign_12 rfl rfl ?_
    refine mx_icmp_ne (tgt := 20) dX8_isSign_13 rfl (fun c9 => ?_) (fun c9 => ?_)
    · have H := H.1 c9
      refine mx_iconst dX8_isSign_20 ic_0 ?_
      refine mx_zretK rfl dX8_isSign_21 (Or.inl rfl) ?_
      refine mx_if_eq (tgt := 43) dX8_readSum_36 rfl (fun _ => ?_) (fun _ => absurd ‹_› (by decide))
      refine mx_iconst dX8_readSum_43 ic_4 ?_
      refine mx_istore_n (al' := [some (rv a0), some (iv x1), some (iv (4 : Int32))]) dX8_readSum_44 rfl (Nat.le_of_ble_eq_true rfl) rfl ?_
      refine mx_aload_n dX8_readSum_45 rfl rfl ?_
      refine mx_callV 8 (y' := mi_X8_next) (vs := []) (st := []) (al' := [some (rv a0), none]) cl_8 V_X8_next (Or.inl q2170) dX8_readSum_46 rfl rfl (Nat.le_of_ble_eq_true rfl) (Nat.le_of_ble_eq_true rfl) (ly8_k La0_h) ?_
      refine ma_kv H (fun h10 Xh10 H => ?_) (fun x1 h1 X1 H => mt_out rfl H)
      have H := H Xh10
      have La0_h10 := La0_h.ext Xh10
      refine mx_aload_n dX8_readSum_49 rfl rfl ?_
      refine mx_iload_n dX8_readSum_50 rfl rfl ?_
      refine mx_callV 8 (y' := mi_X8_readItem) (vs := [iv x1]) (st := []) (al' := [some (rv a0), some (iv x1), none]) cl_8 V_X8_readItem (Or.inl q2271) dX8_readSum_51 rfl rfl (Nat.le_of_ble_eq_true rfl) (Nat.le_of_ble_eq_true rfl) (ly8_k La0_h10) ?_
      refine ma_kv H (fun h12 Xh12 H => ?_) (fun x1 h1 X1 H => mt_out rfl H)
      have H := H Xh12
      have La0_h12 := La0_h10.ext Xh12
      refine mx_aload_n dX8_readSum_54 rfl rfl ?_
      refine mx_iload_n dX8_readSum_55 rfl rfl ?_
      refine mx_iconst dX8_readSum_56 ic_0 ?_
      refine mx_callV 8 (y' := mi_X8_mark) (vs := [iv (4 : Int32), iv (0 : Int32)]) (st := []) (al' := [some (rv a0), some (iv (4 : Int32)), some (iv (0 : Int32))]) cl_8 V_X8_mark (Or.inl q2279) dX8_readSum_57 rfl rfl (Nat.le_of_ble_eq_true rfl) (Nat.le_of_ble_eq_true rfl) (ly8_k La0_h12) ?_
      refine mx_aload_n dX8_mark_0 rfl rfl ?_
      refine mx_get 8 64 (ref := "PrairiePoolModel") cl_8 (Nat.le_of_ble_eq_true rfl) (Or.inl q1691) (Or.inl rfl) dX8_mark_1 (fv_8_64 _ _) (ly8_k La0_h12) ?_
      refine mx_tr (ly8_R_0_64 La0_h12) ?_
      refine mx_aload_n dX8_mark_4 rfl rfl ?_
      refine mx_get 8 58 (ref := "PrairiePoolModel") cl_8 (Nat.le_of_ble_eq_true rfl) (Or.inl q1685) (Or.inl rfl) dX8_mark_5 (fv_8_58 _ _) (ly8_k La0_h12) ?_
      refine mx_ldcw q2096 dX8_mark_8 ?_
      refine mx_iload_n dX8_mark_11 rfl rfl ?_
      refine mx_imul dX8_mark_12 ?_
      refine mx_iload_n dX8_mark_13 rfl rfl ?_
      refine mx_iadd dX8_mark_14 ?_
      obtain ⟨k14, H⟩ := H
      refine my_iast dX8_mark_15 rfl (ly8_A_41 La0_h12 k14) ?_
      refine mx_nmI  (fun h15 eh15 Xh15 Kh15 Lh15 => ?_)
      have H := H h15 eh15 Xh15
      have La0_h15 := La0_h12.ext Xh15
      refine mx_aload_n dX8_mark_16 rfl rfl ?_
      refine mx_dup_r dX8_mark_17 ?_
      refine mx_get 8 58 (ref := "PrairiePoolModel") cl_8 (Nat.le_of_ble_eq_true rfl) (Or.inl q1685) (Or.inl rfl) dX8_mark_18 (fv_8_58 _ _) (ly8_k La0_h15) ?_
      refine mx_ti (ah_skIA eh15 (by omega)) ?_
      refine mx_iconst dX8_mark_21 ic_1 ?_
      refine mx_iadd dX8_mark_22 ?_
      refine mx_putI 8 58 (ref := "PrairiePoolModel") cl_8 (Nat.le_of_ble_eq_true rfl) (Or.inl q1685) (Or.inl rfl) dX8_mark_23 (Or.inl rfl) rfl (ly8_k La0_h15) ?_
      refine mx_nmI  (fun h16 eh16 Xh16 Kh16 Lh16 => ?_)
      have H := H h16 eh16 Xh16
      have Kh16 := Kh16.trans Kh15
      have Lh16 := Lh16.trans Lh15
      have La0_h16 := La0_h15.ext Xh16
      refine mx_vretK rfl dX8_mark_26 ?_
      refine mx_goto (tgt := 5) dX8_readSum_60 rfl ?_
      exact mx_weak (al' := [some (rv a0), some (iv x1), none]) ⟨rfl, ⟨rfl, trivial⟩⟩ H
    · have H := H.2 c9
      refine mx_iconst dX8_isSign_16 ic_1 ?_
      refine mx_goto (tgt := 21) dX8_isSign_17 rfl ?_
      refine mx_zretK rfl dX8_isSign_21 (Or.inr rfl) ?_
      refine mx_if_eq (tgt := 43) dX8_readSum_36 rfl (fun _ => absurd ‹_› (by decide)) (fun _ => ?_)
      refine mx_iconst dX8_readSum_39 ic_3 ?_
      refine mx_goto (tgt := 44) dX8_readSum_40 rfl ?_
      refine mx_istore_n (al' := [some (rv a0), some (iv x1), some (iv (3 : Int32))]) dX8_readSum_44 rfl (Nat.le_of_ble_eq_true rfl) rfl ?_
      refine mx_aload_n dX8_readSum_45 rfl rfl ?_
      refine mx_callV 8 (y' := mi_X8_next) (vs := []) (st := []) (al' := [some (rv a0), none]) cl_8 V_X8_next (Or.inl q2170) dX8_readSum_46 rfl rfl (Nat.le_of_ble_eq_true rfl) (Nat.le_of_ble_eq_true rfl) (ly8_k La0_h) ?_
      refine ma_kv H (fun h17 Xh17 H => ?_) (fun x1 h1 X1 H => mt_out rfl H)
      have H := H Xh17
      have La0_h17 := La0_h.ext Xh17
      refine mx_aload_n dX8_readSum_49 rfl rfl ?_
      refine mx_iload_n dX8_readSum_50 rfl rfl ?_
      refine mx_callV 8 (y' := mi_X8_readItem) (vs := [iv x1]) (st := []) (al' := [some (rv a0), some (iv x1), none]) cl_8 V_X8_readItem (Or.inl q2271) dX8_readSum_51 rfl rfl (Nat.le_of_ble_eq_true rfl) (Nat.le_of_ble_eq_true rfl) (ly8_k La0_h17) ?_
      refine ma_kv H (fun h19 Xh19 H => ?_) (fun x1 h1 X1 H => mt_out rfl H)
      have H := H Xh19
      have La0_h19 := La0_h17.ext Xh19
      refine mx_aload_n dX8_readSum_54 rfl rfl ?_
      refine mx_iload_n dX8_readSum_55 rfl rfl ?_
      refine mx_iconst dX8_readSum_56 ic_0 ?_
      refine mx_callV 8 (y' := mi_X8_mark) (vs := [iv (3 : Int32), iv (0 : Int32)]) (st := []) (al' := [some (rv a0), some (iv (3 : Int32)), some (iv (0 : Int32))]) cl_8 V_X8_mark (Or.inl q2279) dX8_readSum_57 rfl rfl (Nat.le_of_ble_eq_true rfl) (Nat.le_of_ble_eq_true rfl) (ly8_k La0_h19) ?_
      refine mx_aload_n dX8_mark_0 rfl rfl ?_
      refine mx_get 8 64 (ref := "PrairiePoolModel") cl_8 (Nat.le_of_ble_eq_true rfl) (Or.inl q1691) (Or.inl rfl) dX8_mark_1 (fv_8_64 _ _) (ly8_k La0_h19) ?_
      refine mx_tr (ly8_R_0_64 La0_h19) ?_
      refine mx_aload_n dX8_mark_4 rfl rfl ?_
      refine mx_get 8 58 (ref := "PrairiePoolModel") cl_8 (Nat.le_of_ble_eq_true rfl) (Or.inl q1685) (Or.inl rfl) dX8_mark_5 (fv_8_58 _ _) (ly8_k La0_h19) ?_
      refine mx_ldcw q2096 dX8_mark_8 ?_
      refine mx_iload_n dX8_mark_11 rfl rfl ?_
      refine mx_imul dX8_mark_12 ?_
      refine mx_iload_n dX8_mark_13 rfl rfl ?_
      refine mx_iadd dX8_mark_14 ?_
      obtain ⟨k21, H⟩ := H
      refine my_iast dX8_mark_15 rfl (ly8_A_41 La0_h19 k21) ?_
      refine mx_nmI  (fun h22 eh22 Xh22 Kh22 Lh22 => ?_)
      have H := H h22 eh22 Xh22
      have La0_h22 := La0_h19.ext Xh22
      refine mx_aload_n dX8_mark_16 rfl rfl ?_
      refine mx_dup_r dX8_mark_17 ?_
      refine mx_get 8 58 (ref := "PrairiePoolModel") cl_8 (Nat.le_of_ble_eq_true rfl) (Or.inl q1685) (Or.inl rfl) dX8_mark_18 (fv_8_58 _ _) (ly8_k La0_h22) ?_
      refine mx_ti (ah_skIA eh22 (by omega)) ?_
      refine mx_iconst dX8_mark_21 ic_1 ?_
      refine mx_iadd dX8_mark_22 ?_
      refine mx_putI 8 58 (ref := "PrairiePoolModel") cl_8 (Nat.le_of_ble_eq_true rfl) (Or.inl q1685) (Or.inl rfl) dX8_mark_23 (Or.inl rfl) rfl (ly8_k La0_h22) ?_
      refine mx_nmI  (fun h23 eh23 Xh23 Kh23 Lh23 => ?_)
      have H := H h23 eh23 Xh23
      have Kh23 := Kh23.trans Kh22
      have Lh23 := Lh23.trans Lh22
      have La0_h23 := La0_h22.ext Xh23
      refine mx_vretK rfl dX8_mark_26 ?_
      refine mx_goto (tgt := 5) dX8_readSum_60 rfl ?_
      exact mx_weak (al' := [some (rv a0), some (iv x1), none]) ⟨rfl, ⟨rfl, trivial⟩⟩ H
theorem dX8_readItem_0 : decode mi_X8_readItem.2.1 0 = .ok (.aload_n 0, 1) := by decide +kernel
theorem dX8_readItem_1 : decode mi_X8_readItem.2.1 1 = .ok (.iload_n 1, 1) := by decide +kernel
theorem dX8_readItem_2 : decode mi_X8_readItem.2.1 2 = .ok (.invokevirtual 540, 3) := by decide +kernel
theorem dX8_readItem_5 : decode mi_X8_readItem.2.1 5 = .ok (.aload_n 0, 1) := by decide +kernel
theorem dX8_readItem_6 : decode mi_X8_readItem.2.1 6 = .ok (.getfield 453, 3) := by decide +kernel
theorem dX8_readItem_9 : decode mi_X8_readItem.2.1 9 = .ok (.ifCond .ne 78, 3) := by decide +kernel
theorem dX8_readItem_12 : decode mi_X8_readItem.2.1 12 = .ok (.aload_n 0, 1) := by decide +kernel
theorem dX8_readItem_13 : decode mi_X8_readItem.2.1 13 = .ok (.bipush 42, 2) := by decide +kernel
theorem dX8_readItem_15 : decode mi_X8_readItem.2.1 15 = .ok (.invokevirtual 507, 3) := by decide +kernel
theorem dX8_readItem_18 : decode mi_X8_readItem.2.1 18 = .ok (.ifCond .ne 21, 3) := by decide +kernel
theorem dX8_readItem_21 : decode mi_X8_readItem.2.1 21 = .ok (.aload_n 0, 1) := by decide +kernel
theorem dX8_readItem_22 : decode mi_X8_readItem.2.1 22 = .ok (.bipush 47, 2) := by decide +kernel
theorem dX8_readItem_24 : decode mi_X8_readItem.2.1 24 = .ok (.invokevirtual 507, 3) := by decide +kernel
theorem dX8_readItem_27 : decode mi_X8_readItem.2.1 27 = .ok (.ifCond .ne 12, 3) := by decide +kernel
theorem dX8_readItem_30 : decode mi_X8_readItem.2.1 30 = .ok (.aload_n 0, 1) := by decide +kernel
theorem dX8_readItem_31 : decode mi_X8_readItem.2.1 31 = .ok (.bipush 37, 2) := by decide +kernel
theorem dX8_readItem_33 : decode mi_X8_readItem.2.1 33 = .ok (.invokevirtual 507, 3) := by decide +kernel
theorem dX8_readItem_36 : decode mi_X8_readItem.2.1 36 = .ok (.ifCond .eq 51, 3) := by decide +kernel
theorem dX8_readItem_39 : decode mi_X8_readItem.2.1 39 = .ok (.aload_n 0, 1) := by decide +kernel
theorem dX8_readItem_40 : decode mi_X8_readItem.2.1 40 = .ok (.bipush 42, 2) := by decide +kernel
theorem dX8_readItem_42 : decode mi_X8_readItem.2.1 42 = .ok (.invokevirtual 507, 3) := by decide +kernel
theorem dX8_readItem_45 : decode mi_X8_readItem.2.1 45 = .ok (.ifCond .eq 7, 3) := by decide +kernel
theorem dX8_readItem_48 : decode mi_X8_readItem.2.1 48 = .ok (.iconst 5, 1) := by decide +kernel
theorem dX8_readItem_49 : decode mi_X8_readItem.2.1 49 = .ok (.goto 19, 3) := by decide +kernel
theorem dX8_readItem_52 : decode mi_X8_readItem.2.1 52 = .ok (.aload_n 0, 1) := by decide +kernel
theorem dX8_readItem_53 : decode mi_X8_readItem.2.1 53 = .ok (.bipush 47, 2) := by decide +kernel
theorem dX8_readItem_55 : decode mi_X8_readItem.2.1 55 = .ok (.invokevirtual 507, 3) := by decide +kernel
theorem dX8_readItem_58 : decode mi_X8_readItem.2.1 58 = .ok (.ifCond .eq 8, 3) := by decide +kernel
theorem dX8_readItem_61 : decode mi_X8_readItem.2.1 61 = .ok (.bipush 6, 2) := by decide +kernel
theorem dX8_readItem_63 : decode mi_X8_readItem.2.1 63 = .ok (.goto 5, 3) := by decide +kernel
theorem dX8_readItem_66 : decode mi_X8_readItem.2.1 66 = .ok (.bipush 7, 2) := by decide +kernel
theorem dX8_readItem_68 : decode mi_X8_readItem.2.1 68 = .ok (.istore_n 2, 1) := by decide +kernel
theorem dX8_readItem_69 : decode mi_X8_readItem.2.1 69 = .ok (.aload_n 0, 1) := by decide +kernel
theorem dX8_readItem_70 : decode mi_X8_readItem.2.1 70 = .ok (.invokevirtual 522, 3) := by decide +kernel
theorem dX8_readItem_73 : decode mi_X8_readItem.2.1 73 = .ok (.aload_n 0, 1) := by decide +kernel
theorem dX8_readItem_74 : decode mi_X8_readItem.2.1 74 = .ok (.iload_n 1, 1) := by decide +kernel
theorem dX8_readItem_75 : decode mi_X8_readItem.2.1 75 = .ok (.invokevirtual 540, 3) := by decide +kernel
theorem dX8_readItem_78 : decode mi_X8_readItem.2.1 78 = .ok (.aload_n 0, 1) := by decide +kernel
theorem dX8_readItem_79 : decode mi_X8_readItem.2.1 79 = .ok (.iload_n 2, 1) := by decide +kernel
theorem dX8_readItem_80 : decode mi_X8_readItem.2.1 80 = .ok (.iconst 0, 1) := by decide +kernel
theorem dX8_readItem_81 : decode mi_X8_readItem.2.1 81 = .ok (.invokevirtual 528, 3) := by decide +kernel
theorem dX8_readItem_84 : decode mi_X8_readItem.2.1 84 = .ok (.goto (-79), 3) := by decide +kernel
theorem dX8_readItem_87 : decode mi_X8_readItem.2.1 87 = .ok (.return_, 1) := by decide +kernel
theorem v_X8_readItem {G : ma_G} {d : Nat} {a0 : Nat} {x1 : Int32} {h : ah_T} {Q : Option ma_V → ah_T → Prop} {E : Nat → ah_T → Prop} (La0_h : LY8 h a0) (H : MX G mi_X8_readAtom d 0 [some (rv a0), some (iv x1), none, none] [] h (Qv fun h1 => ah_ext h h1 → MX G mi_X8_readItem (d + 1) 5 [some (rv a0), some (iv x1), none] [] h1 Q E) E) : MX G mi_X8_readItem (d + 1) 0 [some (rv a0), some (iv x1), none] [] h Q E := by
  refine mx_aload_n dX8_readItem_0 rfl rfl ?_
  refine mx_iload_n dX8_readItem_1 rfl rfl ?_
  refine mx_callV 8 (y' := mi_X8_readAtom) (vs := [iv x1]) (st := []) (al' := [some (rv a0), some (iv x1), none, none]) cl_8 V_X8_readAtom (Or.inl q2275) dX8_readItem_2 rfl rfl (Nat.le_of_ble_eq_true rfl) (Nat.le_of_ble_eq_true rfl) (ly8_k La0_h) ?_
  refine ma_kv H (fun h1 Xh1 H => ?_) (fun x1 h1 X1 H => mt_out rfl H)
  have H := H Xh1
  have La0_h1 := La0_h.ext Xh1
  exact mx_weak (al' := [some (rv a0), some (iv x1), none]) ⟨rfl, ⟨rfl, trivial⟩⟩ H
theorem v_X8_readItem_5 {G : ma_G} {d : Nat} {a0 : Nat} {x1 : Int32} {h : ah_T} {Q : Option ma_V → ah_T → Prop} {E : Nat → ah_T → Prop} (La0_h : LY8 h a0) (H : (¬ (ah_I h a0 48) = 0 → Q none h) ∧ ((ah_I h a0 48) = 0 → (¬ (ah_I h a0 50) = (3 : Int32) → Q none h) ∧ ((ah_I h a0 50) = (3 : Int32) → (¬ (ah_I h a0 53) = (42 : Int32) → (¬ (ah_I h a0 53) = (47 : Int32) → (¬ (ah_I h a0 53) = (37 : Int32) → Q none h) ∧ ((ah_I h a0 53) = (37 : Int32) → MX G mi_X8_readItem (d + 1) 39 [some (rv a0), some (iv x1), none] [] h Q E)) ∧ ((ah_I h a0 53) = (47 : Int32) → MX G mi_X8_readItem (d + 1) 39 [some (rv a0), some (iv x1), none] [] h Q E)) ∧ ((ah_I h a0 53) = (42 : Int32) → MX G mi_X8_readItem (d + 1) 39 [some (rv a0), some (iv x1), none] [] h Q E)))) : MX G mi_X8_readItem (d + 1) 5 [some (rv a0), some (iv x1), none] [] h Q E := by
  refine mx_aload_n dX8_readItem_5 rfl rfl ?_
  refine mx_get 8 48 (ref := "PrairiePoolModel") cl_8 (Nat.le_of_ble_eq_true rfl) (Or.inl q1675) (Or.inl rfl) dX8_readItem_6 (fv_8_48 _ _) (ly8_k La0_h) ?_
  refine mx_if_ne (tgt := 87) dX8_readItem_9 rfl (fun c1 => ?_) (fun c1 => ?_)
  · have H := H.1 c1
    exact mx_vret rfl dX8_readItem_87 H
  · have H := H.2 c1
    refine mx_aload_n dX8_readItem_12 rfl rfl ?_
    refine mx_bipush dX8_readItem_13 ib_42 ?_
    refine mx_callV 8 (y' := mi_X8_isSign) (vs := [iv (42 : Int32)]) (st := []) (al' := [some (rv a0), some (iv (42 : Int32))]) cl_8 V_X8_isSign (Or.inl q2251) dX8_readItem_15 rfl rfl (Nat.le_of_ble_eq_true rfl) (Nat.le_of_ble_eq_true rfl) (ly8_k La0_h) ?_
    refine mx_aload_n dX8_isSign_0 rfl rfl ?_
    refine mx_get 8 50 (ref := "PrairiePoolModel") cl_8 (Nat.le_of_ble_eq_true rfl) (Or.inl q1677) (Or.inl rfl) dX8_isSign_1 (fv_8_50 _ _) (ly8_k La0_h) ?_
    refine mx_iconst dX8_isSign_4 ic_3 ?_
    refine mx_icmp_ne (tgt := 20) dX8_isSign_5 rfl (fun c2 => ?_) (fun c2 => ?_)
    · have H := H.1 c2
      refine mx_iconst dX8_isSign_20 ic_0 ?_
      refine mx_zretK rfl dX8_isSign_21 (Or.inl rfl) ?_
      refine mx_if_ne (tgt := 39) dX8_readItem_18 rfl (fun _ => absurd ‹_› (by decide)) (fun _ => ?_)
      refine mx_aload_n dX8_readItem_21 rfl rfl ?_
      refine mx_bipush dX8_readItem_22 ib_47 ?_
      refine mx_callV 8 (y' := mi_X8_isSign) (vs := [iv (47 : Int32)]) (st := []) (al' := [some (rv a0), some (iv (47 : Int32))]) cl_8 V_X8_isSign (Or.inl q2251) dX8_readItem_24 rfl rfl (Nat.le_of_ble_eq_true rfl) (Nat.le_of_ble_eq_true rfl) (ly8_k La0_h) ?_
      refine mx_aload_n dX8_isSign_0 rfl rfl ?_
      refine mx_get 8 50 (ref := "PrairiePoolModel") cl_8 (Nat.le_of_ble_eq_true rfl) (Or.inl q1677) (Or.inl rfl) dX8_isSign_1 (fv_8_50 _ _) (ly8_k La0_h) ?_
      refine mx_iconst dX8_isSign_4 ic_3 ?_
      refine mx_icmp_ne (tgt := 20) dX8_isSign_5 rfl (fun _ => ?_) (fun q_ => absurd q_ c2)
      refine mx_iconst dX8_isSign_20 ic_0 ?_
      refine mx_zretK rfl dX8_isSign_21 (Or.inl rfl) ?_
      refine mx_if_ne (tgt := 39) dX8_readItem_27 rfl (fun _ => absurd ‹_› (by decide)) (fun _ => ?_)
      refine mx_aload_n dX8_readItem_30 rfl rfl ?_
      refine mx_bipush dX8_readItem_31 ib_37 ?_
      refine mx_callV 8 (y' := mi_X8_isSign) (vs := [iv (37 : Int32)]) (st := []) (al' := [some (rv a0), some (iv (37 : Int32))]) cl_8 V_X8_isSign (Or.inl q2251) dX8_readItem_33 rfl rfl (Nat.le_of_ble_eq_true rfl) (Nat.le_of_ble_eq_true rfl) (ly8_k La0_h) ?_
      refine mx_aload_n dX8_isSign_0 rfl rfl ?_
      refine mx_get 8 50 (ref := "PrairiePoolModel") cl_8 (Nat.le_of_ble_eq_true rfl) (Or.inl q1677) (Or.inl rfl) dX8_isSign_1 (fv_8_50 _ _) (ly8_k La0_h) ?_
      refine mx_iconst dX8_isSign_4 ic_3 ?_
      refine mx_icmp_ne (tgt := 20) dX8_isSign_5 rfl (fun _ => ?_) (fun q_ => absurd q_ c2)
      refine mx_iconst dX8_isSign_20 ic_0 ?_
      refine mx_zretK rfl dX8_isSign_21 (Or.inl rfl) ?_
      refine mx_if_eq (tgt := 87) dX8_readItem_36 rfl (fun _ => ?_) (fun _ => absurd ‹_› (by decide))
      exact mx_vret rfl dX8_readItem_87 H
    · have H := H.2 c2
      refine mx_aload_n dX8_isSign_8 rfl rfl ?_
      refine mx_get 8 53 (ref := "PrairiePoolModel") cl_8 (Nat.le_of_ble_eq_true rfl) (Or.inl q1680) (Or.inl rfl) dX8_isSign_9 (fv_8_53 _ _) (ly8_k La0_h) ?_
      refine mx_iload_n dX8_isSign_12 rfl rfl ?_
      refine mx_icmp_ne (tgt := 20) dX8_isSign_13 rfl (fun c3 => ?_) (fun c3 => ?_)
      · have H := H.1 c3
        refine mx_iconst dX8_isSign_20 ic_0 ?_
        refine mx_zretK rfl dX8_isSign_21 (Or.inl rfl) ?_
        refine mx_if_ne (tgt := 39) dX8_readItem_18 rfl (fun _ => absurd ‹_› (by decide)) (fun _ => ?_)
        refine mx_aload_n dX8_readItem_21 rfl rfl ?_
        refine mx_bipush dX8_readItem_22 ib_47 ?_
        refine mx_callV 8 (y' := mi_X8_isSign) (vs := [iv (47 : Int32)]) (st := []) (al' := [some (rv a0), some (iv (47 : Int32))]) cl_8 V_X8_isSign (Or.inl q2251) dX8_readItem_24 rfl rfl (Nat.le_of_ble_eq_true rfl) (Nat.le_of_ble_eq_true rfl) (ly8_k La0_h) ?_
        refine mx_aload_n dX8_isSign_0 rfl rfl ?_
        refine mx_get 8 50 (ref := "PrairiePoolModel") cl_8 (Nat.le_of_ble_eq_true rfl) (Or.inl q1677) (Or.inl rfl) dX8_isSign_1 (fv_8_50 _ _) (ly8_k La0_h) ?_
        refine mx_iconst dX8_isSign_4 ic_3 ?_
        refine mx_icmp_ne (tgt := 20) dX8_isSign_5 rfl (fun q_ => absurd c2 q_) (fun _ => ?_)
        refine mx_aload_n dX8_isSign_8 rfl rfl ?_
        refine mx_get 8 53 (ref := "PrairiePoolModel") cl_8 (Nat.le_of_ble_eq_true rfl) (Or.inl q1680) (Or.inl rfl) dX8_isSign_9 (fv_8_53 _ _) (ly8_k La0_h) ?_
        refine mx_iload_n dX8_isSign_12 rfl rfl ?_
        refine mx_icmp_ne (tgt := 20) dX8_isSign_13 rfl (fun c4 => ?_) (fun c4 => ?_)
        · have H := H.1 c4
          refine mx_iconst dX8_isSign_20 ic_0 ?_
          refine mx_zretK rfl dX8_isSign_21 (Or.inl rfl) ?_
          refine mx_if_ne (tgt := 39) dX8_readItem_27 rfl (fun _ => absurd ‹_› (by decide)) (fun _ => ?_)
          refine mx_aload_n dX8_readItem_30 rfl rfl ?_
          refine mx_bipush dX8_readItem_31 ib_37 ?_
          refine mx_callV 8 (y' := mi_X8_isSign) (vs := [iv (37 : Int32)]) (st := []) (al' := [some (rv a0), some (iv (37 : Int32))]) cl_8 V_X8_isSign (Or.inl q2251) dX8_readItem_33 rfl rfl (Nat.le_of_ble_eq_true rfl) (Nat.le_of_ble_eq_true rfl) (ly8_k La0_h) ?_
          refine mx_aload_n dX8_isSign_0 rfl rfl ?_
          refine mx_get 8 50 (ref := "PrairiePoolModel") cl_8 (Nat.le_of_ble_eq_true rfl) (Or.inl q1677) (Or.inl rfl) dX8_isSign_1 (fv_8_50 _ _) (ly8_k La0_h) ?_
          refine mx_iconst dX8_isSign_4 ic_3 ?_
          refine mx_icmp_ne (tgt := 20) dX8_isSign_5 rfl (fun q_ => absurd c2 q_) (fun _ => ?_)
          refine mx_aload_n dX8_isSign_8 rfl rfl ?_
          refine mx_get 8 53 (ref := "PrairiePoolModel") cl_8 (Nat.le_of_ble_eq_true rfl) (Or.inl q1680) (Or.inl rfl) dX8_isSign_9 (fv_8_53 _ _) (ly8_k La0_h) ?_
          refine mx_iload_n dX8_isSign_12 rfl rfl ?_
          refine mx_icmp_ne (tgt := 20) dX8_isSign_13 rfl (fun c5 => ?_) (fun c5 => ?_)
          · have H := H.1 c5
            refine mx_iconst dX8_isSign_20 ic_0 ?_
            refine mx_zretK rfl dX8_isSign_21 (Or.inl rfl) ?_
            refine mx_if_eq (tgt := 87) dX8_readItem_36 rfl (fun _ => ?_) (fun _ => absurd ‹_› (by decide))
            exact mx_vret rfl dX8_readItem_87 H
          · have H := H.2 c5
            refine mx_iconst dX8_isSign_16 ic_1 ?_
            refine mx_goto (tgt := 21) dX8_isSign_17 rfl ?_
            refine mx_zretK rfl dX8_isSign_21 (Or.inr rfl) ?_
            refine mx_if_eq (tgt := 87) dX8_readItem_36 rfl (fun _ => absurd ‹_› (by decide)) (fun _ => ?_)
            exact mx_weak (al' := [some (rv a0), some (iv x1), none]) ⟨rfl, ⟨rfl, trivial⟩⟩ H
        · have H := H.2 c4
          refine mx_iconst dX8_isSign_16 ic_1 ?_
          refine mx_goto (tgt := 21) dX8_isSign_17 rfl ?_
          refine mx_zretK rfl dX8_isSign_21 (Or.inr rfl) ?_
          refine mx_if_ne (tgt := 39) dX8_readItem_27 rfl (fun _ => ?_) (fun _ => absurd ‹_› (by decide))
          exact mx_weak (al' := [some (rv a0), some (iv x1), none]) ⟨rfl, ⟨rfl, trivial⟩⟩ H
      · have H := H.2 c3
        refine mx_iconst dX8_isSign_16 ic_1 ?_
        refine mx_goto (tgt := 21) dX8_isSign_17 rfl ?_
        refine mx_zretK rfl dX8_isSign_21 (Or.inr rfl) ?_
        refine mx_if_ne (tgt := 39) dX8_readItem_18 rfl (fun _ => ?_) (fun _ => absurd ‹_› (by decide))
        exact mx_weak (al' := [some (rv a0), some (iv x1), none]) ⟨rfl, ⟨rfl, trivial⟩⟩ H
theorem v_X8_readItem_39 {G : ma_G} {d : Nat} {a0 : Nat} {x1 : Int32} {h : ah_T} {Q : Option ma_V → ah_T → Prop} {E : Nat → ah_T → Prop} (La0_h : LY8 h a0) (H : (¬ (ah_I h a0 50) = (3 : Int32) → MX G mi_X8_next d 0 [some (rv a0), none] [] h (Qv fun h2 => ah_ext h h2 → MX G mi_X8_readAtom d 0 [some (rv a0), some (iv x1), none, none] [] h2 (Qv fun h4 => ah_ext h2 h4 → vp_in (ah_I h4 a0 58) 1100 ∧ ∀ h7 : ah_T, h7 = ah_wI h4 (a0 + 41) (ah_I h4 a0 58).toNatClampNeg (((1048576 : Int32) * (7 : Int32)) + (0 : Int32)) → ah_ext h4 h7 → ∀ h8 : ah_T, h8 = ah_wI h7 a0 58 ((ah_I h4 a0 58) + (1 : Int32)) → ah_ext h7 h8 → MX G mi_X8_readItem (d + 1) 5 [some (rv a0), some (iv x1), none] [] h8 Q E) E) E) ∧ ((ah_I h a0 50) = (3 : Int32) → (¬ (ah_I h a0 53) = (42 : Int32) → (¬ (ah_I h a0 53) = (47 : Int32) → MX G mi_X8_next d 0 [some (rv a0), none] [] h (Qv fun h11 => ah_ext h h11 → MX G mi_X8_readAtom d 0 [some (rv a0), some (iv x1), none, none] [] h11 (Qv fun h13 => ah_ext h11 h13 → vp_in (ah_I h13 a0 58) 1100 ∧ ∀ h16 : ah_T, h16 = ah_wI h13 (a0 + 41) (ah_I h13 a0 58).toNatClampNeg (((1048576 : Int32) * (7 : Int32)) + (0 : Int32)) → ah_ext h13 h16 → ∀ h17 : ah_T, h17 = ah_wI h16 a0 58 ((ah_I h13 a0 58) + (1 : Int32)) → ah_ext h16 h17 → MX G mi_X8_readItem (d + 1) 5 [some (rv a0), some (iv x1), none] [] h17 Q E) E) E) ∧ ((ah_I h a0 53) = (47 : Int32) → MX G mi_X8_next d 0 [some (rv a0), none] [] h (Qv fun h18 => ah_ext h h18 → MX G mi_X8_readAtom d 0 [some (rv a0), some (iv x1), none, none] [] h18 (Qv fun h20 => ah_ext h18 h20 → vp_in (ah_I h20 a0 58) 1100 ∧ ∀ h23 : ah_T, h23 = ah_wI h20 (a0 + 41) (ah_I h20 a0 58).toNatClampNeg (((1048576 : Int32) * (6 : Int32)) + (0 : Int32)) → ah_ext h20 h23 → ∀ h24 : ah_T, h24 = ah_wI h23 a0 58 ((ah_I h20 a0 58) + (1 : Int32)) → ah_ext h23 h24 → MX G mi_X8_readItem (d + 1) 5 [some (rv a0), some (iv x1), none] [] h24 Q E) E) E)) ∧ ((ah_I h a0 53) = (42 : Int32) → MX G mi_X8_next d 0 [some (rv a0), none] [] h (Qv fun h25 => ah_ext h h25 → MX G mi_X8_readAtom d 0 [some (rv a0), some (iv x1), none, none] [] h25 (Qv fun h27 => ah_ext h25 h27 → vp_in (ah_I h27 a0 58) 1100 ∧ ∀ h30 : ah_T, h30 = ah_wI h27 (a0 + 41) (ah_I h27 a0 58).toNatClampNeg (((1048576 : Int32) * (5 : Int32)) + (0 : Int32)) → ah_ext h27 h30 → ∀ h31 : ah_T, h31 = ah_wI h30 a0 58 ((ah_I h27 a0 58) + (1 : Int32)) → ah_ext h30 h31 → MX G mi_X8_readItem (d + 1) 5 [some (rv a0), some (iv x1), none] [] h31 Q E) E) E))) : MX G mi_X8_readItem (d + 1) 39 [some (rv a0), some (iv x1), none] [] h Q E := by
  refine mx_aload_n dX8_readItem_39 rfl rfl ?_
  refine mx_bipush dX8_readItem_40 ib_42 ?_
  refine mx_callV 8 (y' := mi_X8_isSign) (vs := [iv (42 : Int32)]) (st := []) (al' := [some (rv a0), some (iv (42 : Int32))]) cl_8 V_X8_isSign (Or.inl q2251) dX8_readItem_42 rfl rfl (Nat.le_of_ble_eq_true rfl) (Nat.le_of_ble_eq_true rfl) (ly8_k La0_h) ?_
  refine mx_aload_n dX8_isSign_0 rfl rfl ?_
  refine mx_get 8 50 (ref := "PrairiePoolModel") cl_8 (Nat.le_of_ble_eq_true rfl) (Or.inl q1677) (Or.inl rfl) dX8_isSign_1 (fv_8_50 _ _) (ly8_k La0_h) ?_
  refine mx_iconst dX8_isSign_4 ic_3 ?_
  refine mx_icmp_ne (tgt := 20) dX8_isSign_5 rfl (fun c1 => ?_) (fun c1 => ?_)
  · have H := H.1 c1
    refine mx_iconst dX8_isSign_20 ic_0 ?_
    refine mx_zretK rfl dX8_isSign_21 (Or.inl rfl) ?_
    refine mx_if_eq (tgt := 52) dX8_readItem_45 rfl (fun _ => ?_) (fun _ => absurd ‹_› (by decide))
    refine mx_aload_n dX8_readItem_52 rfl rfl ?_
    refine mx_bipush dX8_readItem_53 ib_47 ?_
    refine mx_callV 8 (y' := mi_X8_isSign) (vs := [iv (47 : Int32)]) (st := []) (al' := [some (rv a0), some (iv (47 : Int32))]) cl_8 V_X8_isSign (Or.inl q2251) dX8_readItem_55 rfl rfl (Nat.le_of_ble_eq_true rfl) (Nat.le_of_ble_eq_true rfl) (ly8_k La0_h) ?_
    refine mx_aload_n dX8_isSign_0 rfl rfl ?_
    refine mx_get 8 50 (ref := "PrairiePoolModel") cl_8 (Nat.le_of_ble_eq_true rfl) (Or.inl q1677) (Or.inl rfl) dX8_isSign_1 (fv_8_50 _ _) (ly8_k La0_h) ?_
    refine mx_iconst dX8_isSign_4 ic_3 ?_
    refine mx_icmp_ne (tgt := 20) dX8_isSign_5 rfl (fun _ => ?_) (fun q_ => absurd q_ c1)
    refine mx_iconst dX8_isSign_20 ic_0 ?_
    refine mx_zretK rfl dX8_isSign_21 (Or.inl rfl) ?_
    refine mx_if_eq (tgt := 66) dX8_readItem_58 rfl (fun _ => ?_) (fun _ => absurd ‹_› (by decide))
    refine mx_bipush dX8_readItem_66 ib_7 ?_
    refine mx_istore_n (al' := [some (rv a0), some (iv x1), some (iv (7 : Int32))]) dX8_readItem_68 rfl (Nat.le_of_ble_eq_true rfl) rfl ?_
    refine mx_aload_n dX8_readItem_69 rfl rfl ?_
    refine mx_callV 8 (y' := mi_X8_next) (vs := []) (st := []) (al' := [some (rv a0), none]) cl_8 V_X8_next (Or.inl q2170) dX8_readItem_70 rfl rfl (Nat.le_of_ble_eq_true rfl) (Nat.le_of_ble_eq_true rfl) (ly8_k La0_h) ?_
    refine ma_kv H (fun h2 Xh2 H => ?_) (fun x1 h1 X1 H => mt_out rfl H)
    have H := H Xh2
    have La0_h2 := La0_h.ext Xh2
    refine mx_aload_n dX8_readItem_73 rfl rfl ?_
    refine mx_iload_n dX8_readItem_74 rfl rfl ?_
    refine mx_callV 8 (y' := mi_X8_readAtom) (vs := [iv x1]) (st := []) (al' := [some (rv a0), some (iv x1), none, none]) cl_8 V_X8_readAtom (Or.inl q2275) dX8_readItem_75 rfl rfl (Nat.le_of_ble_eq_true rfl) (Nat.le_of_ble_eq_true rfl) (ly8_k La0_h2) ?_
    refine ma_kv H (fun h4 Xh4 H => ?_) (fun x1 h1 X1 H => mt_out rfl H)
    have H := H Xh4
    have La0_h4 := La0_h2.ext Xh4
    refine mx_aload_n dX8_readItem_78 rfl rfl ?_
    refine mx_iload_n dX8_readItem_79 rfl rfl ?_
    refine mx_iconst dX8_readItem_80 ic_0 ?_
    refine mx_callV 8 (y' := mi_X8_mark) (vs := [iv (7 : Int32), iv (0 : Int32)]) (st := []) (al' := [some (rv a0), some (iv (7 : Int32)), some (iv (0 : Int32))]) cl_8 V_X8_mark (Or.inl q2279) dX8_readItem_81 rfl rfl (Nat.le_of_ble_eq_true rfl) (Nat.le_of_ble_eq_true rfl) (ly8_k La0_h4) ?_
    refine mx_aload_n dX8_mark_0 rfl rfl ?_
    refine mx_get 8 64 (ref := "PrairiePoolModel") cl_8 (Nat.le_of_ble_eq_true rfl) (Or.inl q1691) (Or.inl rfl) dX8_mark_1 (fv_8_64 _ _) (ly8_k La0_h4) ?_
    refine mx_tr (ly8_R_0_64 La0_h4) ?_
    refine mx_aload_n dX8_mark_4 rfl rfl ?_
    refine mx_get 8 58 (ref := "PrairiePoolModel") cl_8 (Nat.le_of_ble_eq_true rfl) (Or.inl q1685) (Or.inl rfl) dX8_mark_5 (fv_8_58 _ _) (ly8_k La0_h4) ?_
    refine mx_ldcw q2096 dX8_mark_8 ?_
    refine mx_iload_n dX8_mark_11 rfl rfl ?_
    refine mx_imul dX8_mark_12 ?_
    refine mx_iload_n dX8_mark_13 rfl rfl ?_
    refine mx_iadd dX8_mark_14 ?_
    obtain ⟨k6, H⟩ := H
    refine my_iast dX8_mark_15 rfl (ly8_A_41 La0_h4 k6) ?_
    refine mx_nmI  (fun h7 eh7 Xh7 Kh7 Lh7 => ?_)
    have H := H h7 eh7 Xh7
    have La0_h7 := La0_h4.ext Xh7
    refine mx_aload_n dX8_mark_16 rfl rfl ?_
    refine mx_dup_r dX8_mark_17 ?_
    refine mx_get 8 58 (ref := "PrairiePoolModel") cl_8 (Nat.le_of_ble_eq_true rfl) (Or.inl q1685) (Or.inl rfl) dX8_mark_18 (fv_8_58 _ _) (ly8_k La0_h7) ?_
    refine mx_ti (ah_skIA eh7 (by omega)) ?_
    refine mx_iconst dX8_mark_21 ic_1 ?_
    refine mx_iadd dX8_mark_22 ?_
    refine mx_putI 8 58 (ref := "PrairiePoolModel") cl_8 (Nat.le_of_ble_eq_true rfl) (Or.inl q1685) (Or.inl rfl) dX8_mark_23 (Or.inl rfl) rfl (ly8_k La0_h7) ?_
    refine mx_nmI  (fun h8 eh8 Xh8 Kh8 Lh8 => ?_)
    have H := H h8 eh8 Xh8
    have Kh8 := Kh8.trans Kh7
    have Lh8 := Lh8.trans Lh7
    have La0_h8 := La0_h7.ext Xh8
    refine mx_vretK rfl dX8_mark_26 ?_
    refine mx_goto (tgt := 5) dX8_readItem_84 rfl ?_
    exact mx_weak (al' := [some (rv a0), some (iv x1), none]) ⟨rfl, ⟨rfl, trivial⟩⟩ H
  · have H := H.2 c1
    refine mx_aload_n dX8_isSign_8 rfl rfl ?_
    refine mx_get 8 53 (ref := "PrairiePoolModel") cl_8 (Nat.le_of_ble_eq_true rfl) (Or.inl q1680) (Or.inl rfl) dX8_isSign_9 (fv_8_53 _ _) (ly8_k La0_h) ?_
    refine mx_iload_n dX8_isSign_12 rfl rfl ?_
    refine mx_icmp_ne (tgt := 20) dX8_isSign_13 rfl (fun c9 => ?_) (fun c9 => ?_)
    · have H := H.1 c9
      refine mx_iconst dX8_isSign_20 ic_0 ?_
      refine mx_zretK rfl dX8_isSign_21 (Or.inl rfl) ?_
      refine mx_if_eq (tgt := 52) dX8_readItem_45 rfl (fun _ => ?_) (fun _ => absurd ‹_› (by decide))
      refine mx_aload_n dX8_readItem_52 rfl rfl ?_
      refine mx_bipush dX8_readItem_53 ib_47 ?_
      refine mx_callV 8 (y' := mi_X8_isSign) (vs := [iv (47 : Int32)]) (st := []) (al' := [some (rv a0), some (iv (47 : Int32))]) cl_8 V_X8_isSign (Or.inl q2251) dX8_readItem_55 rfl rfl (Nat.le_of_ble_eq_true rfl) (Nat.le_of_ble_eq_true rfl) (ly8_k La0_h) ?_
      refine mx_aload_n dX8_isSign_0 rfl rfl ?_
      refine mx_get 8 50 (ref := "PrairiePoolModel") cl_8 (Nat.le_of_ble_eq_true rfl) (Or.inl q1677) (Or.inl rfl) dX8_isSign_1 (fv_8_50 _ _) (ly8_k La0_h) ?_
      refine mx_iconst dX8_isSign_4 ic_3 ?_
      refine mx_icmp_ne (tgt := 20) dX8_isSign_5 rfl (fun q_ => absurd c1 q_) (fun _ => ?_)
      refine mx_aload_n dX8_isSign_8 rfl rfl ?_
      refine mx_get 8 53 (ref := "PrairiePoolModel") cl_8 (Nat.le_of_ble_eq_true rfl) (Or.inl q1680) (Or.inl rfl) dX8_isSign_9 (fv_8_53 _ _) (ly8_k La0_h) ?_
      refine mx_iload_n dX8_isSign_12 rfl rfl ?_
      refine mx_icmp_ne (tgt := 20) dX8_isSign_13 rfl (fun c10 => ?_) (fun c10 => ?_)
      · have H := H.1 c10
        refine mx_iconst dX8_isSign_20 ic_0 ?_
        refine mx_zretK rfl dX8_isSign_21 (Or.inl rfl) ?_
        refine mx_if_eq (tgt := 66) dX8_readItem_58 rfl (fun _ => ?_) (fun _ => absurd ‹_› (by decide))
        refine mx_bipush dX8_readItem_66 ib_7 ?_
        refine mx_istore_n (al' := [some (rv a0), some (iv x1), some (iv (7 : Int32))]) dX8_readItem_68 rfl (Nat.le_of_ble_eq_true rfl) rfl ?_
        refine mx_aload_n dX8_readItem_69 rfl rfl ?_
        refine mx_callV 8 (y' := mi_X8_next) (vs := []) (st := []) (al' := [some (rv a0), none]) cl_8 V_X8_next (Or.inl q2170) dX8_readItem_70 rfl rfl (Nat.le_of_ble_eq_true rfl) (Nat.le_of_ble_eq_true rfl) (ly8_k La0_h) ?_
        refine ma_kv H (fun h11 Xh11 H => ?_) (fun x1 h1 X1 H => mt_out rfl H)
        have H := H Xh11
        have La0_h11 := La0_h.ext Xh11
        refine mx_aload_n dX8_readItem_73 rfl rfl ?_
        refine mx_iload_n dX8_readItem_74 rfl rfl ?_
        refine mx_callV 8 (y' := mi_X8_readAtom) (vs := [iv x1]) (st := []) (al' := [some (rv a0), some (iv x1), none, none]) cl_8 V_X8_readAtom (Or.inl q2275) dX8_readItem_75 rfl rfl (Nat.le_of_ble_eq_true rfl) (Nat.le_of_ble_eq_true rfl) (ly8_k La0_h11) ?_
        refine ma_kv H (fun h13 Xh13 H => ?_) (fun x1 h1 X1 H => mt_out rfl H)
        have H := H Xh13
        have La0_h13 := La0_h11.ext Xh13
        refine mx_aload_n dX8_readItem_78 rfl rfl ?_
        refine mx_iload_n dX8_readItem_79 rfl rfl ?_
        refine mx_iconst dX8_readItem_80 ic_0 ?_
        refine mx_callV 8 (y' := mi_X8_mark) (vs := [iv (7 : Int32), iv (0 : Int32)]) (st := []) (al' := [some (rv a0), some (iv (7 : Int32)), some (iv (0 : Int32))]) cl_8 V_X8_mark (Or.inl q2279) dX8_readItem_81 rfl rfl (Nat.le_of_ble_eq_true rfl) (Nat.le_of_ble_eq_true rfl) (ly8_k La0_h13) ?_
        refine mx_aload_n dX8_mark_0 rfl rfl ?_
        refine mx_get 8 64 (ref := "PrairiePoolModel") cl_8 (Nat.le_of_ble_eq_true rfl) (Or.inl q1691) (Or.inl rfl) dX8_mark_1 (fv_8_64 _ _) (ly8_k La0_h13) ?_
        refine mx_tr (ly8_R_0_64 La0_h13) ?_
        refine mx_aload_n dX8_mark_4 rfl rfl ?_
        refine mx_get 8 58 (ref := "PrairiePoolModel") cl_8 (Nat.le_of_ble_eq_true rfl) (Or.inl q1685) (Or.inl rfl) dX8_mark_5 (fv_8_58 _ _) (ly8_k La0_h13) ?_
        refine mx_ldcw q2096 dX8_mark_8 ?_
        refine mx_iload_n dX8_mark_11 rfl rfl ?_
        refine mx_imul dX8_mark_12 ?_
        refine mx_iload_n dX8_mark_13 rfl rfl ?_
        refine mx_iadd dX8_mark_14 ?_
        obtain ⟨k15, H⟩ := H
        refine my_iast dX8_mark_15 rfl (ly8_A_41 La0_h13 k15) ?_
        refine mx_nmI  (fun h16 eh16 Xh16 Kh16 Lh16 => ?_)
        have H := H h16 eh16 Xh16
        have La0_h16 := La0_h13.ext Xh16
        refine mx_aload_n dX8_mark_16 rfl rfl ?_
        refine mx_dup_r dX8_mark_17 ?_
        refine mx_get 8 58 (ref := "PrairiePoolModel") cl_8 (Nat.le_of_ble_eq_true rfl) (Or.inl q1685) (Or.inl rfl) dX8_mark_18 (fv_8_58 _ _) (ly8_k La0_h16) ?_
        refine mx_ti (ah_skIA eh16 (by omega)) ?_
        refine mx_iconst dX8_mark_21 ic_1 ?_
        refine mx_iadd dX8_mark_22 ?_
        refine mx_putI 8 58 (ref := "PrairiePoolModel") cl_8 (Nat.le_of_ble_eq_true rfl) (Or.inl q1685) (Or.inl rfl) dX8_mark_23 (Or.inl rfl) rfl (ly8_k La0_h16) ?_
        refine mx_nmI  (fun h17 eh17 Xh17 Kh17 Lh17 => ?_)
        have H := H h17 eh17 Xh17
        have Kh17 := Kh17.trans Kh16
        have Lh17 := Lh17.trans Lh16
        have La0_h17 := La0_h16.ext Xh17
        refine mx_vretK rfl dX8_mark_26 ?_
        refine mx_goto (tgt := 5) dX8_readItem_84 rfl ?_
        exact mx_weak (al' := [some (rv a0), some (iv x1), none]) ⟨rfl, ⟨rfl, trivial⟩⟩ H
      · have H := H.2 c10
        refine mx_iconst dX8_isSign_16 ic_1 ?_
        refine mx_goto (tgt := 21) dX8_isSign_17 rfl ?_
        refine mx_zretK rfl dX8_isSign_21 (Or.inr rfl) ?_
        refine mx_if_eq (tgt := 66) dX8_readItem_58 rfl (fun _ => absurd ‹_› (by decide)) (fun _ => ?_)
        refine mx_bipush dX8_readItem_61 ib_6 ?_
        refine mx_goto (tgt := 68) dX8_readItem_63 rfl ?_
        refine mx_istore_n (al' := [some (rv a0), some (iv x1), some (iv (6 : Int32))]) dX8_readItem_68 rfl (Nat.le_of_ble_eq_true rfl) rfl ?_
        refine mx_aload_n dX8_readItem_69 rfl rfl ?_
        refine mx_callV 8 (y' := mi_X8_next) (vs := []) (st := []) (al' := [some (rv a0), none]) cl_8 V_X8_next (Or.inl q2170) dX8_readItem_70 rfl rfl (Nat.le_of_ble_eq_true rfl) (Nat.le_of_ble_eq_true rfl) (ly8_k La0_h) ?_
        refine ma_kv H (fun h18 Xh18 H => ?_) (fun x1 h1 X1 H => mt_out rfl H)
        have H := H Xh18
        have La0_h18 := La0_h.ext Xh18
        refine mx_aload_n dX8_readItem_73 rfl rfl ?_
        refine mx_iload_n dX8_readItem_74 rfl rfl ?_
        refine mx_callV 8 (y' := mi_X8_readAtom) (vs := [iv x1]) (st := []) (al' := [some (rv a0), some (iv x1), none, none]) cl_8 V_X8_readAtom (Or.inl q2275) dX8_readItem_75 rfl rfl (Nat.le_of_ble_eq_true rfl) (Nat.le_of_ble_eq_true rfl) (ly8_k La0_h18) ?_
        refine ma_kv H (fun h20 Xh20 H => ?_) (fun x1 h1 X1 H => mt_out rfl H)
        have H := H Xh20
        have La0_h20 := La0_h18.ext Xh20
        refine mx_aload_n dX8_readItem_78 rfl rfl ?_
        refine mx_iload_n dX8_readItem_79 rfl rfl ?_
        refine mx_iconst dX8_readItem_80 ic_0 ?_
        refine mx_callV 8 (y' := mi_X8_mark) (vs := [iv (6 : Int32), iv (0 : Int32)]) (st := []) (al' := [some (rv a0), some (iv (6 : Int32)), some (iv (0 : Int32))]) cl_8 V_X8_mark (Or.inl q2279) dX8_readItem_81 rfl rfl (Nat.le_of_ble_eq_true rfl) (Nat.le_of_ble_eq_true rfl) (ly8_k La0_h20) ?_
        refine mx_aload_n dX8_mark_0 rfl rfl ?_
        refine mx_get 8 64 (ref := "PrairiePoolModel") cl_8 (Nat.le_of_ble_eq_true rfl) (Or.inl q1691) (Or.inl rfl) dX8_mark_1 (fv_8_64 _ _) (ly8_k La0_h20) ?_
        refine mx_tr (ly8_R_0_64 La0_h20) ?_
        refine mx_aload_n dX8_mark_4 rfl rfl ?_
        refine mx_get 8 58 (ref := "PrairiePoolModel") cl_8 (Nat.le_of_ble_eq_true rfl) (Or.inl q1685) (Or.inl rfl) dX8_mark_5 (fv_8_58 _ _) (ly8_k La0_h20) ?_
        refine mx_ldcw q2096 dX8_mark_8 ?_
        refine mx_iload_n dX8_mark_11 rfl rfl ?_
        refine mx_imul dX8_mark_12 ?_
        refine mx_iload_n dX8_mark_13 rfl rfl ?_
        refine mx_iadd dX8_mark_14 ?_
        obtain ⟨k22, H⟩ := H
        refine my_iast dX8_mark_15 rfl (ly8_A_41 La0_h20 k22) ?_
        refine mx_nmI  (fun h23 eh23 Xh23 Kh23 Lh23 => ?_)
        have H := H h23 eh23 Xh23
        have La0_h23 := La0_h20.ext Xh23
        refine mx_aload_n dX8_mark_16 rfl rfl ?_
        refine mx_dup_r dX8_mark_17 ?_
        refine mx_get 8 58 (ref := "PrairiePoolModel") cl_8 (Nat.le_of_ble_eq_true rfl) (Or.inl q1685) (Or.inl rfl) dX8_mark_18 (fv_8_58 _ _) (ly8_k La0_h23) ?_
        refine mx_ti (ah_skIA eh23 (by omega)) ?_
        refine mx_iconst dX8_mark_21 ic_1 ?_
        refine mx_iadd dX8_mark_22 ?_
        refine mx_putI 8 58 (ref := "PrairiePoolModel") cl_8 (Nat.le_of_ble_eq_true rfl) (Or.inl q1685) (Or.inl rfl) dX8_mark_23 (Or.inl rfl) rfl (ly8_k La0_h23) ?_
        refine mx_nmI  (fun h24 eh24 Xh24 Kh24 Lh24 => ?_)
        have H := H h24 eh24 Xh24
        have Kh24 := Kh24.trans Kh23
        have Lh24 := Lh24.trans Lh23
        have La0_h24 := La0_h23.ext Xh24
        refine mx_vretK rfl dX8_mark_26 ?_
        refine mx_goto (tgt := 5) dX8_readItem_84 rfl ?_
        exact mx_weak (al' := [some (rv a0), some (iv x1), none]) ⟨rfl, ⟨rfl, trivial⟩⟩ H
    · have H := H.2 c9
      refine mx_iconst dX8_isSign_16 ic_1 ?_
      refine mx_goto (tgt := 21) dX8_isSign_17 rfl ?_
      refine mx_zretK rfl dX8_isSign_21 (Or.inr rfl) ?_
      refine mx_if_eq (tgt := 52) dX8_readItem_45 rfl (fun _ => absurd ‹_› (by decide)) (fun _ => ?_)
      refine mx_iconst dX8_readItem_48 ic_5 ?_
      refine mx_goto (tgt := 68) dX8_readItem_49 rfl ?_
      refine mx_istore_n (al' := [some (rv a0), some (iv x1), some (iv (5 : Int32))]) dX8_readItem_68 rfl (Nat.le_of_ble_eq_true rfl) rfl ?_
      refine mx_aload_n dX8_readItem_69 rfl rfl ?_
      refine mx_callV 8 (y' := mi_X8_next) (vs := []) (st := []) (al' := [some (rv a0), none]) cl_8 V_X8_next (Or.inl q2170) dX8_readItem_70 rfl rfl (Nat.le_of_ble_eq_true rfl) (Nat.le_of_ble_eq_true rfl) (ly8_k La0_h) ?_
      refine ma_kv H (fun h25 Xh25 H => ?_) (fun x1 h1 X1 H => mt_out rfl H)
      have H := H Xh25
      have La0_h25 := La0_h.ext Xh25
      refine mx_aload_n dX8_readItem_73 rfl rfl ?_
      refine mx_iload_n dX8_readItem_74 rfl rfl ?_
      refine mx_callV 8 (y' := mi_X8_readAtom) (vs := [iv x1]) (st := []) (al' := [some (rv a0), some (iv x1), none, none]) cl_8 V_X8_readAtom (Or.inl q2275) dX8_readItem_75 rfl rfl (Nat.le_of_ble_eq_true rfl) (Nat.le_of_ble_eq_true rfl) (ly8_k La0_h25) ?_
      refine ma_kv H (fun h27 Xh27 H => ?_) (fun x1 h1 X1 H => mt_out rfl H)
      have H := H Xh27
      have La0_h27 := La0_h25.ext Xh27
      refine mx_aload_n dX8_readItem_78 rfl rfl ?_
      refine mx_iload_n dX8_readItem_79 rfl rfl ?_
      refine mx_iconst dX8_readItem_80 ic_0 ?_
      refine mx_callV 8 (y' := mi_X8_mark) (vs := [iv (5 : Int32), iv (0 : Int32)]) (st := []) (al' := [some (rv a0), some (iv (5 : Int32)), some (iv (0 : Int32))]) cl_8 V_X8_mark (Or.inl q2279) dX8_readItem_81 rfl rfl (Nat.le_of_ble_eq_true rfl) (Nat.le_of_ble_eq_true rfl) (ly8_k La0_h27) ?_
      refine mx_aload_n dX8_mark_0 rfl rfl ?_
      refine mx_get 8 64 (ref := "PrairiePoolModel") cl_8 (Nat.le_of_ble_eq_true rfl) (Or.inl q1691) (Or.inl rfl) dX8_mark_1 (fv_8_64 _ _) (ly8_k La0_h27) ?_
      refine mx_tr (ly8_R_0_64 La0_h27) ?_
      refine mx_aload_n dX8_mark_4 rfl rfl ?_
      refine mx_get 8 58 (ref := "PrairiePoolModel") cl_8 (Nat.le_of_ble_eq_true rfl) (Or.inl q1685) (Or.inl rfl) dX8_mark_5 (fv_8_58 _ _) (ly8_k La0_h27) ?_
      refine mx_ldcw q2096 dX8_mark_8 ?_
      refine mx_iload_n dX8_mark_11 rfl rfl ?_
      refine mx_imul dX8_mark_12 ?_
      refine mx_iload_n dX8_mark_13 rfl rfl ?_
      refine mx_iadd dX8_mark_14 ?_
      obtain ⟨k29, H⟩ := H
      refine my_iast dX8_mark_15 rfl (ly8_A_41 La0_h27 k29) ?_
      refine mx_nmI  (fun h30 eh30 Xh30 Kh30 Lh30 => ?_)
      have H := H h30 eh30 Xh30
      have La0_h30 := La0_h27.ext Xh30
      refine mx_aload_n dX8_mark_16 rfl rfl ?_
      refine mx_dup_r dX8_mark_17 ?_
      refine mx_get 8 58 (ref := "PrairiePoolModel") cl_8 (Nat.le_of_ble_eq_true rfl) (Or.inl q1685) (Or.inl rfl) dX8_mark_18 (fv_8_58 _ _) (ly8_k La0_h30) ?_
      refine mx_ti (ah_skIA eh30 (by omega)) ?_
      refine mx_iconst dX8_mark_21 ic_1 ?_
      refine mx_iadd dX8_mark_22 ?_
      refine mx_putI 8 58 (ref := "PrairiePoolModel") cl_8 (Nat.le_of_ble_eq_true rfl) (Or.inl q1685) (Or.inl rfl) dX8_mark_23 (Or.inl rfl) rfl (ly8_k La0_h30) ?_
      refine mx_nmI  (fun h31 eh31 Xh31 Kh31 Lh31 => ?_)
      have H := H h31 eh31 Xh31
      have Kh31 := Kh31.trans Kh30
      have Lh31 := Lh31.trans Lh30
      have La0_h31 := La0_h30.ext Xh31
      refine mx_vretK rfl dX8_mark_26 ?_
      refine mx_goto (tgt := 5) dX8_readItem_84 rfl ?_
      exact mx_weak (al' := [some (rv a0), some (iv x1), none]) ⟨rfl, ⟨rfl, trivial⟩⟩ H
theorem dX8_readAtom_0 : decode mi_X8_readAtom.2.1 0 = .ok (.aload_n 0, 1) := by decide +kernel
theorem dX8_readAtom_1 : decode mi_X8_readAtom.2.1 1 = .ok (.getfield 453, 3) := by decide +kernel
theorem dX8_readAtom_4 : decode mi_X8_readAtom.2.1 4 = .ok (.ifCond .le 4, 3) := by decide +kernel
theorem dX8_readAtom_7 : decode mi_X8_readAtom.2.1 7 = .ok (.return_, 1) := by decide +kernel
theorem dX8_readAtom_8 : decode mi_X8_readAtom.2.1 8 = .ok (.aload_n 0, 1) := by decide +kernel
theorem dX8_readAtom_9 : decode mi_X8_readAtom.2.1 9 = .ok (.getfield 422, 3) := by decide +kernel
theorem dX8_readAtom_12 : decode mi_X8_readAtom.2.1 12 = .ok (.iconst 2, 1) := by decide +kernel
theorem dX8_readAtom_13 : decode mi_X8_readAtom.2.1 13 = .ok (.if_icmp .ne 17, 3) := by decide +kernel
theorem dX8_readAtom_16 : decode mi_X8_readAtom.2.1 16 = .ok (.aload_n 0, 1) := by decide +kernel
theorem dX8_readAtom_17 : decode mi_X8_readAtom.2.1 17 = .ok (.iconst 0, 1) := by decide +kernel
theorem dX8_readAtom_18 : decode mi_X8_readAtom.2.1 18 = .ok (.aload_n 0, 1) := by decide +kernel
theorem dX8_readAtom_19 : decode mi_X8_readAtom.2.1 19 = .ok (.getfield 442, 3) := by decide +kernel
theorem dX8_readAtom_22 : decode mi_X8_readAtom.2.1 22 = .ok (.invokevirtual 528, 3) := by decide +kernel
theorem dX8_readAtom_25 : decode mi_X8_readAtom.2.1 25 = .ok (.aload_n 0, 1) := by decide +kernel
theorem dX8_readAtom_26 : decode mi_X8_readAtom.2.1 26 = .ok (.invokevirtual 522, 3) := by decide +kernel
theorem dX8_readAtom_29 : decode mi_X8_readAtom.2.1 29 = .ok (.return_, 1) := by decide +kernel
theorem dX8_readAtom_30 : decode mi_X8_readAtom.2.1 30 = .ok (.aload_n 0, 1) := by decide +kernel
theorem dX8_readAtom_31 : decode mi_X8_readAtom.2.1 31 = .ok (.bipush 40, 2) := by decide +kernel
theorem dX8_readAtom_33 : decode mi_X8_readAtom.2.1 33 = .ok (.invokevirtual 507, 3) := by decide +kernel
theorem dX8_readAtom_36 : decode mi_X8_readAtom.2.1 36 = .ok (.ifCond .eq 46, 3) := by decide +kernel
theorem dX8_readAtom_39 : decode mi_X8_readAtom.2.1 39 = .ok (.aload_n 0, 1) := by decide +kernel
theorem dX8_readAtom_40 : decode mi_X8_readAtom.2.1 40 = .ok (.invokevirtual 522, 3) := by decide +kernel
theorem dX8_readAtom_43 : decode mi_X8_readAtom.2.1 43 = .ok (.aload_n 0, 1) := by decide +kernel
theorem dX8_readAtom_44 : decode mi_X8_readAtom.2.1 44 = .ok (.iload_n 1, 1) := by decide +kernel
theorem dX8_readAtom_45 : decode mi_X8_readAtom.2.1 45 = .ok (.iconst 1, 1) := by decide +kernel
theorem dX8_readAtom_46 : decode mi_X8_readAtom.2.1 46 = .ok (.iadd, 1) := by decide +kernel
theorem dX8_readAtom_47 : decode mi_X8_readAtom.2.1 47 = .ok (.invokevirtual 531, 3) := by decide +kernel
theorem dX8_readAtom_50 : decode mi_X8_readAtom.2.1 50 = .ok (.aload_n 0, 1) := by decide +kernel
theorem dX8_readAtom_51 : decode mi_X8_readAtom.2.1 51 = .ok (.getfield 453, 3) := by decide +kernel
theorem dX8_readAtom_54 : decode mi_X8_readAtom.2.1 54 = .ok (.ifCond .ne 16, 3) := by decide +kernel
theorem dX8_readAtom_57 : decode mi_X8_readAtom.2.1 57 = .ok (.aload_n 0, 1) := by decide +kernel
theorem dX8_readAtom_58 : decode mi_X8_readAtom.2.1 58 = .ok (.bipush 41, 2) := by decide +kernel
theorem dX8_readAtom_60 : decode mi_X8_readAtom.2.1 60 = .ok (.invokevirtual 507, 3) := by decide +kernel
theorem dX8_readAtom_63 : decode mi_X8_readAtom.2.1 63 = .ok (.ifCond .ne 7, 3) := by decide +kernel
theorem dX8_readAtom_66 : decode mi_X8_readAtom.2.1 66 = .ok (.aload_n 0, 1) := by decide +kernel
theorem dX8_readAtom_67 : decode mi_X8_readAtom.2.1 67 = .ok (.invokevirtual 516, 3) := by decide +kernel
theorem dX8_readAtom_70 : decode mi_X8_readAtom.2.1 70 = .ok (.aload_n 0, 1) := by decide +kernel
theorem dX8_readAtom_71 : decode mi_X8_readAtom.2.1 71 = .ok (.getfield 453, 3) := by decide +kernel
theorem dX8_readAtom_74 : decode mi_X8_readAtom.2.1 74 = .ok (.ifCond .ne 7, 3) := by decide +kernel
theorem dX8_readAtom_77 : decode mi_X8_readAtom.2.1 77 = .ok (.aload_n 0, 1) := by decide +kernel
theorem dX8_readAtom_78 : decode mi_X8_readAtom.2.1 78 = .ok (.invokevirtual 522, 3) := by decide +kernel
theorem dX8_readAtom_81 : decode mi_X8_readAtom.2.1 81 = .ok (.return_, 1) := by decide +kernel
theorem dX8_readAtom_82 : decode mi_X8_readAtom.2.1 82 = .ok (.aload_n 0, 1) := by decide +kernel
theorem dX8_readAtom_83 : decode mi_X8_readAtom.2.1 83 = .ok (.invokevirtual 491, 3) := by decide +kernel
theorem dX8_readAtom_86 : decode mi_X8_readAtom.2.1 86 = .ok (.ifCond .ne 10, 3) := by decide +kernel
theorem dX8_readAtom_89 : decode mi_X8_readAtom.2.1 89 = .ok (.aload_n 0, 1) := by decide +kernel
theorem dX8_readAtom_90 : decode mi_X8_readAtom.2.1 90 = .ok (.invokevirtual 494, 3) := by decide +kernel
theorem dX8_readAtom_93 : decode mi_X8_readAtom.2.1 93 = .ok (.ifCond .eq 23, 3) := by decide +kernel
theorem dX8_readAtom_96 : decode mi_X8_readAtom.2.1 96 = .ok (.aload_n 0, 1) := by decide +kernel
theorem dX8_readAtom_97 : decode mi_X8_readAtom.2.1 97 = .ok (.iload_n 1, 1) := by decide +kernel
theorem dX8_readAtom_98 : decode mi_X8_readAtom.2.1 98 = .ok (.aload_n 0, 1) := by decide +kernel
theorem dX8_readAtom_99 : decode mi_X8_readAtom.2.1 99 = .ok (.invokevirtual 491, 3) := by decide +kernel
theorem dX8_readAtom_102 : decode mi_X8_readAtom.2.1 102 = .ok (.ifCond .eq 8, 3) := by decide +kernel
theorem dX8_readAtom_105 : decode mi_X8_readAtom.2.1 105 = .ok (.bipush 8, 2) := by decide +kernel
theorem dX8_readAtom_107 : decode mi_X8_readAtom.2.1 107 = .ok (.goto 5, 3) := by decide +kernel
theorem dX8_readAtom_110 : decode mi_X8_readAtom.2.1 110 = .ok (.bipush 9, 2) := by decide +kernel
theorem dX8_readAtom_112 : decode mi_X8_readAtom.2.1 112 = .ok (.invokevirtual 543, 3) := by decide +kernel
theorem dX8_readAtom_115 : decode mi_X8_readAtom.2.1 115 = .ok (.return_, 1) := by decide +kernel
theorem dX8_readAtom_116 : decode mi_X8_readAtom.2.1 116 = .ok (.aload_n 0, 1) := by decide +kernel
theorem dX8_readAtom_117 : decode mi_X8_readAtom.2.1 117 = .ok (.invokevirtual 546, 3) := by decide +kernel
theorem dX8_readAtom_120 : decode mi_X8_readAtom.2.1 120 = .ok (.istore_n 2, 1) := by decide +kernel
theorem dX8_readAtom_121 : decode mi_X8_readAtom.2.1 121 = .ok (.aload_n 0, 1) := by decide +kernel
theorem dX8_readAtom_122 : decode mi_X8_readAtom.2.1 122 = .ok (.invokevirtual 550, 3) := by decide +kernel
theorem dX8_readAtom_125 : decode mi_X8_readAtom.2.1 125 = .ok (.istore_n 3, 1) := by decide +kernel
theorem dX8_readAtom_126 : decode mi_X8_readAtom.2.1 126 = .ok (.iload_n 2, 1) := by decide +kernel
theorem dX8_readAtom_127 : decode mi_X8_readAtom.2.1 127 = .ok (.ifCond .ge 37, 3) := by decide +kernel
theorem dX8_readAtom_130 : decode mi_X8_readAtom.2.1 130 = .ok (.iload_n 3, 1) := by decide +kernel
theorem dX8_readAtom_131 : decode mi_X8_readAtom.2.1 131 = .ok (.ifCond .ge 33, 3) := by decide +kernel
theorem dX8_readAtom_134 : decode mi_X8_readAtom.2.1 134 = .ok (.aload_n 0, 1) := by decide +kernel
theorem dX8_readAtom_135 : decode mi_X8_readAtom.2.1 135 = .ok (.getfield 422, 3) := by decide +kernel
theorem dX8_readAtom_138 : decode mi_X8_readAtom.2.1 138 = .ok (.iconst 1, 1) := by decide +kernel
theorem dX8_readAtom_139 : decode mi_X8_readAtom.2.1 139 = .ok (.if_icmp .ne 20, 3) := by decide +kernel
theorem dX8_readAtom_142 : decode mi_X8_readAtom.2.1 142 = .ok (.aload_n 0, 1) := by decide +kernel
theorem dX8_readAtom_143 : decode mi_X8_readAtom.2.1 143 = .ok (.invokevirtual 510, 3) := by decide +kernel
theorem dX8_readAtom_146 : decode mi_X8_readAtom.2.1 146 = .ok (.ifCond .ne 13, 3) := by decide +kernel
theorem dX8_readAtom_149 : decode mi_X8_readAtom.2.1 149 = .ok (.aload_n 0, 1) := by decide +kernel
theorem dX8_readAtom_150 : decode mi_X8_readAtom.2.1 150 = .ok (.bipush 6, 2) := by decide +kernel
theorem dX8_readAtom_152 : decode mi_X8_readAtom.2.1 152 = .ok (.aload_n 0, 1) := by decide +kernel
theorem dX8_readAtom_153 : decode mi_X8_readAtom.2.1 153 = .ok (.getfield 416, 3) := by decide +kernel
theorem dX8_readAtom_156 : decode mi_X8_readAtom.2.1 156 = .ok (.invokevirtual 459, 3) := by decide +kernel
theorem dX8_readAtom_159 : decode mi_X8_readAtom.2.1 159 = .ok (.aload_n 0, 1) := by decide +kernel
theorem dX8_readAtom_160 : decode mi_X8_readAtom.2.1 160 = .ok (.invokevirtual 516, 3) := by decide +kernel
theorem dX8_readAtom_163 : decode mi_X8_readAtom.2.1 163 = .ok (.return_, 1) := by decide +kernel
theorem dX8_readAtom_164 : decode mi_X8_readAtom.2.1 164 = .ok (.aload_n 0, 1) := by decide +kernel
theorem dX8_readAtom_165 : decode mi_X8_readAtom.2.1 165 = .ok (.iload_n 2, 1) := by decide +kernel
theorem dX8_readAtom_166 : decode mi_X8_readAtom.2.1 166 = .ok (.ifCond .lt 7, 3) := by decide +kernel
theorem dX8_readAtom_169 : decode mi_X8_readAtom.2.1 169 = .ok (.iconst 1, 1) := by decide +kernel
theorem dX8_readAtom_170 : decode mi_X8_readAtom.2.1 170 = .ok (.goto 4, 3) := by decide +kernel
theorem dX8_readAtom_173 : decode mi_X8_readAtom.2.1 173 = .ok (.iconst 2, 1) := by decide +kernel
theorem dX8_readAtom_174 : decode mi_X8_readAtom.2.1 174 = .ok (.iload_n 2, 1) := by decide +kernel
theorem dX8_readAtom_175 : decode mi_X8_readAtom.2.1 175 = .ok (.ifCond .lt 7, 3) := by decide +kernel
theorem dX8_readAtom_178 : decode mi_X8_readAtom.2.1 178 = .ok (.iload_n 2, 1) := by decide +kernel
theorem dX8_readAtom_179 : decode mi_X8_readAtom.2.1 179 = .ok (.goto 4, 3) := by decide +kernel
theorem dX8_readAtom_182 : decode mi_X8_readAtom.2.1 182 = .ok (.iload_n 3, 1) := by decide +kernel
theorem dX8_readAtom_183 : decode mi_X8_readAtom.2.1 183 = .ok (.invokevirtual 528, 3) := by decide +kernel
theorem dX8_readAtom_186 : decode mi_X8_readAtom.2.1 186 = .ok (.aload_n 0, 1) := by decide +kernel
theorem dX8_readAtom_187 : decode mi_X8_readAtom.2.1 187 = .ok (.invokevirtual 522, 3) := by decide +kernel
theorem dX8_readAtom_190 : decode mi_X8_readAtom.2.1 190 = .ok (.return_, 1) := by decide +kernel
theorem v_X8_readAtom {G : ma_G} {d : Nat} {a0 : Nat} {x1 : Int32} {h : ah_T} {Q : Option ma_V → ah_T → Prop} {E : Nat → ah_T → Prop} (La0_h : LY8 h a0) (H : ((ah_I h a0 48) ≤ 0 → (¬ (ah_I h a0 50) = (2 : Int32) → (¬ (ah_I h a0 50) = (3 : Int32) → (¬ (ah_I h a0 50) = (1 : Int32) → MX G mi_X8_variable (d + 1) 0 [some (rv a0)] [] h (Qi fun r6 h5 => ah_ext h h5 → MX G mi_X8_named (d + 1) 0 [some (rv a0), none] [] h5 (Qi fun r8 h7 => ah_ext h5 h7 → (0 ≤ r6 → MX G mi_X8_readAtom (d + 2) 164 [some (rv a0), none, some (iv r6), some (iv r8)] [] h7 Q E) ∧ (¬ 0 ≤ r6 → (0 ≤ r8 → MX G mi_X8_readAtom (d + 2) 164 [some (rv a0), none, some (iv r6), some (iv r8)] [] h7 Q E) ∧ (¬ 0 ≤ r8 → (¬ (ah_I h7 a0 50) = (1 : Int32) → (¬ (ah_I h7 a0 50) = (4 : Int32) → ((ah_I h7 a0 48) ≤ 0 → ∀ h14 : ah_T, h14 = ah_wI h7 a0 48 (2 : Int32) → ah_ext h7 h14 → ∀ h15 : ah_T, h15 = ah_wI h14 a0 49 (ah_I h7 a0 51) → ah_ext h14 h15 → Q none h15) ∧ (¬ (ah_I h7 a0 48) ≤ 0 → Q none h7)) ∧ ((ah_I h7 a0 50) = (4 : Int32) → ((ah_I h7 a0 48) ≤ 0 → ∀ h17 : ah_T, h17 = ah_wI h7 a0 48 (1 : Int32) → ah_ext h7 h17 → ∀ h18 : ah_T, h18 = ah_wI h17 a0 49 (ah_I h7 a0 51) → ah_ext h17 h18 → Q none h18) ∧ (¬ (ah_I h7 a0 48) ≤ 0 → Q none h7))) ∧ ((ah_I h7 a0 50) = (1 : Int32) → MX G mi_X8_isKept (d + 1) 0 [some (rv a0)] [] h7 (Qi fun r20 h19 => ah_ext h7 h19 → (¬ r20 = 0 → (¬ (ah_I h19 a0 50) = (4 : Int32) → ((ah_I h19 a0 48) ≤ 0 → ∀ h24 : ah_T, h24 = ah_wI h19 a0 48 (2 : Int32) → ah_ext h19 h24 → ∀ h25 : ah_T, h25 = ah_wI h24 a0 49 (ah_I h19 a0 51) → ah_ext h24 h25 → Q none h25) ∧ (¬ (ah_I h19 a0 48) ≤ 0 → Q none h19)) ∧ ((ah_I h19 a0 50) = (4 : Int32) → ((ah_I h19 a0 48) ≤ 0 → ∀ h27 : ah_T, h27 = ah_wI h19 a0 48 (1 : Int32) → ah_ext h19 h27 → ∀ h28 : ah_T, h28 = ah_wI h27 a0 49 (ah_I h19 a0 51) → ah_ext h27 h28 → Q none h28) ∧ (¬ (ah_I h19 a0 48) ≤ 0 → Q none h19))) ∧ (r20 = 0 → ((ah_I h19 a0 48) ≤ 0 → ∀ h30 : ah_T, h30 = ah_wI h19 a0 48 (6 : Int32) → ah_ext h19 h30 → ∀ h31 : ah_T, h31 = ah_wI h30 a0 49 (ah_I h19 a0 51) → ah_ext h30 h31 → (¬ (ah_I h19 a0 50) = (4 : Int32) → Q none h31) ∧ ((ah_I h19 a0 50) = (4 : Int32) → Q none h31)) ∧ (¬ (ah_I h19 a0 48) ≤ 0 → (¬ (ah_I h19 a0 50) = (4 : Int32) → Q none h19) ∧ ((ah_I h19 a0 50) = (4 : Int32) → Q none h19)))) E)))) E) E) ∧ ((ah_I h a0 50) = (1 : Int32) → (¬ (ah_J h a0 55) = (12748404 : Int64) → (¬ (ah_J h a0 55) = (441972 : Int64) → MX G mi_X8_variable (d + 1) 0 [some (rv a0)] [] h (Qi fun r37 h36 => ah_ext h h36 → MX G mi_X8_named (d + 1) 0 [some (rv a0), none] [] h36 (Qi fun r39 h38 => ah_ext h36 h38 → (0 ≤ r37 → MX G mi_X8_readAtom (d + 2) 164 [some (rv a0), none, some (iv r37), some (iv r39)] [] h38 Q E) ∧ (¬ 0 ≤ r37 → (0 ≤ r39 → MX G mi_X8_readAtom (d + 2) 164 [some (rv a0), none, some (iv r37), some (iv r39)] [] h38 Q E) ∧ (¬ 0 ≤ r39 → (¬ (ah_I h38 a0 50) = (1 : Int32) → (¬ (ah_I h38 a0 50) = (4 : Int32) → ((ah_I h38 a0 48) ≤ 0 → ∀ h45 : ah_T, h45 = ah_wI h38 a0 48 (2 : Int32) → ah_ext h38 h45 → ∀ h46 : ah_T, h46 = ah_wI h45 a0 49 (ah_I h38 a0 51) → ah_ext h45 h46 → Q none h46) ∧ (¬ (ah_I h38 a0 48) ≤ 0 → Q none h38)) ∧ ((ah_I h38 a0 50) = (4 : Int32) → ((ah_I h38 a0 48) ≤ 0 → ∀ h48 : ah_T, h48 = ah_wI h38 a0 48 (1 : Int32) → ah_ext h38 h48 → ∀ h49 : ah_T, h49 = ah_wI h48 a0 49 (ah_I h38 a0 51) → ah_ext h48 h49 → Q none h49) ∧ (¬ (ah_I h38 a0 48) ≤ 0 → Q none h38))) ∧ ((ah_I h38 a0 50) = (1 : Int32) → MX G mi_X8_isKept (d + 1) 0 [some (rv a0)] [] h38 (Qi fun r51 h50 => ah_ext h38 h50 → (¬ r51 = 0 → (¬ (ah_I h50 a0 50) = (4 : Int32) → ((ah_I h50 a0 48) ≤ 0 → ∀ h55 : ah_T, h55 = ah_wI h50 a0 48 (2 : Int32) → ah_ext h50 h55 → ∀ h56 : ah_T, h56 = ah_wI h55 a0 49 (ah_I h50 a0 51) → ah_ext h55 h56 → Q none h56) ∧ (¬ (ah_I h50 a0 48) ≤ 0 → Q none h50)) ∧ ((ah_I h50 a0 50) = (4 : Int32) → ((ah_I h50 a0 48) ≤ 0 → ∀ h58 : ah_T, h58 = ah_wI h50 a0 48 (1 : Int32) → ah_ext h50 h58 → ∀ h59 : ah_T, h59 = ah_wI h58 a0 49 (ah_I h50 a0 51) → ah_ext h58 h59 → Q none h59) ∧ (¬ (ah_I h50 a0 48) ≤ 0 → Q none h50))) ∧ (r51 = 0 → ((ah_I h50 a0 48) ≤ 0 → ∀ h61 : ah_T, h61 = ah_wI h50 a0 48 (6 : Int32) → ah_ext h50 h61 → ∀ h62 : ah_T, h62 = ah_wI h61 a0 49 (ah_I h50 a0 51) → ah_ext h61 h62 → (¬ (ah_I h50 a0 50) = (4 : Int32) → Q none h62) ∧ ((ah_I h50 a0 50) = (4 : Int32) → Q none h62)) ∧ (¬ (ah_I h50 a0 48) ≤ 0 → (¬ (ah_I h50 a0 50) = (4 : Int32) → Q none h50) ∧ ((ah_I h50 a0 50) = (4 : Int32) → Q none h50)))) E)))) E) E) ∧ ((ah_J h a0 55) = (441972 : Int64) → MX G mi_X8_readFew (d + 1) 0 [some (rv a0), some (iv x1), some (iv (9 : Int32))] [] h (Qv fun h65 => ah_ext h h65 → Q none h65) E)) ∧ ((ah_J h a0 55) = (12748404 : Int64) → MX G mi_X8_readFew (d + 1) 0 [some (rv a0), some (iv x1), some (iv (8 : Int32))] [] h (Qv fun h67 => ah_ext h h67 → Q none h67) E))) ∧ ((ah_I h a0 50) = (3 : Int32) → (¬ (ah_I h a0 53) = (40 : Int32) → (¬ (ah_I h a0 50) = (1 : Int32) → MX G mi_X8_variable (d + 1) 0 [some (rv a0)] [] h (Qi fun r72 h71 => ah_ext h h71 → MX G mi_X8_named (d + 1) 0 [some (rv a0), none] [] h71 (Qi fun r74 h73 => ah_ext h71 h73 → (0 ≤ r72 → MX G mi_X8_readAtom (d + 2) 164 [some (rv a0), none, some (iv r72), some (iv r74)] [] h73 Q E) ∧ (¬ 0 ≤ r72 → (0 ≤ r74 → MX G mi_X8_readAtom (d + 2) 164 [some (rv a0), none, some (iv r72), some (iv r74)] [] h73 Q E) ∧ (¬ 0 ≤ r74 → (¬ (ah_I h73 a0 50) = (1 : Int32) → (¬ (ah_I h73 a0 50) = (4 : Int32) → ((ah_I h73 a0 48) ≤ 0 → ∀ h80 : ah_T, h80 = ah_wI h73 a0 48 (2 : Int32) → ah_ext h73 h80 → ∀ h81 : ah_T, h81 = ah_wI h80 a0 49 (ah_I h73 a0 51) → ah_ext h80 h81 → Q none h81) ∧ (¬ (ah_I h73 a0 48) ≤ 0 → Q none h73)) ∧ ((ah_I h73 a0 50) = (4 : Int32) → ((ah_I h73 a0 48) ≤ 0 → ∀ h83 : ah_T, h83 = ah_wI h73 a0 48 (1 : Int32) → ah_ext h73 h83 → ∀ h84 : ah_T, h84 = ah_wI h83 a0 49 (ah_I h73 a0 51) → ah_ext h83 h84 → Q none h84) ∧ (¬ (ah_I h73 a0 48) ≤ 0 → Q none h73))) ∧ ((ah_I h73 a0 50) = (1 : Int32) → MX G mi_X8_isKept (d + 1) 0 [some (rv a0)] [] h73 (Qi fun r86 h85 => ah_ext h73 h85 → (¬ r86 = 0 → (¬ (ah_I h85 a0 50) = (4 : Int32) → ((ah_I h85 a0 48) ≤ 0 → ∀ h90 : ah_T, h90 = ah_wI h85 a0 48 (2 : Int32) → ah_ext h85 h90 → ∀ h91 : ah_T, h91 = ah_wI h90 a0 49 (ah_I h85 a0 51) → ah_ext h90 h91 → Q none h91) ∧ (¬ (ah_I h85 a0 48) ≤ 0 → Q none h85)) ∧ ((ah_I h85 a0 50) = (4 : Int32) → ((ah_I h85 a0 48) ≤ 0 → ∀ h93 : ah_T, h93 = ah_wI h85 a0 48 (1 : Int32) → ah_ext h85 h93 → ∀ h94 : ah_T, h94 = ah_wI h93 a0 49 (ah_I h85 a0 51) → ah_ext h93 h94 → Q none h94) ∧ (¬ (ah_I h85 a0 48) ≤ 0 → Q none h85))) ∧ (r86 = 0 → ((ah_I h85 a0 48) ≤ 0 → ∀ h96 : ah_T, h96 = ah_wI h85 a0 48 (6 : Int32) → ah_ext h85 h96 → ∀ h97 : ah_T, h97 = ah_wI h96 a0 49 (ah_I h85 a0 51) → ah_ext h96 h97 → (¬ (ah_I h85 a0 50) = (4 : Int32) → Q none h97) ∧ ((ah_I h85 a0 50) = (4 : Int32) → Q none h97)) ∧ (¬ (ah_I h85 a0 48) ≤ 0 → (¬ (ah_I h85 a0 50) = (4 : Int32) → Q none h85) ∧ ((ah_I h85 a0 50) = (4 : Int32) → Q none h85)))) E)))) E) E) ∧ ((ah_I h a0 50) = (1 : Int32) → (¬ (ah_J h a0 55) = (12748404 : Int64) → (¬ (ah_J h a0 55) = (441972 : Int64) → MX G mi_X8_variable (d + 1) 0 [some (rv a0)] [] h (Qi fun r103 h102 => ah_ext h h102 → MX G mi_X8_named (d + 1) 0 [some (rv a0), none] [] h102 (Qi fun r105 h104 => ah_ext h102 h104 → (0 ≤ r103 → MX G mi_X8_readAtom (d + 2) 164 [some (rv a0), none, some (iv r103), some (iv r105)] [] h104 Q E) ∧ (¬ 0 ≤ r103 → (0 ≤ r105 → MX G mi_X8_readAtom (d + 2) 164 [some (rv a0), none, some (iv r103), some (iv r105)] [] h104 Q E) ∧ (¬ 0 ≤ r105 → (¬ (ah_I h104 a0 50) = (1 : Int32) → (¬ (ah_I h104 a0 50) = (4 : Int32) → ((ah_I h104 a0 48) ≤ 0 → ∀ h111 : ah_T, h111 = ah_wI h104 a0 48 (2 : Int32) → ah_ext h104 h111 → ∀ h112 : ah_T, h112 = ah_wI h111 a0 49 (ah_I h104 a0 51) → ah_ext h111 h112 → Q none h112) ∧ (¬ (ah_I h104 a0 48) ≤ 0 → Q none h104)) ∧ ((ah_I h104 a0 50) = (4 : Int32) → ((ah_I h104 a0 48) ≤ 0 → ∀ h114 : ah_T, h114 = ah_wI h104 a0 48 (1 : Int32) → ah_ext h104 h114 → ∀ h115 : ah_T, h115 = ah_wI h114 a0 49 (ah_I h104 a0 51) → ah_ext h114 h115 → Q none h115) ∧ (¬ (ah_I h104 a0 48) ≤ 0 → Q none h104))) ∧ ((ah_I h104 a0 50) = (1 : Int32) → MX G mi_X8_isKept (d + 1) 0 [some (rv a0)] [] h104 (Qi fun r117 h116 => ah_ext h104 h116 → (¬ r117 = 0 → (¬ (ah_I h116 a0 50) = (4 : Int32) → ((ah_I h116 a0 48) ≤ 0 → ∀ h121 : ah_T, h121 = ah_wI h116 a0 48 (2 : Int32) → ah_ext h116 h121 → ∀ h122 : ah_T, h122 = ah_wI h121 a0 49 (ah_I h116 a0 51) → ah_ext h121 h122 → Q none h122) ∧ (¬ (ah_I h116 a0 48) ≤ 0 → Q none h116)) ∧ ((ah_I h116 a0 50) = (4 : Int32) → ((ah_I h116 a0 48) ≤ 0 → ∀ h124 : ah_T, h124 = ah_wI h116 a0 48 (1 : Int32) → ah_ext h116 h124 → ∀ h125 : ah_T, h125 = ah_wI h124 a0 49 (ah_I h116 a0 51) → ah_ext h124 h125 → Q none h125) ∧ (¬ (ah_I h116 a0 48) ≤ 0 → Q none h116))) ∧ (r117 = 0 → ((ah_I h116 a0 48) ≤ 0 → ∀ h127 : ah_T, h127 = ah_wI h116 a0 48 (6 : Int32) → ah_ext h116 h127 → ∀ h128 : ah_T, h128 = ah_wI h127 a0 49 (ah_I h116 a0 51) → ah_ext h127 h128 → (¬ (ah_I h116 a0 50) = (4 : Int32) → Q none h128) ∧ ((ah_I h116 a0 50) = (4 : Int32) → Q none h128)) ∧ (¬ (ah_I h116 a0 48) ≤ 0 → (¬ (ah_I h116 a0 50) = (4 : Int32) → Q none h116) ∧ ((ah_I h116 a0 50) = (4 : Int32) → Q none h116)))) E)))) E) E) ∧ ((ah_J h a0 55) = (441972 : Int64) → MX G mi_X8_readFew (d + 1) 0 [some (rv a0), some (iv x1), some (iv (9 : Int32))] [] h (Qv fun h131 => ah_ext h h131 → Q none h131) E)) ∧ ((ah_J h a0 55) = (12748404 : Int64) → MX G mi_X8_readFew (d + 1) 0 [some (rv a0), some (iv x1), some (iv (8 : Int32))] [] h (Qv fun h133 => ah_ext h h133 → Q none h133) E))) ∧ ((ah_I h a0 53) = (40 : Int32) → MX G mi_X8_next (d + 1) 0 [some (rv a0), none] [] h (Qv fun h135 => ah_ext h h135 → MX G mi_X8_readWhole (d + 1) 0 [some (rv a0), some (iv (x1 + (1 : Int32))), none, none] [] h135 (Qv fun h137 => ah_ext h135 h137 → (¬ (ah_I h137 a0 48) = 0 → Q none h137) ∧ ((ah_I h137 a0 48) = 0 → (¬ (ah_I h137 a0 50) = (3 : Int32) → (¬ (ah_I h137 a0 50) = (4 : Int32) → ((ah_I h137 a0 48) ≤ 0 → ∀ h143 : ah_T, h143 = ah_wI h137 a0 48 (2 : Int32) → ah_ext h137 h143 → ∀ h144 : ah_T, h144 = ah_wI h143 a0 49 (ah_I h137 a0 51) → ah_ext h143 h144 → Q none h144) ∧ (¬ (ah_I h137 a0 48) ≤ 0 → MX G mi_X8_next (d + 1) 0 [some (rv a0), none] [] h137 (Qv fun h145 => ah_ext h137 h145 → Q none h145) E)) ∧ ((ah_I h137 a0 50) = (4 : Int32) → ((ah_I h137 a0 48) ≤ 0 → ∀ h148 : ah_T, h148 = ah_wI h137 a0 48 (1 : Int32) → ah_ext h137 h148 → ∀ h149 : ah_T, h149 = ah_wI h148 a0 49 (ah_I h137 a0 51) → ah_ext h148 h149 → Q none h149) ∧ (¬ (ah_I h137 a0 48) ≤ 0 → MX G mi_X8_next (d + 1) 0 [some (rv a0), none] [] h137 (Qv fun h150 => ah_ext h137 h150 → Q none h150) E))) ∧ ((ah_I h137 a0 50) = (3 : Int32) → (¬ (ah_I h137 a0 53) = (41 : Int32) → (¬ (ah_I h137 a0 50) = (4 : Int32) → ((ah_I h137 a0 48) ≤ 0 → ∀ h155 : ah_T, h155 = ah_wI h137 a0 48 (2 : Int32) → ah_ext h137 h155 → ∀ h156 : ah_T, h156 = ah_wI h155 a0 49 (ah_I h137 a0 51) → ah_ext h155 h156 → Q none h156) ∧ (¬ (ah_I h137 a0 48) ≤ 0 → MX G mi_X8_next (d + 1) 0 [some (rv a0), none] [] h137 (Qv fun h157 => ah_ext h137 h157 → Q none h157) E)) ∧ ((ah_I h137 a0 50) = (4 : Int32) → ((ah_I h137 a0 48) ≤ 0 → ∀ h160 : ah_T, h160 = ah_wI h137 a0 48 (1 : Int32) → ah_ext h137 h160 → ∀ h161 : ah_T, h161 = ah_wI h160 a0 49 (ah_I h137 a0 51) → ah_ext h160 h161 → Q none h161) ∧ (¬ (ah_I h137 a0 48) ≤ 0 → MX G mi_X8_next (d + 1) 0 [some (rv a0), none] [] h137 (Qv fun h162 => ah_ext h137 h162 → Q none h162) E))) ∧ ((ah_I h137 a0 53) = (41 : Int32) → MX G mi_X8_next (d + 1) 0 [some (rv a0), none] [] h137 (Qv fun h164 => ah_ext h137 h164 → Q none h164) E)))) E) E))) ∧ ((ah_I h a0 50) = (2 : Int32) → vp_in (ah_I h a0 58) 1100 ∧ ∀ h167 : ah_T, h167 = ah_wI h (a0 + 41) (ah_I h a0 58).toNatClampNeg (((1048576 : Int32) * (0 : Int32)) + (ah_I h a0 53)) → ah_ext h h167 → ∀ h168 : ah_T, h168 = ah_wI h167 a0 58 ((ah_I h a0 58) + (1 : Int32)) → ah_ext h167 h168 → MX G mi_X8_next (d + 1) 0 [some (rv a0), none] [] h168 (Qv fun h169 => ah_ext h168 h169 → Q none h169) E)) ∧ (¬ (ah_I h a0 48) ≤ 0 → Q none h)) : MX G mi_X8_readAtom (d + 2) 0 [some (rv a0), some (iv x1), none, none] [] h Q E := by
  refine mx_aload_n dX8_readAtom_0 rfl rfl ?_
  refine mx_get 8 48 (ref := "PrairiePoolModel") cl_8 (Nat.le_of_ble_eq_true rfl) (Or.inl q1675) (Or.inl rfl) dX8_readAtom_1 (fv_8_48 _ _) (ly8_k La0_h) ?_
  refine mx_if_le (tgt := 8) dX8_readAtom_4 rfl (fun c1 => ?_) (fun c1 => ?_)
  · have H := H.1 c1
    refine mx_aload_n dX8_readAtom_8 rfl rfl ?_
    refine mx_get 8 50 (ref := "PrairiePoolModel") cl_8 (Nat.le_of_ble_eq_true rfl) (Or.inl q1677) (Or.inl rfl) dX8_readAtom_9 (fv_8_50 _ _) (ly8_k La0_h) ?_
    refine mx_iconst dX8_readAtom_12 ic_2 ?_
    refine mx_icmp_ne (tgt := 30) dX8_readAtom_13 rfl (fun c2 => ?_) (fun c2 => ?_)
    · have H := H.1 c2
      refine mx_aload_n dX8_readAtom_30 rfl rfl ?_
      refine mx_bipush dX8_readAtom_31 ib_40 ?_
      refine mx_callV 8 (y' := mi_X8_isSign) (vs := [iv (40 : Int32)]) (st := []) (al' := [some (rv a0), some (iv (40 : Int32))]) cl_8 V_X8_isSign (Or.inl q2251) dX8_readAtom_33 rfl rfl (Nat.le_of_ble_eq_true rfl) (Nat.le_of_ble_eq_true rfl) (ly8_k La0_h) ?_
      refine mx_aload_n dX8_isSign_0 rfl rfl ?_
      refine mx_get 8 50 (ref := "PrairiePoolModel") cl_8 (Nat.le_of_ble_eq_true rfl) (Or.inl q1677) (Or.inl rfl) dX8_isSign_1 (fv_8_50 _ _) (ly8_k La0_h) ?_
      refine mx_iconst dX8_isSign_4 ic_3 ?_
      refine mx_icmp_ne (tgt := 20) dX8_isSign_5 rfl (fun c3 => ?_) (fun c3 => ?_)
      · have H := H.1 c3
        refine mx_iconst dX8_isSign_20 ic_0 ?_
        refine mx_zretK rfl dX8_isSign_21 (Or.inl rfl) ?_
        refine mx_if_eq (tgt := 82) dX8_readAtom_36 rfl (fun _ => ?_) (fun _ => absurd ‹_› (by decide))
        refine mx_aload_n dX8_readAtom_82 rfl rfl ?_
        refine mx_callV 8 (y' := mi_X8_isLeast) (vs := []) (st := []) (al' := [some (rv a0)]) cl_8 V_X8_isLeast (Or.inl q2231) dX8_readAtom_83 rfl rfl (Nat.le_of_ble_eq_true rfl) (Nat.le_of_ble_eq_true rfl) (ly8_k La0_h) ?_
        refine mx_aload_n dX8_isLeast_0 rfl rfl ?_
        refine mx_bipush dX8_isLeast_1 ib_108 ?_
        refine mx_bipush dX8_isLeast_3 ib_101 ?_
        refine mx_bipush dX8_isLeast_5 ib_97 ?_
        refine mx_bipush dX8_isLeast_7 ib_115 ?_
        refine mx_bipush dX8_isLeast_9 ib_116 ?_
        refine mx_iconst dX8_isLeast_11 ic_0 ?_
        refine mx_callS (y' := mi_X8_spelled) (vs := [iv (108 : Int32), iv (101 : Int32), iv (97 : Int32), iv (115 : Int32), iv (116 : Int32), iv (0 : Int32)]) (st := [rv a0]) (al' := [some (iv (108 : Int32)), some (iv (101 : Int32)), some (iv (97 : Int32)), some (iv (115 : Int32)), some (iv (116 : Int32)), some (iv (0 : Int32)), none, none]) S_X8_spelled q2075 dX8_isLeast_12 rfl rfl (Nat.le_of_ble_eq_true rfl) (Nat.le_of_ble_eq_true rfl) ?_
        refine mx_iload_n dX8_spelled_0 rfl rfl ?_
        refine mx_i2l dX8_spelled_1 ?_
        refine mx_ldc2 q2078 dX8_spelled_2 ?_
        refine mx_lsub dX8_spelled_5 ?_
        refine mx_lstore (al' := [some (iv (108 : Int32)), some (iv (101 : Int32)), some (iv (97 : Int32)), some (iv (115 : Int32)), some (iv (116 : Int32)), some (iv (0 : Int32)), some (jv ((108 : Int32).toInt64 - (96 : Int64))), none]) dX8_spelled_6 (Nat.le_of_ble_eq_true rfl) rfl ?_
        refine mx_lload dX8_spelled_8 rfl ?_
        refine mx_ldc2 q2079 dX8_spelled_10 ?_
        refine mx_lmul dX8_spelled_13 ?_
        refine mx_iload_n dX8_spelled_14 rfl rfl ?_
        refine mx_i2l dX8_spelled_15 ?_
        refine mx_ladd dX8_spelled_16 ?_
        refine mx_ldc2 q2078 dX8_spelled_17 ?_
        refine mx_lsub dX8_spelled_20 ?_
        refine mx_lstore (al' := [some (iv (108 : Int32)), some (iv (101 : Int32)), some (iv (97 : Int32)), some (iv (115 : Int32)), some (iv (116 : Int32)), some (iv (0 : Int32)), some (jv (((((108 : Int32).toInt64 - (96 : Int64)) * (32 : Int64)) + (101 : Int32).toInt64) - (96 : Int64))), none]) dX8_spelled_21 (Nat.le_of_ble_eq_true rfl) rfl ?_
        refine mx_iload_n dX8_spelled_23 rfl rfl ?_
        refine mx_if_le (tgt := 43) dX8_spelled_24 rfl (fun _ => absurd ‹_› (by decide)) (fun _ => ?_)
        refine mx_lload dX8_spelled_27 rfl ?_
        refine mx_ldc2 q2079 dX8_spelled_29 ?_
        refine mx_lmul dX8_spelled_32 ?_
        refine mx_iload_n dX8_spelled_33 rfl rfl ?_
        refine mx_i2l dX8_spelled_34 ?_
        refine mx_ladd dX8_spelled_35 ?_
        refine mx_ldc2 q2078 dX8_spelled_36 ?_
        refine mx_lsub dX8_spelled_39 ?_
        refine mx_goto (tgt := 45) dX8_spelled_40 rfl ?_
        refine mx_lstore (al' := [some (iv (108 : Int32)), some (iv (101 : Int32)), some (iv (97 : Int32)), some (iv (115 : Int32)), some (iv (116 : Int32)), some (iv (0 : Int32)), some (jv ((((((((108 : Int32).toInt64 - (96 : Int64)) * (32 : Int64)) + (101 : Int32).toInt64) - (96 : Int64)) * (32 : Int64)) + (97 : Int32).toInt64) - (96 : Int64))), none]) dX8_spelled_45 (Nat.le_of_ble_eq_true rfl) rfl ?_
        refine mx_iload_n dX8_spelled_47 rfl rfl ?_
        refine mx_if_le (tgt := 67) dX8_spelled_48 rfl (fun _ => absurd ‹_› (by decide)) (fun _ => ?_)
        refine mx_lload dX8_spelled_51 rfl ?_
        refine mx_ldc2 q2079 dX8_spelled_53 ?_
        refine mx_lmul dX8_spelled_56 ?_
        refine mx_iload_n dX8_spelled_57 rfl rfl ?_
        refine mx_i2l dX8_spelled_58 ?_
        refine mx_ladd dX8_spelled_59 ?_
        refine mx_ldc2 q2078 dX8_spelled_60 ?_
        refine mx_lsub dX8_spelled_63 ?_
        refine mx_goto (tgt := 69) dX8_spelled_64 rfl ?_
        refine mx_lstore (al' := [some (iv (108 : Int32)), some (iv (101 : Int32)), some (iv (97 : Int32)), some (iv (115 : Int32)), some (iv (116 : Int32)), some (iv (0 : Int32)), some (jv (((((((((((108 : Int32).toInt64 - (96 : Int64)) * (32 : Int64)) + (101 : Int32).toInt64) - (96 : Int64)) * (32 : Int64)) + (97 : Int32).toInt64) - (96 : Int64)) * (32 : Int64)) + (115 : Int32).toInt64) - (96 : Int64))), none]) dX8_spelled_69 (Nat.le_of_ble_eq_true rfl) rfl ?_
        refine mx_iload dX8_spelled_71 rfl ?_
        refine mx_if_le (tgt := 93) dX8_spelled_73 rfl (fun _ => absurd ‹_› (by decide)) (fun _ => ?_)
        refine mx_lload dX8_spelled_76 rfl ?_
        refine mx_ldc2 q2079 dX8_spelled_78 ?_
        refine mx_lmul dX8_spelled_81 ?_
        refine mx_iload dX8_spelled_82 rfl ?_
        refine mx_i2l dX8_spelled_84 ?_
        refine mx_ladd dX8_spelled_85 ?_
        refine mx_ldc2 q2078 dX8_spelled_86 ?_
        refine mx_lsub dX8_spelled_89 ?_
        refine mx_goto (tgt := 95) dX8_spelled_90 rfl ?_
        refine mx_lstore (al' := [some (iv (108 : Int32)), some (iv (101 : Int32)), some (iv (97 : Int32)), some (iv (115 : Int32)), some (iv (116 : Int32)), some (iv (0 : Int32)), some (jv ((((((((((((((108 : Int32).toInt64 - (96 : Int64)) * (32 : Int64)) + (101 : Int32).toInt64) - (96 : Int64)) * (32 : Int64)) + (97 : Int32).toInt64) - (96 : Int64)) * (32 : Int64)) + (115 : Int32).toInt64) - (96 : Int64)) * (32 : Int64)) + (116 : Int32).toInt64) - (96 : Int64))), none]) dX8_spelled_95 (Nat.le_of_ble_eq_true rfl) rfl ?_
        refine mx_iload dX8_spelled_97 rfl ?_
        refine mx_if_le (tgt := 119) dX8_spelled_99 rfl (fun _ => ?_) (fun _ => absurd ‹_› (by decide))
        refine mx_lload dX8_spelled_119 rfl ?_
        refine mx_lretK rfl dX8_spelled_121 ?_
        refine mx_tj (show ((((((((((((((108 : Int32).toInt64 - (96 : Int64)) * (32 : Int64)) + (101 : Int32).toInt64) - (96 : Int64)) * (32 : Int64)) + (97 : Int32).toInt64) - (96 : Int64)) * (32 : Int64)) + (115 : Int32).toInt64) - (96 : Int64)) * (32 : Int64)) + (116 : Int32).toInt64) - (96 : Int64)) = (12748404 : Int64) by decide) ?_
        refine mx_callV 8 (y' := mi_X8_isWord) (vs := [jv (12748404 : Int64)]) (st := []) (al' := [some (rv a0), some (jv (12748404 : Int64)), none]) cl_8 V_X8_isWord (Or.inl q2196) dX8_isLeast_15 rfl rfl (Nat.le_of_ble_eq_true rfl) (Nat.le_of_ble_eq_true rfl) (ly8_k La0_h) ?_
        refine mx_aload_n dX8_isWord_0 rfl rfl ?_
        refine mx_get 8 50 (ref := "PrairiePoolModel") cl_8 (Nat.le_of_ble_eq_true rfl) (Or.inl q1677) (Or.inl rfl) dX8_isWord_1 (fv_8_50 _ _) (ly8_k La0_h) ?_
        refine mx_iconst dX8_isWord_4 ic_1 ?_
        refine mx_icmp_ne (tgt := 21) dX8_isWord_5 rfl (fun c4 => ?_) (fun c4 => ?_)
        · have H := H.1 c4
          refine mx_iconst dX8_isWord_21 ic_0 ?_
          refine mx_zretK rfl dX8_isWord_22 (Or.inl rfl) ?_
          refine mx_zretK rfl dX8_isLeast_18 (Or.inl rfl) ?_
          refine mx_if_ne (tgt := 96) dX8_readAtom_86 rfl (fun _ => absurd ‹_› (by decide)) (fun _ => ?_)
          refine mx_aload_n dX8_readAtom_89 rfl rfl ?_
          refine mx_callV 8 (y' := mi_X8_isMost) (vs := []) (st := []) (al' := [some (rv a0)]) cl_8 V_X8_isMost (Or.inl q2235) dX8_readAtom_90 rfl rfl (Nat.le_of_ble_eq_true rfl) (Nat.le_of_ble_eq_true rfl) (ly8_k La0_h) ?_
          refine mx_aload_n dX8_isMost_0 rfl rfl ?_
          refine mx_bipush dX8_isMost_1 ib_109 ?_
          refine mx_bipush dX8_isMost_3 ib_111 ?_
          refine mx_bipush dX8_isMost_5 ib_115 ?_
          refine mx_bipush dX8_isMost_7 ib_116 ?_
          refine mx_iconst dX8_isMost_9 ic_0 ?_
          refine mx_iconst dX8_isMost_10 ic_0 ?_
          refine mx_callS (y' := mi_X8_spelled) (vs := [iv (109 : Int32), iv (111 : Int32), iv (115 : Int32), iv (116 : Int32), iv (0 : Int32), iv (0 : Int32)]) (st := [rv a0]) (al' := [some (iv (109 : Int32)), some (iv (111 : Int32)), some (iv (115 : Int32)), some (iv (116 : Int32)), some (iv (0 : Int32)), some (iv (0 : Int32)), none, none]) S_X8_spelled q2075 dX8_isMost_11 rfl rfl (Nat.le_of_ble_eq_true rfl) (Nat.le_of_ble_eq_true rfl) ?_
          refine mx_iload_n dX8_spelled_0 rfl rfl ?_
          refine mx_i2l dX8_spelled_1 ?_
          refine mx_ldc2 q2078 dX8_spelled_2 ?_
          refine mx_lsub dX8_spelled_5 ?_
          refine mx_lstore (al' := [some (iv (109 : Int32)), some (iv (111 : Int32)), some (iv (115 : Int32)), some (iv (116 : Int32)), some (iv (0 : Int32)), some (iv (0 : Int32)), some (jv ((109 : Int32).toInt64 - (96 : Int64))), none]) dX8_spelled_6 (Nat.le_of_ble_eq_true rfl) rfl ?_
          refine mx_lload dX8_spelled_8 rfl ?_
          refine mx_ldc2 q2079 dX8_spelled_10 ?_
          refine mx_lmul dX8_spelled_13 ?_
          refine mx_iload_n dX8_spelled_14 rfl rfl ?_
          refine mx_i2l dX8_spelled_15 ?_
          refine mx_ladd dX8_spelled_16 ?_
          refine mx_ldc2 q2078 dX8_spelled_17 ?_
          refine mx_lsub dX8_spelled_20 ?_
          refine mx_lstore (al' := [some (iv (109 : Int32)), some (iv (111 : Int32)), some (iv (115 : Int32)), some (iv (116 : Int32)), some (iv (0 : Int32)), some (iv (0 : Int32)), some (jv (((((109 : Int32).toInt64 - (96 : Int64)) * (32 : Int64)) + (111 : Int32).toInt64) - (96 : Int64))), none]) dX8_spelled_21 (Nat.le_of_ble_eq_true rfl) rfl ?_
          refine mx_iload_n dX8_spelled_23 rfl rfl ?_
          refine mx_if_le (tgt := 43) dX8_spelled_24 rfl (fun _ => absurd ‹_› (by decide)) (fun _ => ?_)
          refine mx_lload dX8_spelled_27 rfl ?_
          refine mx_ldc2 q2079 dX8_spelled_29 ?_
          refine mx_lmul dX8_spelled_32 ?_
          refine mx_iload_n dX8_spelled_33 rfl rfl ?_
          refine mx_i2l dX8_spelled_34 ?_
          refine mx_ladd dX8_spelled_35 ?_
          refine mx_ldc2 q2078 dX8_spelled_36 ?_
          refine mx_lsub dX8_spelled_39 ?_
          refine mx_goto (tgt := 45) dX8_spelled_40 rfl ?_
          refine mx_lstore (al' := [some (iv (109 : Int32)), some (iv (111 : Int32)), some (iv (115 : Int32)), some (iv (116 : Int32)), some (iv (0 : Int32)), some (iv (0 : Int32)), some (jv ((((((((109 : Int32).toInt64 - (96 : Int64)) * (32 : Int64)) + (111 : Int32).toInt64) - (96 : Int64)) * (32 : Int64)) + (115 : Int32).toInt64) - (96 : Int64))), none]) dX8_spelled_45 (Nat.le_of_ble_eq_true rfl) rfl ?_
          refine mx_iload_n dX8_spelled_47 rfl rfl ?_
          refine mx_if_le (tgt := 67) dX8_spelled_48 rfl (fun _ => absurd ‹_› (by decide)) (fun _ => ?_)
          refine mx_lload dX8_spelled_51 rfl ?_
          refine mx_ldc2 q2079 dX8_spelled_53 ?_
          refine mx_lmul dX8_spelled_56 ?_
          refine mx_iload_n dX8_spelled_57 rfl rfl ?_
          refine mx_i2l dX8_spelled_58 ?_
          refine mx_ladd dX8_spelled_59 ?_
          refine mx_ldc2 q2078 dX8_spelled_60 ?_
          refine mx_lsub dX8_spelled_63 ?_
          refine mx_goto (tgt := 69) dX8_spelled_64 rfl ?_
          refine mx_lstore (al' := [some (iv (109 : Int32)), some (iv (111 : Int32)), some (iv (115 : Int32)), some (iv (116 : Int32)), some (iv (0 : Int32)), some (iv (0 : Int32)), some (jv (((((((((((109 : Int32).toInt64 - (96 : Int64)) * (32 : Int64)) + (111 : Int32).toInt64) - (96 : Int64)) * (32 : Int64)) + (115 : Int32).toInt64) - (96 : Int64)) * (32 : Int64)) + (116 : Int32).toInt64) - (96 : Int64))), none]) dX8_spelled_69 (Nat.le_of_ble_eq_true rfl) rfl ?_
          refine mx_iload dX8_spelled_71 rfl ?_
          refine mx_if_le (tgt := 93) dX8_spelled_73 rfl (fun _ => ?_) (fun _ => absurd ‹_› (by decide))
          refine mx_lload dX8_spelled_93 rfl ?_
          refine mx_lstore (al' := [some (iv (109 : Int32)), some (iv (111 : Int32)), some (iv (115 : Int32)), some (iv (116 : Int32)), some (iv (0 : Int32)), some (iv (0 : Int32)), some (jv (((((((((((109 : Int32).toInt64 - (96 : Int64)) * (32 : Int64)) + (111 : Int32).toInt64) - (96 : Int64)) * (32 : Int64)) + (115 : Int32).toInt64) - (96 : Int64)) * (32 : Int64)) + (116 : Int32).toInt64) - (96 : Int64))), none]) dX8_spelled_95 (Nat.le_of_ble_eq_true rfl) rfl ?_
          refine mx_iload dX8_spelled_97 rfl ?_
          refine mx_if_le (tgt := 119) dX8_spelled_99 rfl (fun _ => ?_) (fun _ => absurd ‹_› (by decide))
          refine mx_lload dX8_spelled_119 rfl ?_
          refine mx_lretK rfl dX8_spelled_121 ?_
          refine mx_tj (show (((((((((((109 : Int32).toInt64 - (96 : Int64)) * (32 : Int64)) + (111 : Int32).toInt64) - (96 : Int64)) * (32 : Int64)) + (115 : Int32).toInt64) - (96 : Int64)) * (32 : Int64)) + (116 : Int32).toInt64) - (96 : Int64)) = (441972 : Int64) by decide) ?_
          refine mx_callV 8 (y' := mi_X8_isWord) (vs := [jv (441972 : Int64)]) (st := []) (al' := [some (rv a0), some (jv (441972 : Int64)), none]) cl_8 V_X8_isWord (Or.inl q2196) dX8_isMost_14 rfl rfl (Nat.le_of_ble_eq_true rfl) (Nat.le_of_ble_eq_true rfl) (ly8_k La0_h) ?_
          refine mx_aload_n dX8_isWord_0 rfl rfl ?_
          refine mx_get 8 50 (ref := "PrairiePoolModel") cl_8 (Nat.le_of_ble_eq_true rfl) (Or.inl q1677) (Or.inl rfl) dX8_isWord_1 (fv_8_50 _ _) (ly8_k La0_h) ?_
          refine mx_iconst dX8_isWord_4 ic_1 ?_
          refine mx_icmp_ne (tgt := 21) dX8_isWord_5 rfl (fun _ => ?_) (fun q_ => absurd q_ c4)
          refine mx_iconst dX8_isWord_21 ic_0 ?_
          refine mx_zretK rfl dX8_isWord_22 (Or.inl rfl) ?_
          refine mx_zretK rfl dX8_isMost_17 (Or.inl rfl) ?_
          refine mx_if_eq (tgt := 116) dX8_readAtom_93 rfl (fun _ => ?_) (fun _ => absurd ‹_› (by decide))
          refine mx_aload_n dX8_readAtom_116 rfl rfl ?_
          refine mx_callV 8 (y' := mi_X8_variable) (vs := []) (st := []) (al' := [some (rv a0)]) cl_8 V_X8_variable (Or.inl q2192) dX8_readAtom_117 rfl rfl (Nat.le_of_ble_eq_true rfl) (Nat.le_of_ble_eq_true rfl) (ly8_k La0_h) ?_
          refine ma_ki H (fun r6 h5 Xh5 H => ?_) (fun x1 h1 X1 H => mt_out rfl H)
          have H := H Xh5
          have La0_h5 := La0_h.ext Xh5
          refine mx_istore_n (al' := [some (rv a0), some (iv x1), some (iv r6), none]) dX8_readAtom_120 rfl (Nat.le_of_ble_eq_true rfl) rfl ?_
          refine mx_aload_n dX8_readAtom_121 rfl rfl ?_
          refine mx_callV 8 (y' := mi_X8_named) (vs := []) (st := []) (al' := [some (rv a0), none]) cl_8 V_X8_named (Or.inl q2247) dX8_readAtom_122 rfl rfl (Nat.le_of_ble_eq_true rfl) (Nat.le_of_ble_eq_true rfl) (ly8_k La0_h5) ?_
          refine ma_ki H (fun r8 h7 Xh7 H => ?_) (fun x1 h1 X1 H => mt_out rfl H)
          have H := H Xh7
          have La0_h7 := La0_h5.ext Xh7
          refine mx_istore_n (al' := [some (rv a0), some (iv x1), some (iv r6), some (iv r8)]) dX8_readAtom_125 rfl (Nat.le_of_ble_eq_true rfl) rfl ?_
          refine mx_iload_n dX8_readAtom_126 rfl rfl ?_
          refine mx_if_ge (tgt := 164) dX8_readAtom_127 rfl (fun c9 => ?_) (fun c9 => ?_)
          · have H := H.1 c9
            exact mx_weak (al' := [some (rv a0), none, some (iv r6), some (iv r8)]) ⟨rfl, ⟨rfl, ⟨rfl, trivial⟩⟩⟩ H
          · have H := H.2 c9
            refine mx_iload_n dX8_readAtom_130 rfl rfl ?_
            refine mx_if_ge (tgt := 164) dX8_readAtom_131 rfl (fun c10 => ?_) (fun c10 => ?_)
            · have H := H.1 c10
              exact mx_weak (al' := [some (rv a0), none, some (iv r6), some (iv r8)]) ⟨rfl, ⟨rfl, ⟨rfl, trivial⟩⟩⟩ H
            · have H := H.2 c10
              refine mx_aload_n dX8_readAtom_134 rfl rfl ?_
              refine mx_get 8 50 (ref := "PrairiePoolModel") cl_8 (Nat.le_of_ble_eq_true rfl) (Or.inl q1677) (Or.inl rfl) dX8_readAtom_135 (fv_8_50 _ _) (ly8_k La0_h7) ?_
              refine mx_iconst dX8_readAtom_138 ic_1 ?_
              refine mx_icmp_ne (tgt := 159) dX8_readAtom_139 rfl (fun c11 => ?_) (fun c11 => ?_)
              · have H := H.1 c11
                refine mx_aload_n dX8_readAtom_159 rfl rfl ?_
                refine mx_callV 8 (y' := mi_X8_wrong) (vs := []) (st := []) (al' := [some (rv a0)]) cl_8 V_X8_wrong (Or.inl q2239) dX8_readAtom_160 rfl rfl (Nat.le_of_ble_eq_true rfl) (Nat.le_of_ble_eq_true rfl) (ly8_k La0_h7) ?_
                refine mx_aload_n dX8_wrong_0 rfl rfl ?_
                refine mx_aload_n dX8_wrong_1 rfl rfl ?_
                refine mx_get 8 50 (ref := "PrairiePoolModel") cl_8 (Nat.le_of_ble_eq_true rfl) (Or.inl q1677) (Or.inl rfl) dX8_wrong_2 (fv_8_50 _ _) (ly8_k La0_h7) ?_
                refine mx_iconst dX8_wrong_5 ic_4 ?_
                refine mx_icmp_ne (tgt := 13) dX8_wrong_6 rfl (fun c12 => ?_) (fun c12 => ?_)
                · have H := H.1 c12
                  refine mx_iconst dX8_wrong_13 ic_2 ?_
                  refine mx_aload_n dX8_wrong_14 rfl rfl ?_
                  refine mx_get 8 51 (ref := "PrairiePoolModel") cl_8 (Nat.le_of_ble_eq_true rfl) (Or.inl q1678) (Or.inl rfl) dX8_wrong_15 (fv_8_51 _ _) (ly8_k La0_h7) ?_
                  refine mx_callV 8 (y' := mi_X8_fail) (vs := [iv (2 : Int32), iv (ah_I h7 a0 51)]) (st := []) (al' := [some (rv a0), some (iv (2 : Int32)), some (iv (ah_I h7 a0 51))]) cl_8 V_X8_fail (Or.inl q2243) dX8_wrong_18 rfl rfl (Nat.le_of_ble_eq_true rfl) (Nat.le_of_ble_eq_true rfl) (ly8_k La0_h7) ?_
                  refine mx_aload_n dX8_fail_0 rfl rfl ?_
                  refine mx_get 8 48 (ref := "PrairiePoolModel") cl_8 (Nat.le_of_ble_eq_true rfl) (Or.inl q1675) (Or.inl rfl) dX8_fail_1 (fv_8_48 _ _) (ly8_k La0_h7) ?_
                  refine mx_if_le (tgt := 8) dX8_fail_4 rfl (fun c13 => ?_) (fun c13 => ?_)
                  · have H := H.1 c13
                    refine mx_aload_n dX8_fail_8 rfl rfl ?_
                    refine mx_iload_n dX8_fail_9 rfl rfl ?_
                    refine mx_putI 8 48 (ref := "PrairiePoolModel") cl_8 (Nat.le_of_ble_eq_true rfl) (Or.inl q1675) (Or.inl rfl) dX8_fail_10 (Or.inl rfl) rfl (ly8_k La0_h7) ?_
                    refine mx_nmI  (fun h14 eh14 Xh14 Kh14 Lh14 => ?_)
                    have H := H h14 eh14 Xh14
                    have La0_h14 := La0_h7.ext Xh14
                    refine mx_aload_n dX8_fail_13 rfl rfl ?_
                    refine mx_iload_n dX8_fail_14 rfl rfl ?_
                    refine mx_putI 8 49 (ref := "PrairiePoolModel") cl_8 (Nat.le_of_ble_eq_true rfl) (Or.inl q1676) (Or.inl rfl) dX8_fail_15 (Or.inl rfl) rfl (ly8_k La0_h14) ?_
                    refine mx_nmI  (fun h15 eh15 Xh15 Kh15 Lh15 => ?_)
                    have H := H h15 eh15 Xh15
                    have Kh15 := Kh15.trans Kh14
                    have Lh15 := Lh15.trans Lh14
                    have La0_h15 := La0_h14.ext Xh15
                    refine mx_vretK rfl dX8_fail_18 ?_
                    refine mx_vretK rfl dX8_wrong_21 ?_
                    exact mx_vret rfl dX8_readAtom_163 H
                  · have H := H.2 c13
                    refine mx_vretK rfl dX8_fail_7 ?_
                    refine mx_vretK rfl dX8_wrong_21 ?_
                    exact mx_vret rfl dX8_readAtom_163 H
                · have H := H.2 c12
                  refine mx_iconst dX8_wrong_9 ic_1 ?_
                  refine mx_goto (tgt := 14) dX8_wrong_10 rfl ?_
                  refine mx_aload_n dX8_wrong_14 rfl rfl ?_
                  refine mx_get 8 51 (ref := "PrairiePoolModel") cl_8 (Nat.le_of_ble_eq_true rfl) (Or.inl q1678) (Or.inl rfl) dX8_wrong_15 (fv_8_51 _ _) (ly8_k La0_h7) ?_
                  refine mx_callV 8 (y' := mi_X8_fail) (vs := [iv (1 : Int32), iv (ah_I h7 a0 51)]) (st := []) (al' := [some (rv a0), some (iv (1 : Int32)), some (iv (ah_I h7 a0 51))]) cl_8 V_X8_fail (Or.inl q2243) dX8_wrong_18 rfl rfl (Nat.le_of_ble_eq_true rfl) (Nat.le_of_ble_eq_true rfl) (ly8_k La0_h7) ?_
                  refine mx_aload_n dX8_fail_0 rfl rfl ?_
                  refine mx_get 8 48 (ref := "PrairiePoolModel") cl_8 (Nat.le_of_ble_eq_true rfl) (Or.inl q1675) (Or.inl rfl) dX8_fail_1 (fv_8_48 _ _) (ly8_k La0_h7) ?_
                  refine mx_if_le (tgt := 8) dX8_fail_4 rfl (fun c16 => ?_) (fun c16 => ?_)
                  · have H := H.1 c16
                    refine mx_aload_n dX8_fail_8 rfl rfl ?_
                    refine mx_iload_n dX8_fail_9 rfl rfl ?_
                    refine mx_putI 8 48 (ref := "PrairiePoolModel") cl_8 (Nat.le_of_ble_eq_true rfl) (Or.inl q1675) (Or.inl rfl) dX8_fail_10 (Or.inl rfl) rfl (ly8_k La0_h7) ?_
                    refine mx_nmI  (fun h17 eh17 Xh17 Kh17 Lh17 => ?_)
                    have H := H h17 eh17 Xh17
                    have La0_h17 := La0_h7.ext Xh17
                    refine mx_aload_n dX8_fail_13 rfl rfl ?_
                    refine mx_iload_n dX8_fail_14 rfl rfl ?_
                    refine mx_putI 8 49 (ref := "PrairiePoolModel") cl_8 (Nat.le_of_ble_eq_true rfl) (Or.inl q1676) (Or.inl rfl) dX8_fail_15 (Or.inl rfl) rfl (ly8_k La0_h17) ?_
                    refine mx_nmI  (fun h18 eh18 Xh18 Kh18 Lh18 => ?_)
                    have H := H h18 eh18 Xh18
                    have Kh18 := Kh18.trans Kh17
                    have Lh18 := Lh18.trans Lh17
                    have La0_h18 := La0_h17.ext Xh18
                    refine mx_vretK rfl dX8_fail_18 ?_
                    refine mx_vretK rfl dX8_wrong_21 ?_
                    exact mx_vret rfl dX8_readAtom_163 H
                  · have H := H.2 c16
                    refine mx_vretK rfl dX8_fail_7 ?_
                    refine mx_vretK rfl dX8_wrong_21 ?_
                    exact mx_vret rfl dX8_readAtom_163 H
              · have H := H.2 c11
                refine mx_aload_n dX8_readAtom_142 rfl rfl ?_
                refine mx_callV 8 (y' := mi_X8_isKept) (vs := []) (st := []) (al' := [some (rv a0)]) cl_8 V_X8_isKept (Or.inl q2203) dX8_readAtom_143 rfl rfl (Nat.le_of_ble_eq_true rfl) (Nat.le_of_ble_eq_true rfl) (ly8_k La0_h7) ?_
                refine ma_ki H (fun r20 h19 Xh19 H => ?_) (fun x1 h1 X1 H => mt_out rfl H)
                have H := H Xh19
                have La0_h19 := La0_h7.ext Xh19
                refine mx_if_ne (tgt := 159) dX8_readAtom_146 rfl (fun c21 => ?_) (fun c21 => ?_)
                · have H := H.1 c21
                  refine mx_aload_n dX8_readAtom_159 rfl rfl ?_
                  refine mx_callV 8 (y' := mi_X8_wrong) (vs := []) (st := []) (al' := [some (rv a0)]) cl_8 V_X8_wrong (Or.inl q2239) dX8_readAtom_160 rfl rfl (Nat.le_of_ble_eq_true rfl) (Nat.le_of_ble_eq_true rfl) (ly8_k La0_h19) ?_
                  refine mx_aload_n dX8_wrong_0 rfl rfl ?_
                  refine mx_aload_n dX8_wrong_1 rfl rfl ?_
                  refine mx_get 8 50 (ref := "PrairiePoolModel") cl_8 (Nat.le_of_ble_eq_true rfl) (Or.inl q1677) (Or.inl rfl) dX8_wrong_2 (fv_8_50 _ _) (ly8_k La0_h19) ?_
                  refine mx_iconst dX8_wrong_5 ic_4 ?_
                  refine mx_icmp_ne (tgt := 13) dX8_wrong_6 rfl (fun c22 => ?_) (fun c22 => ?_)
                  · have H := H.1 c22
                    refine mx_iconst dX8_wrong_13 ic_2 ?_
                    refine mx_aload_n dX8_wrong_14 rfl rfl ?_
                    refine mx_get 8 51 (ref := "PrairiePoolModel") cl_8 (Nat.le_of_ble_eq_true rfl) (Or.inl q1678) (Or.inl rfl) dX8_wrong_15 (fv_8_51 _ _) (ly8_k La0_h19) ?_
                    refine mx_callV 8 (y' := mi_X8_fail) (vs := [iv (2 : Int32), iv (ah_I h19 a0 51)]) (st := []) (al' := [some (rv a0), some (iv (2 : Int32)), some (iv (ah_I h19 a0 51))]) cl_8 V_X8_fail (Or.inl q2243) dX8_wrong_18 rfl rfl (Nat.le_of_ble_eq_true rfl) (Nat.le_of_ble_eq_true rfl) (ly8_k La0_h19) ?_
                    refine mx_aload_n dX8_fail_0 rfl rfl ?_
                    refine mx_get 8 48 (ref := "PrairiePoolModel") cl_8 (Nat.le_of_ble_eq_true rfl) (Or.inl q1675) (Or.inl rfl) dX8_fail_1 (fv_8_48 _ _) (ly8_k La0_h19) ?_
                    refine mx_if_le (tgt := 8) dX8_fail_4 rfl (fun c23 => ?_) (fun c23 => ?_)
                    · have H := H.1 c23
                      refine mx_aload_n dX8_fail_8 rfl rfl ?_
                      refine mx_iload_n dX8_fail_9 rfl rfl ?_
                      refine mx_putI 8 48 (ref := "PrairiePoolModel") cl_8 (Nat.le_of_ble_eq_true rfl) (Or.inl q1675) (Or.inl rfl) dX8_fail_10 (Or.inl rfl) rfl (ly8_k La0_h19) ?_
                      refine mx_nmI  (fun h24 eh24 Xh24 Kh24 Lh24 => ?_)
                      have H := H h24 eh24 Xh24
                      have La0_h24 := La0_h19.ext Xh24
                      refine mx_aload_n dX8_fail_13 rfl rfl ?_
                      refine mx_iload_n dX8_fail_14 rfl rfl ?_
                      refine mx_putI 8 49 (ref := "PrairiePoolModel") cl_8 (Nat.le_of_ble_eq_true rfl) (Or.inl q1676) (Or.inl rfl) dX8_fail_15 (Or.inl rfl) rfl (ly8_k La0_h24) ?_
                      refine mx_nmI  (fun h25 eh25 Xh25 Kh25 Lh25 => ?_)
                      have H := H h25 eh25 Xh25
                      have Kh25 := Kh25.trans Kh24
                      have Lh25 := Lh25.trans Lh24
                      have La0_h25 := La0_h24.ext Xh25
                      refine mx_vretK rfl dX8_fail_18 ?_
                      refine mx_vretK rfl dX8_wrong_21 ?_
                      exact mx_vret rfl dX8_readAtom_163 H
                    · have H := H.2 c23
                      refine mx_vretK rfl dX8_fail_7 ?_
                      refine mx_vretK rfl dX8_wrong_21 ?_
                      exact mx_vret rfl dX8_readAtom_163 H
                  · have H := H.2 c22
                    refine mx_iconst dX8_wrong_9 ic_1 ?_
                    refine mx_goto (tgt := 14) dX8_wrong_10 rfl ?_
                    refine mx_aload_n dX8_wrong_14 rfl rfl ?_
                    refine mx_get 8 51 (ref := "PrairiePoolModel") cl_8 (Nat.le_of_ble_eq_true rfl) (Or.inl q1678) (Or.inl rfl) dX8_wrong_15 (fv_8_51 _ _) (ly8_k La0_h19) ?_
                    refine mx_callV 8 (y' := mi_X8_fail) (vs := [iv (1 : Int32), iv (ah_I h19 a0 51)]) (st := []) (al' := [some (rv a0), some (iv (1 : Int32)), some (iv (ah_I h19 a0 51))]) cl_8 V_X8_fail (Or.inl q2243) dX8_wrong_18 rfl rfl (Nat.le_of_ble_eq_true rfl) (Nat.le_of_ble_eq_true rfl) (ly8_k La0_h19) ?_
                    refine mx_aload_n dX8_fail_0 rfl rfl ?_
                    refine mx_get 8 48 (ref := "PrairiePoolModel") cl_8 (Nat.le_of_ble_eq_true rfl) (Or.inl q1675) (Or.inl rfl) dX8_fail_1 (fv_8_48 _ _) (ly8_k La0_h19) ?_
                    refine mx_if_le (tgt := 8) dX8_fail_4 rfl (fun c26 => ?_) (fun c26 => ?_)
                    · have H := H.1 c26
                      refine mx_aload_n dX8_fail_8 rfl rfl ?_
                      refine mx_iload_n dX8_fail_9 rfl rfl ?_
                      refine mx_putI 8 48 (ref := "PrairiePoolModel") cl_8 (Nat.le_of_ble_eq_true rfl) (Or.inl q1675) (Or.inl rfl) dX8_fail_10 (Or.inl rfl) rfl (ly8_k La0_h19) ?_
                      refine mx_nmI  (fun h27 eh27 Xh27 Kh27 Lh27 => ?_)
                      have H := H h27 eh27 Xh27
                      have La0_h27 := La0_h19.ext Xh27
                      refine mx_aload_n dX8_fail_13 rfl rfl ?_
                      refine mx_iload_n dX8_fail_14 rfl rfl ?_
                      refine mx_putI 8 49 (ref := "PrairiePoolModel") cl_8 (Nat.le_of_ble_eq_true rfl) (Or.inl q1676) (Or.inl rfl) dX8_fail_15 (Or.inl rfl) rfl (ly8_k La0_h27) ?_
                      refine mx_nmI  (fun h28 eh28 Xh28 Kh28 Lh28 => ?_)
                      have H := H h28 eh28 Xh28
                      have Kh28 := Kh28.trans Kh27
                      have Lh28 := Lh28.trans Lh27
                      have La0_h28 := La0_h27.ext Xh28
                      refine mx_vretK rfl dX8_fail_18 ?_
                      refine mx_vretK rfl dX8_wrong_21 ?_
                      exact mx_vret rfl dX8_readAtom_163 H
                    · have H := H.2 c26
                      refine mx_vretK rfl dX8_fail_7 ?_
                      refine mx_vretK rfl dX8_wrong_21 ?_
                      exact mx_vret rfl dX8_readAtom_163 H
                · have H := H.2 c21
                  refine mx_aload_n dX8_readAtom_149 rfl rfl ?_
                  refine mx_bipush dX8_readAtom_150 ib_6 ?_
                  refine mx_aload_n dX8_readAtom_152 rfl rfl ?_
                  refine mx_get 8 51 (ref := "PrairiePoolModel") cl_8 (Nat.le_of_ble_eq_true rfl) (Or.inl q1678) (Or.inl rfl) dX8_readAtom_153 (fv_8_51 _ _) (ly8_k La0_h19) ?_
                  refine mx_callV 8 (y' := mi_X8_fail) (vs := [iv (6 : Int32), iv (ah_I h19 a0 51)]) (st := []) (al' := [some (rv a0), some (iv (6 : Int32)), some (iv (ah_I h19 a0 51))]) cl_8 V_X8_fail (Or.inl q2243) dX8_readAtom_156 rfl rfl (Nat.le_of_ble_eq_true rfl) (Nat.le_of_ble_eq_true rfl) (ly8_k La0_h19) ?_
                  refine mx_aload_n dX8_fail_0 rfl rfl ?_
                  refine mx_get 8 48 (ref := "PrairiePoolModel") cl_8 (Nat.le_of_ble_eq_true rfl) (Or.inl q1675) (Or.inl rfl) dX8_fail_1 (fv_8_48 _ _) (ly8_k La0_h19) ?_
                  refine mx_if_le (tgt := 8) dX8_fail_4 rfl (fun c29 => ?_) (fun c29 => ?_)
                  · have H := H.1 c29
                    refine mx_aload_n dX8_fail_8 rfl rfl ?_
                    refine mx_iload_n dX8_fail_9 rfl rfl ?_
                    refine mx_putI 8 48 (ref := "PrairiePoolModel") cl_8 (Nat.le_of_ble_eq_true rfl) (Or.inl q1675) (Or.inl rfl) dX8_fail_10 (Or.inl rfl) rfl (ly8_k La0_h19) ?_
                    refine mx_nmI  (fun h30 eh30 Xh30 Kh30 Lh30 => ?_)
                    have H := H h30 eh30 Xh30
                    have La0_h30 := La0_h19.ext Xh30
                    refine mx_aload_n dX8_fail_13 rfl rfl ?_
                    refine mx_iload_n dX8_fail_14 rfl rfl ?_
                    refine mx_putI 8 49 (ref := "PrairiePoolModel") cl_8 (Nat.le_of_ble_eq_true rfl) (Or.inl q1676) (Or.inl rfl) dX8_fail_15 (Or.inl rfl) rfl (ly8_k La0_h30) ?_
                    refine mx_nmI  (fun h31 eh31 Xh31 Kh31 Lh31 => ?_)
                    have H := H h31 eh31 Xh31
                    have Kh31 := Kh31.trans Kh30
                    have Lh31 := Lh31.trans Lh30
                    have La0_h31 := La0_h30.ext Xh31
                    refine mx_vretK rfl dX8_fail_18 ?_
                    refine mx_aload_n dX8_readAtom_159 rfl rfl ?_
                    refine mx_callV 8 (y' := mi_X8_wrong) (vs := []) (st := []) (al' := [some (rv a0)]) cl_8 V_X8_wrong (Or.inl q2239) dX8_readAtom_160 rfl rfl (Nat.le_of_ble_eq_true rfl) (Nat.le_of_ble_eq_true rfl) (ly8_k La0_h31) ?_
                    refine mx_aload_n dX8_wrong_0 rfl rfl ?_
                    refine mx_aload_n dX8_wrong_1 rfl rfl ?_
                    refine mx_get 8 50 (ref := "PrairiePoolModel") cl_8 (Nat.le_of_ble_eq_true rfl) (Or.inl q1677) (Or.inl rfl) dX8_wrong_2 (fv_8_50 _ _) (ly8_k La0_h31) ?_
                    refine mx_ti ((ah_skIK eh31 (by decide)).trans (ah_skIK eh30 (by decide))) ?_
                    refine mx_iconst dX8_wrong_5 ic_4 ?_
                    refine mx_icmp_ne (tgt := 13) dX8_wrong_6 rfl (fun c32 => ?_) (fun c32 => ?_)
                    · have H := H.1 c32
                      refine mx_iconst dX8_wrong_13 ic_2 ?_
                      refine mx_aload_n dX8_wrong_14 rfl rfl ?_
                      refine mx_get 8 51 (ref := "PrairiePoolModel") cl_8 (Nat.le_of_ble_eq_true rfl) (Or.inl q1678) (Or.inl rfl) dX8_wrong_15 (fv_8_51 _ _) (ly8_k La0_h31) ?_
                      refine mx_ti ((ah_skIK eh31 (by decide)).trans (ah_skIK eh30 (by decide))) ?_
                      refine mx_callV 8 (y' := mi_X8_fail) (vs := [iv (2 : Int32), iv (ah_I h19 a0 51)]) (st := []) (al' := [some (rv a0), some (iv (2 : Int32)), some (iv (ah_I h19 a0 51))]) cl_8 V_X8_fail (Or.inl q2243) dX8_wrong_18 rfl rfl (Nat.le_of_ble_eq_true rfl) (Nat.le_of_ble_eq_true rfl) (ly8_k La0_h31) ?_
                      refine mx_aload_n dX8_fail_0 rfl rfl ?_
                      refine mx_get 8 48 (ref := "PrairiePoolModel") cl_8 (Nat.le_of_ble_eq_true rfl) (Or.inl q1675) (Or.inl rfl) dX8_fail_1 (fv_8_48 _ _) (ly8_k La0_h31) ?_
                      refine mx_ti ((ah_skIK eh31 (by decide)).trans (ah_hitI eh30)) ?_
                      refine mx_if_le (tgt := 8) dX8_fail_4 rfl (fun _ => absurd ‹_› (by decide)) (fun _ => ?_)
                      refine mx_vretK rfl dX8_fail_7 ?_
                      refine mx_vretK rfl dX8_wrong_21 ?_
                      exact mx_vret rfl dX8_readAtom_163 H
                    · have H := H.2 c32
                      refine mx_iconst dX8_wrong_9 ic_1 ?_
                      refine mx_goto (tgt := 14) dX8_wrong_10 rfl ?_
                      refine mx_aload_n dX8_wrong_14 rfl rfl ?_
                      refine mx_get 8 51 (ref := "PrairiePoolModel") cl_8 (Nat.le_of_ble_eq_true rfl) (Or.inl q1678) (Or.inl rfl) dX8_wrong_15 (fv_8_51 _ _) (ly8_k La0_h31) ?_
                      refine mx_ti ((ah_skIK eh31 (by decide)).trans (ah_skIK eh30 (by decide))) ?_
                      refine mx_callV 8 (y' := mi_X8_fail) (vs := [iv (1 : Int32), iv (ah_I h19 a0 51)]) (st := []) (al' := [some (rv a0), some (iv (1 : Int32)), some (iv (ah_I h19 a0 51))]) cl_8 V_X8_fail (Or.inl q2243) dX8_wrong_18 rfl rfl (Nat.le_of_ble_eq_true rfl) (Nat.le_of_ble_eq_true rfl) (ly8_k La0_h31) ?_
                      refine mx_aload_n dX8_fail_0 rfl rfl ?_
                      refine mx_get 8 48 (ref := "PrairiePoolModel") cl_8 (Nat.le_of_ble_eq_true rfl) (Or.inl q1675) (Or.inl rfl) dX8_fail_1 (fv_8_48 _ _) (ly8_k La0_h31) ?_
                      refine mx_ti ((ah_skIK eh31 (by decide)).trans (ah_hitI eh30)) ?_
                      refine mx_if_le (tgt := 8) dX8_fail_4 rfl (fun _ => absurd ‹_› (by decide)) (fun _ => ?_)
                      refine mx_vretK rfl dX8_fail_7 ?_
                      refine mx_vretK rfl dX8_wrong_21 ?_
                      exact mx_vret rfl dX8_readAtom_163 H
                  · have H := H.2 c29
                    refine mx_vretK rfl dX8_fail_7 ?_
                    refine mx_aload_n dX8_readAtom_159 rfl rfl ?_
                    refine mx_callV 8 (y' := mi_X8_wrong) (vs := []) (st := []) (al' := [some (rv a0)]) cl_8 V_X8_wrong (Or.inl q2239) dX8_readAtom_160 rfl rfl (Nat.le_of_ble_eq_true rfl) (Nat.le_of_ble_eq_true rfl) (ly8_k La0_h19) ?_
                    refine mx_aload_n dX8_wrong_0 rfl rfl ?_
                    refine mx_aload_n dX8_wrong_1 rfl rfl ?_
                    refine mx_get 8 50 (ref := "PrairiePoolModel") cl_8 (Nat.le_of_ble_eq_true rfl) (Or.inl q1677) (Or.inl rfl) dX8_wrong_2 (fv_8_50 _ _) (ly8_k La0_h19) ?_
                    refine mx_iconst dX8_wrong_5 ic_4 ?_
                    refine mx_icmp_ne (tgt := 13) dX8_wrong_6 rfl (fun c33 => ?_) (fun c33 => ?_)
                    · have H := H.1 c33
                      refine mx_iconst dX8_wrong_13 ic_2 ?_
                      refine mx_aload_n dX8_wrong_14 rfl rfl ?_
                      refine mx_get 8 51 (ref := "PrairiePoolModel") cl_8 (Nat.le_of_ble_eq_true rfl) (Or.inl q1678) (Or.inl rfl) dX8_wrong_15 (fv_8_51 _ _) (ly8_k La0_h19) ?_
                      refine mx_callV 8 (y' := mi_X8_fail) (vs := [iv (2 : Int32), iv (ah_I h19 a0 51)]) (st := []) (al' := [some (rv a0), some (iv (2 : Int32)), some (iv (ah_I h19 a0 51))]) cl_8 V_X8_fail (Or.inl q2243) dX8_wrong_18 rfl rfl (Nat.le_of_ble_eq_true rfl) (Nat.le_of_ble_eq_true rfl) (ly8_k La0_h19) ?_
                      refine mx_aload_n dX8_fail_0 rfl rfl ?_
                      refine mx_get 8 48 (ref := "PrairiePoolModel") cl_8 (Nat.le_of_ble_eq_true rfl) (Or.inl q1675) (Or.inl rfl) dX8_fail_1 (fv_8_48 _ _) (ly8_k La0_h19) ?_
                      refine mx_if_le (tgt := 8) dX8_fail_4 rfl (fun q_ => absurd q_ c29) (fun _ => ?_)
                      refine mx_vretK rfl dX8_fail_7 ?_
                      refine mx_vretK rfl dX8_wrong_21 ?_
                      exact mx_vret rfl dX8_readAtom_163 H
                    · have H := H.2 c33
                      refine mx_iconst dX8_wrong_9 ic_1 ?_
                      refine mx_goto (tgt := 14) dX8_wrong_10 rfl ?_
                      refine mx_aload_n dX8_wrong_14 rfl rfl ?_
                      refine mx_get 8 51 (ref := "PrairiePoolModel") cl_8 (Nat.le_of_ble_eq_true rfl) (Or.inl q1678) (Or.inl rfl) dX8_wrong_15 (fv_8_51 _ _) (ly8_k La0_h19) ?_
                      refine mx_callV 8 (y' := mi_X8_fail) (vs := [iv (1 : Int32), iv (ah_I h19 a0 51)]) (st := []) (al' := [some (rv a0), some (iv (1 : Int32)), some (iv (ah_I h19 a0 51))]) cl_8 V_X8_fail (Or.inl q2243) dX8_wrong_18 rfl rfl (Nat.le_of_ble_eq_true rfl) (Nat.le_of_ble_eq_true rfl) (ly8_k La0_h19) ?_
                      refine mx_aload_n dX8_fail_0 rfl rfl ?_
                      refine mx_get 8 48 (ref := "PrairiePoolModel") cl_8 (Nat.le_of_ble_eq_true rfl) (Or.inl q1675) (Or.inl rfl) dX8_fail_1 (fv_8_48 _ _) (ly8_k La0_h19) ?_
                      refine mx_if_le (tgt := 8) dX8_fail_4 rfl (fun q_ => absurd q_ c29) (fun _ => ?_)
                      refine mx_vretK rfl dX8_fail_7 ?_
                      refine mx_vretK rfl dX8_wrong_21 ?_
                      exact mx_vret rfl dX8_readAtom_163 H
        · have H := H.2 c4
          refine mx_aload_n dX8_isWord_8 rfl rfl ?_
          refine mx_get 8 55 (ref := "PrairiePoolModel") cl_8 (Nat.le_of_ble_eq_true rfl) (Or.inl q1682) (Or.inl rfl) dX8_isWord_9 (fv_8_55 _ _) (ly8_k La0_h) ?_
          refine mx_lload_n dX8_isWord_12 rfl rfl ?_
          refine mx_lif_ne (tgt := 21) dX8_isWord_13 dX8_isWord_14 rfl (fun c34 => ?_) (fun c34 => ?_)
          · have H := H.1 c34
            refine mx_iconst dX8_isWord_21 ic_0 ?_
            refine mx_zretK rfl dX8_isWord_22 (Or.inl rfl) ?_
            refine mx_zretK rfl dX8_isLeast_18 (Or.inl rfl) ?_
            refine mx_if_ne (tgt := 96) dX8_readAtom_86 rfl (fun _ => absurd ‹_› (by decide)) (fun _ => ?_)
            refine mx_aload_n dX8_readAtom_89 rfl rfl ?_
            refine mx_callV 8 (y' := mi_X8_isMost) (vs := []) (st := []) (al' := [some (rv a0)]) cl_8 V_X8_isMost (Or.inl q2235) dX8_readAtom_90 rfl rfl (Nat.le_of_ble_eq_true rfl) (Nat.le_of_ble_eq_true rfl) (ly8_k La0_h) ?_
            refine mx_aload_n dX8_isMost_0 rfl rfl ?_
            refine mx_bipush dX8_isMost_1 ib_109 ?_
            refine mx_bipush dX8_isMost_3 ib_111 ?_
            refine mx_bipush dX8_isMost_5 ib_115 ?_
            refine mx_bipush dX8_isMost_7 ib_116 ?_
            refine mx_iconst dX8_isMost_9 ic_0 ?_
            refine mx_iconst dX8_isMost_10 ic_0 ?_
            refine mx_callS (y' := mi_X8_spelled) (vs := [iv (109 : Int32), iv (111 : Int32), iv (115 : Int32), iv (116 : Int32), iv (0 : Int32), iv (0 : Int32)]) (st := [rv a0]) (al' := [some (iv (109 : Int32)), some (iv (111 : Int32)), some (iv (115 : Int32)), some (iv (116 : Int32)), some (iv (0 : Int32)), some (iv (0 : Int32)), none, none]) S_X8_spelled q2075 dX8_isMost_11 rfl rfl (Nat.le_of_ble_eq_true rfl) (Nat.le_of_ble_eq_true rfl) ?_
            refine mx_iload_n dX8_spelled_0 rfl rfl ?_
            refine mx_i2l dX8_spelled_1 ?_
            refine mx_ldc2 q2078 dX8_spelled_2 ?_
            refine mx_lsub dX8_spelled_5 ?_
            refine mx_lstore (al' := [some (iv (109 : Int32)), some (iv (111 : Int32)), some (iv (115 : Int32)), some (iv (116 : Int32)), some (iv (0 : Int32)), some (iv (0 : Int32)), some (jv ((109 : Int32).toInt64 - (96 : Int64))), none]) dX8_spelled_6 (Nat.le_of_ble_eq_true rfl) rfl ?_
            refine mx_lload dX8_spelled_8 rfl ?_
            refine mx_ldc2 q2079 dX8_spelled_10 ?_
            refine mx_lmul dX8_spelled_13 ?_
            refine mx_iload_n dX8_spelled_14 rfl rfl ?_
            refine mx_i2l dX8_spelled_15 ?_
            refine mx_ladd dX8_spelled_16 ?_
            refine mx_ldc2 q2078 dX8_spelled_17 ?_
            refine mx_lsub dX8_spelled_20 ?_
            refine mx_lstore (al' := [some (iv (109 : Int32)), some (iv (111 : Int32)), some (iv (115 : Int32)), some (iv (116 : Int32)), some (iv (0 : Int32)), some (iv (0 : Int32)), some (jv (((((109 : Int32).toInt64 - (96 : Int64)) * (32 : Int64)) + (111 : Int32).toInt64) - (96 : Int64))), none]) dX8_spelled_21 (Nat.le_of_ble_eq_true rfl) rfl ?_
            refine mx_iload_n dX8_spelled_23 rfl rfl ?_
            refine mx_if_le (tgt := 43) dX8_spelled_24 rfl (fun _ => absurd ‹_› (by decide)) (fun _ => ?_)
            refine mx_lload dX8_spelled_27 rfl ?_
            refine mx_ldc2 q2079 dX8_spelled_29 ?_
            refine mx_lmul dX8_spelled_32 ?_
            refine mx_iload_n dX8_spelled_33 rfl rfl ?_
            refine mx_i2l dX8_spelled_34 ?_
            refine mx_ladd dX8_spelled_35 ?_
            refine mx_ldc2 q2078 dX8_spelled_36 ?_
            refine mx_lsub dX8_spelled_39 ?_
            refine mx_goto (tgt := 45) dX8_spelled_40 rfl ?_
            refine mx_lstore (al' := [some (iv (109 : Int32)), some (iv (111 : Int32)), some (iv (115 : Int32)), some (iv (116 : Int32)), some (iv (0 : Int32)), some (iv (0 : Int32)), some (jv ((((((((109 : Int32).toInt64 - (96 : Int64)) * (32 : Int64)) + (111 : Int32).toInt64) - (96 : Int64)) * (32 : Int64)) + (115 : Int32).toInt64) - (96 : Int64))), none]) dX8_spelled_45 (Nat.le_of_ble_eq_true rfl) rfl ?_
            refine mx_iload_n dX8_spelled_47 rfl rfl ?_
            refine mx_if_le (tgt := 67) dX8_spelled_48 rfl (fun _ => absurd ‹_› (by decide)) (fun _ => ?_)
            refine mx_lload dX8_spelled_51 rfl ?_
            refine mx_ldc2 q2079 dX8_spelled_53 ?_
            refine mx_lmul dX8_spelled_56 ?_
            refine mx_iload_n dX8_spelled_57 rfl rfl ?_
            refine mx_i2l dX8_spelled_58 ?_
            refine mx_ladd dX8_spelled_59 ?_
            refine mx_ldc2 q2078 dX8_spelled_60 ?_
            refine mx_lsub dX8_spelled_63 ?_
            refine mx_goto (tgt := 69) dX8_spelled_64 rfl ?_
            refine mx_lstore (al' := [some (iv (109 : Int32)), some (iv (111 : Int32)), some (iv (115 : Int32)), some (iv (116 : Int32)), some (iv (0 : Int32)), some (iv (0 : Int32)), some (jv (((((((((((109 : Int32).toInt64 - (96 : Int64)) * (32 : Int64)) + (111 : Int32).toInt64) - (96 : Int64)) * (32 : Int64)) + (115 : Int32).toInt64) - (96 : Int64)) * (32 : Int64)) + (116 : Int32).toInt64) - (96 : Int64))), none]) dX8_spelled_69 (Nat.le_of_ble_eq_true rfl) rfl ?_
            refine mx_iload dX8_spelled_71 rfl ?_
            refine mx_if_le (tgt := 93) dX8_spelled_73 rfl (fun _ => ?_) (fun _ => absurd ‹_› (by decide))
            refine mx_lload dX8_spelled_93 rfl ?_
            refine mx_lstore (al' := [some (iv (109 : Int32)), some (iv (111 : Int32)), some (iv (115 : Int32)), some (iv (116 : Int32)), some (iv (0 : Int32)), some (iv (0 : Int32)), some (jv (((((((((((109 : Int32).toInt64 - (96 : Int64)) * (32 : Int64)) + (111 : Int32).toInt64) - (96 : Int64)) * (32 : Int64)) + (115 : Int32).toInt64) - (96 : Int64)) * (32 : Int64)) + (116 : Int32).toInt64) - (96 : Int64))), none]) dX8_spelled_95 (Nat.le_of_ble_eq_true rfl) rfl ?_
            refine mx_iload dX8_spelled_97 rfl ?_
            refine mx_if_le (tgt := 119) dX8_spelled_99 rfl (fun _ => ?_) (fun _ => absurd ‹_› (by decide))
            refine mx_lload dX8_spelled_119 rfl ?_
            refine mx_lretK rfl dX8_spelled_121 ?_
            refine mx_tj (show (((((((((((109 : Int32).toInt64 - (96 : Int64)) * (32 : Int64)) + (111 : Int32).toInt64) - (96 : Int64)) * (32 : Int64)) + (115 : Int32).toInt64) - (96 : Int64)) * (32 : Int64)) + (116 : Int32).toInt64) - (96 : Int64)) = (441972 : Int64) by decide) ?_
            refine mx_callV 8 (y' := mi_X8_isWord) (vs := [jv (441972 : Int64)]) (st := []) (al' := [some (rv a0), some (jv (441972 : Int64)), none]) cl_8 V_X8_isWord (Or.inl q2196) dX8_isMost_14 rfl rfl (Nat.le_of_ble_eq_true rfl) (Nat.le_of_ble_eq_true rfl) (ly8_k La0_h) ?_
            refine mx_aload_n dX8_isWord_0 rfl rfl ?_
            refine mx_get 8 50 (ref := "PrairiePoolModel") cl_8 (Nat.le_of_ble_eq_true rfl) (Or.inl q1677) (Or.inl rfl) dX8_isWord_1 (fv_8_50 _ _) (ly8_k La0_h) ?_
            refine mx_iconst dX8_isWord_4 ic_1 ?_
            refine mx_icmp_ne (tgt := 21) dX8_isWord_5 rfl (fun q_ => absurd c4 q_) (fun _ => ?_)
            refine mx_aload_n dX8_isWord_8 rfl rfl ?_
            refine mx_get 8 55 (ref := "PrairiePoolModel") cl_8 (Nat.le_of_ble_eq_true rfl) (Or.inl q1682) (Or.inl rfl) dX8_isWord_9 (fv_8_55 _ _) (ly8_k La0_h) ?_
            refine mx_lload_n dX8_isWord_12 rfl rfl ?_
            refine mx_lif_ne (tgt := 21) dX8_isWord_13 dX8_isWord_14 rfl (fun c35 => ?_) (fun c35 => ?_)
            · have H := H.1 c35
              refine mx_iconst dX8_isWord_21 ic_0 ?_
              refine mx_zretK rfl dX8_isWord_22 (Or.inl rfl) ?_
              refine mx_zretK rfl dX8_isMost_17 (Or.inl rfl) ?_
              refine mx_if_eq (tgt := 116) dX8_readAtom_93 rfl (fun _ => ?_) (fun _ => absurd ‹_› (by decide))
              refine mx_aload_n dX8_readAtom_116 rfl rfl ?_
              refine mx_callV 8 (y' := mi_X8_variable) (vs := []) (st := []) (al' := [some (rv a0)]) cl_8 V_X8_variable (Or.inl q2192) dX8_readAtom_117 rfl rfl (Nat.le_of_ble_eq_true rfl) (Nat.le_of_ble_eq_true rfl) (ly8_k La0_h) ?_
              refine ma_ki H (fun r37 h36 Xh36 H => ?_) (fun x1 h1 X1 H => mt_out rfl H)
              have H := H Xh36
              have La0_h36 := La0_h.ext Xh36
              refine mx_istore_n (al' := [some (rv a0), some (iv x1), some (iv r37), none]) dX8_readAtom_120 rfl (Nat.le_of_ble_eq_true rfl) rfl ?_
              refine mx_aload_n dX8_readAtom_121 rfl rfl ?_
              refine mx_callV 8 (y' := mi_X8_named) (vs := []) (st := []) (al' := [some (rv a0), none]) cl_8 V_X8_named (Or.inl q2247) dX8_readAtom_122 rfl rfl (Nat.le_of_ble_eq_true rfl) (Nat.le_of_ble_eq_true rfl) (ly8_k La0_h36) ?_
              refine ma_ki H (fun r39 h38 Xh38 H => ?_) (fun x1 h1 X1 H => mt_out rfl H)
              have H := H Xh38
              have La0_h38 := La0_h36.ext Xh38
              refine mx_istore_n (al' := [some (rv a0), some (iv x1), some (iv r37), some (iv r39)]) dX8_readAtom_125 rfl (Nat.le_of_ble_eq_true rfl) rfl ?_
              refine mx_iload_n dX8_readAtom_126 rfl rfl ?_
              refine mx_if_ge (tgt := 164) dX8_readAtom_127 rfl (fun c40 => ?_) (fun c40 => ?_)
              · have H := H.1 c40
                exact mx_weak (al' := [some (rv a0), none, some (iv r37), some (iv r39)]) ⟨rfl, ⟨rfl, ⟨rfl, trivial⟩⟩⟩ H
              · have H := H.2 c40
                refine mx_iload_n dX8_readAtom_130 rfl rfl ?_
                refine mx_if_ge (tgt := 164) dX8_readAtom_131 rfl (fun c41 => ?_) (fun c41 => ?_)
                · have H := H.1 c41
                  exact mx_weak (al' := [some (rv a0), none, some (iv r37), some (iv r39)]) ⟨rfl, ⟨rfl, ⟨rfl, trivial⟩⟩⟩ H
                · have H := H.2 c41
                  refine mx_aload_n dX8_readAtom_134 rfl rfl ?_
                  refine mx_get 8 50 (ref := "PrairiePoolModel") cl_8 (Nat.le_of_ble_eq_true rfl) (Or.inl q1677) (Or.inl rfl) dX8_readAtom_135 (fv_8_50 _ _) (ly8_k La0_h38) ?_
                  refine mx_iconst dX8_readAtom_138 ic_1 ?_
                  refine mx_icmp_ne (tgt := 159) dX8_readAtom_139 rfl (fun c42 => ?_) (fun c42 => ?_)
                  · have H := H.1 c42
                    refine mx_aload_n dX8_readAtom_159 rfl rfl ?_
                    refine mx_callV 8 (y' := mi_X8_wrong) (vs := []) (st := []) (al' := [some (rv a0)]) cl_8 V_X8_wrong (Or.inl q2239) dX8_readAtom_160 rfl rfl (Nat.le_of_ble_eq_true rfl) (Nat.le_of_ble_eq_true rfl) (ly8_k La0_h38) ?_
                    refine mx_aload_n dX8_wrong_0 rfl rfl ?_
                    refine mx_aload_n dX8_wrong_1 rfl rfl ?_
                    refine mx_get 8 50 (ref := "PrairiePoolModel") cl_8 (Nat.le_of_ble_eq_true rfl) (Or.inl q1677) (Or.inl rfl) dX8_wrong_2 (fv_8_50 _ _) (ly8_k La0_h38) ?_
                    refine mx_iconst dX8_wrong_5 ic_4 ?_
                    refine mx_icmp_ne (tgt := 13) dX8_wrong_6 rfl (fun c43 => ?_) (fun c43 => ?_)
                    · have H := H.1 c43
                      refine mx_iconst dX8_wrong_13 ic_2 ?_
                      refine mx_aload_n dX8_wrong_14 rfl rfl ?_
                      refine mx_get 8 51 (ref := "PrairiePoolModel") cl_8 (Nat.le_of_ble_eq_true rfl) (Or.inl q1678) (Or.inl rfl) dX8_wrong_15 (fv_8_51 _ _) (ly8_k La0_h38) ?_
                      refine mx_callV 8 (y' := mi_X8_fail) (vs := [iv (2 : Int32), iv (ah_I h38 a0 51)]) (st := []) (al' := [some (rv a0), some (iv (2 : Int32)), some (iv (ah_I h38 a0 51))]) cl_8 V_X8_fail (Or.inl q2243) dX8_wrong_18 rfl rfl (Nat.le_of_ble_eq_true rfl) (Nat.le_of_ble_eq_true rfl) (ly8_k La0_h38) ?_
                      refine mx_aload_n dX8_fail_0 rfl rfl ?_
                      refine mx_get 8 48 (ref := "PrairiePoolModel") cl_8 (Nat.le_of_ble_eq_true rfl) (Or.inl q1675) (Or.inl rfl) dX8_fail_1 (fv_8_48 _ _) (ly8_k La0_h38) ?_
                      refine mx_if_le (tgt := 8) dX8_fail_4 rfl (fun c44 => ?_) (fun c44 => ?_)
                      · have H := H.1 c44
                        refine mx_aload_n dX8_fail_8 rfl rfl ?_
                        refine mx_iload_n dX8_fail_9 rfl rfl ?_
                        refine mx_putI 8 48 (ref := "PrairiePoolModel") cl_8 (Nat.le_of_ble_eq_true rfl) (Or.inl q1675) (Or.inl rfl) dX8_fail_10 (Or.inl rfl) rfl (ly8_k La0_h38) ?_
                        refine mx_nmI  (fun h45 eh45 Xh45 Kh45 Lh45 => ?_)
                        have H := H h45 eh45 Xh45
                        have La0_h45 := La0_h38.ext Xh45
                        refine mx_aload_n dX8_fail_13 rfl rfl ?_
                        refine mx_iload_n dX8_fail_14 rfl rfl ?_
                        refine mx_putI 8 49 (ref := "PrairiePoolModel") cl_8 (Nat.le_of_ble_eq_true rfl) (Or.inl q1676) (Or.inl rfl) dX8_fail_15 (Or.inl rfl) rfl (ly8_k La0_h45) ?_
                        refine mx_nmI  (fun h46 eh46 Xh46 Kh46 Lh46 => ?_)
                        have H := H h46 eh46 Xh46
                        have Kh46 := Kh46.trans Kh45
                        have Lh46 := Lh46.trans Lh45
                        have La0_h46 := La0_h45.ext Xh46
                        refine mx_vretK rfl dX8_fail_18 ?_
                        refine mx_vretK rfl dX8_wrong_21 ?_
                        exact mx_vret rfl dX8_readAtom_163 H
                      · have H := H.2 c44
                        refine mx_vretK rfl dX8_fail_7 ?_
                        refine mx_vretK rfl dX8_wrong_21 ?_
                        exact mx_vret rfl dX8_readAtom_163 H
                    · have H := H.2 c43
                      refine mx_iconst dX8_wrong_9 ic_1 ?_
                      refine mx_goto (tgt := 14) dX8_wrong_10 rfl ?_
                      refine mx_aload_n dX8_wrong_14 rfl rfl ?_
                      refine mx_get 8 51 (ref := "PrairiePoolModel") cl_8 (Nat.le_of_ble_eq_true rfl) (Or.inl q1678) (Or.inl rfl) dX8_wrong_15 (fv_8_51 _ _) (ly8_k La0_h38) ?_
                      refine mx_callV 8 (y' := mi_X8_fail) (vs := [iv (1 : Int32), iv (ah_I h38 a0 51)]) (st := []) (al' := [some (rv a0), some (iv (1 : Int32)), some (iv (ah_I h38 a0 51))]) cl_8 V_X8_fail (Or.inl q2243) dX8_wrong_18 rfl rfl (Nat.le_of_ble_eq_true rfl) (Nat.le_of_ble_eq_true rfl) (ly8_k La0_h38) ?_
                      refine mx_aload_n dX8_fail_0 rfl rfl ?_
                      refine mx_get 8 48 (ref := "PrairiePoolModel") cl_8 (Nat.le_of_ble_eq_true rfl) (Or.inl q1675) (Or.inl rfl) dX8_fail_1 (fv_8_48 _ _) (ly8_k La0_h38) ?_
                      refine mx_if_le (tgt := 8) dX8_fail_4 rfl (fun c47 => ?_) (fun c47 => ?_)
                      · have H := H.1 c47
                        refine mx_aload_n dX8_fail_8 rfl rfl ?_
                        refine mx_iload_n dX8_fail_9 rfl rfl ?_
                        refine mx_putI 8 48 (ref := "PrairiePoolModel") cl_8 (Nat.le_of_ble_eq_true rfl) (Or.inl q1675) (Or.inl rfl) dX8_fail_10 (Or.inl rfl) rfl (ly8_k La0_h38) ?_
                        refine mx_nmI  (fun h48 eh48 Xh48 Kh48 Lh48 => ?_)
                        have H := H h48 eh48 Xh48
                        have La0_h48 := La0_h38.ext Xh48
                        refine mx_aload_n dX8_fail_13 rfl rfl ?_
                        refine mx_iload_n dX8_fail_14 rfl rfl ?_
                        refine mx_putI 8 49 (ref := "PrairiePoolModel") cl_8 (Nat.le_of_ble_eq_true rfl) (Or.inl q1676) (Or.inl rfl) dX8_fail_15 (Or.inl rfl) rfl (ly8_k La0_h48) ?_
                        refine mx_nmI  (fun h49 eh49 Xh49 Kh49 Lh49 => ?_)
                        have H := H h49 eh49 Xh49
                        have Kh49 := Kh49.trans Kh48
                        have Lh49 := Lh49.trans Lh48
                        have La0_h49 := La0_h48.ext Xh49
                        refine mx_vretK rfl dX8_fail_18 ?_
                        refine mx_vretK rfl dX8_wrong_21 ?_
                        exact mx_vret rfl dX8_readAtom_163 H
                      · have H := H.2 c47
                        refine mx_vretK rfl dX8_fail_7 ?_
                        refine mx_vretK rfl dX8_wrong_21 ?_
                        exact mx_vret rfl dX8_readAtom_163 H
                  · have H := H.2 c42
                    refine mx_aload_n dX8_readAtom_142 rfl rfl ?_
                    refine mx_callV 8 (y' := mi_X8_isKept) (vs := []) (st := []) (al' := [some (rv a0)]) cl_8 V_X8_isKept (Or.inl q2203) dX8_readAtom_143 rfl rfl (Nat.le_of_ble_eq_true rfl) (Nat.le_of_ble_eq_true rfl) (ly8_k La0_h38) ?_
                    refine ma_ki H (fun r51 h50 Xh50 H => ?_) (fun x1 h1 X1 H => mt_out rfl H)
                    have H := H Xh50
                    have La0_h50 := La0_h38.ext Xh50
                    refine mx_if_ne (tgt := 159) dX8_readAtom_146 rfl (fun c52 => ?_) (fun c52 => ?_)
                    · have H := H.1 c52
                      refine mx_aload_n dX8_readAtom_159 rfl rfl ?_
                      refine mx_callV 8 (y' := mi_X8_wrong) (vs := []) (st := []) (al' := [some (rv a0)]) cl_8 V_X8_wrong (Or.inl q2239) dX8_readAtom_160 rfl rfl (Nat.le_of_ble_eq_true rfl) (Nat.le_of_ble_eq_true rfl) (ly8_k La0_h50) ?_
                      refine mx_aload_n dX8_wrong_0 rfl rfl ?_
                      refine mx_aload_n dX8_wrong_1 rfl rfl ?_
                      refine mx_get 8 50 (ref := "PrairiePoolModel") cl_8 (Nat.le_of_ble_eq_true rfl) (Or.inl q1677) (Or.inl rfl) dX8_wrong_2 (fv_8_50 _ _) (ly8_k La0_h50) ?_
                      refine mx_iconst dX8_wrong_5 ic_4 ?_
                      refine mx_icmp_ne (tgt := 13) dX8_wrong_6 rfl (fun c53 => ?_) (fun c53 => ?_)
                      · have H := H.1 c53
                        refine mx_iconst dX8_wrong_13 ic_2 ?_
                        refine mx_aload_n dX8_wrong_14 rfl rfl ?_
                        refine mx_get 8 51 (ref := "PrairiePoolModel") cl_8 (Nat.le_of_ble_eq_true rfl) (Or.inl q1678) (Or.inl rfl) dX8_wrong_15 (fv_8_51 _ _) (ly8_k La0_h50) ?_
                        refine mx_callV 8 (y' := mi_X8_fail) (vs := [iv (2 : Int32), iv (ah_I h50 a0 51)]) (st := []) (al' := [some (rv a0), some (iv (2 : Int32)), some (iv (ah_I h50 a0 51))]) cl_8 V_X8_fail (Or.inl q2243) dX8_wrong_18 rfl rfl (Nat.le_of_ble_eq_true rfl) (Nat.le_of_ble_eq_true rfl) (ly8_k La0_h50) ?_
                        refine mx_aload_n dX8_fail_0 rfl rfl ?_
                        refine mx_get 8 48 (ref := "PrairiePoolModel") cl_8 (Nat.le_of_ble_eq_true rfl) (Or.inl q1675) (Or.inl rfl) dX8_fail_1 (fv_8_48 _ _) (ly8_k La0_h50) ?_
                        refine mx_if_le (tgt := 8) dX8_fail_4 rfl (fun c54 => ?_) (fun c54 => ?_)
                        · have H := H.1 c54
                          refine mx_aload_n dX8_fail_8 rfl rfl ?_
                          refine mx_iload_n dX8_fail_9 rfl rfl ?_
                          refine mx_putI 8 48 (ref := "PrairiePoolModel") cl_8 (Nat.le_of_ble_eq_true rfl) (Or.inl q1675) (Or.inl rfl) dX8_fail_10 (Or.inl rfl) rfl (ly8_k La0_h50) ?_
                          refine mx_nmI  (fun h55 eh55 Xh55 Kh55 Lh55 => ?_)
                          have H := H h55 eh55 Xh55
                          have La0_h55 := La0_h50.ext Xh55
                          refine mx_aload_n dX8_fail_13 rfl rfl ?_
                          refine mx_iload_n dX8_fail_14 rfl rfl ?_
                          refine mx_putI 8 49 (ref := "PrairiePoolModel") cl_8 (Nat.le_of_ble_eq_true rfl) (Or.inl q1676) (Or.inl rfl) dX8_fail_15 (Or.inl rfl) rfl (ly8_k La0_h55) ?_
                          refine mx_nmI  (fun h56 eh56 Xh56 Kh56 Lh56 => ?_)
                          have H := H h56 eh56 Xh56
                          have Kh56 := Kh56.trans Kh55
                          have Lh56 := Lh56.trans Lh55
                          have La0_h56 := La0_h55.ext Xh56
                          refine mx_vretK rfl dX8_fail_18 ?_
                          refine mx_vretK rfl dX8_wrong_21 ?_
                          exact mx_vret rfl dX8_readAtom_163 H
                        · have H := H.2 c54
                          refine mx_vretK rfl dX8_fail_7 ?_
                          refine mx_vretK rfl dX8_wrong_21 ?_
                          exact mx_vret rfl dX8_readAtom_163 H
                      · have H := H.2 c53
                        refine mx_iconst dX8_wrong_9 ic_1 ?_
                        refine mx_goto (tgt := 14) dX8_wrong_10 rfl ?_
                        refine mx_aload_n dX8_wrong_14 rfl rfl ?_
                        refine mx_get 8 51 (ref := "PrairiePoolModel") cl_8 (Nat.le_of_ble_eq_true rfl) (Or.inl q1678) (Or.inl rfl) dX8_wrong_15 (fv_8_51 _ _) (ly8_k La0_h50) ?_
                        refine mx_callV 8 (y' := mi_X8_fail) (vs := [iv (1 : Int32), iv (ah_I h50 a0 51)]) (st := []) (al' := [some (rv a0), some (iv (1 : Int32)), some (iv (ah_I h50 a0 51))]) cl_8 V_X8_fail (Or.inl q2243) dX8_wrong_18 rfl rfl (Nat.le_of_ble_eq_true rfl) (Nat.le_of_ble_eq_true rfl) (ly8_k La0_h50) ?_
                        refine mx_aload_n dX8_fail_0 rfl rfl ?_
                        refine mx_get 8 48 (ref := "PrairiePoolModel") cl_8 (Nat.le_of_ble_eq_true rfl) (Or.inl q1675) (Or.inl rfl) dX8_fail_1 (fv_8_48 _ _) (ly8_k La0_h50) ?_
                        refine mx_if_le (tgt := 8) dX8_fail_4 rfl (fun c57 => ?_) (fun c57 => ?_)
                        · have H := H.1 c57
                          refine mx_aload_n dX8_fail_8 rfl rfl ?_
                          refine mx_iload_n dX8_fail_9 rfl rfl ?_
                          refine mx_putI 8 48 (ref := "PrairiePoolModel") cl_8 (Nat.le_of_ble_eq_true rfl) (Or.inl q1675) (Or.inl rfl) dX8_fail_10 (Or.inl rfl) rfl (ly8_k La0_h50) ?_
                          refine mx_nmI  (fun h58 eh58 Xh58 Kh58 Lh58 => ?_)
                          have H := H h58 eh58 Xh58
                          have La0_h58 := La0_h50.ext Xh58
                          refine mx_aload_n dX8_fail_13 rfl rfl ?_
                          refine mx_iload_n dX8_fail_14 rfl rfl ?_
                          refine mx_putI 8 49 (ref := "PrairiePoolModel") cl_8 (Nat.le_of_ble_eq_true rfl) (Or.inl q1676) (Or.inl rfl) dX8_fail_15 (Or.inl rfl) rfl (ly8_k La0_h58) ?_
                          refine mx_nmI  (fun h59 eh59 Xh59 Kh59 Lh59 => ?_)
                          have H := H h59 eh59 Xh59
                          have Kh59 := Kh59.trans Kh58
                          have Lh59 := Lh59.trans Lh58
                          have La0_h59 := La0_h58.ext Xh59
                          refine mx_vretK rfl dX8_fail_18 ?_
                          refine mx_vretK rfl dX8_wrong_21 ?_
                          exact mx_vret rfl dX8_readAtom_163 H
                        · have H := H.2 c57
                          refine mx_vretK rfl dX8_fail_7 ?_
                          refine mx_vretK rfl dX8_wrong_21 ?_
                          exact mx_vret rfl dX8_readAtom_163 H
                    · have H := H.2 c52
                      refine mx_aload_n dX8_readAtom_149 rfl rfl ?_
                      refine mx_bipush dX8_readAtom_150 ib_6 ?_
                      refine mx_aload_n dX8_readAtom_152 rfl rfl ?_
                      refine mx_get 8 51 (ref := "PrairiePoolModel") cl_8 (Nat.le_of_ble_eq_true rfl) (Or.inl q1678) (Or.inl rfl) dX8_readAtom_153 (fv_8_51 _ _) (ly8_k La0_h50) ?_
                      refine mx_callV 8 (y' := mi_X8_fail) (vs := [iv (6 : Int32), iv (ah_I h50 a0 51)]) (st := []) (al' := [some (rv a0), some (iv (6 : Int32)), some (iv (ah_I h50 a0 51))]) cl_8 V_X8_fail (Or.inl q2243) dX8_readAtom_156 rfl rfl (Nat.le_of_ble_eq_true rfl) (Nat.le_of_ble_eq_true rfl) (ly8_k La0_h50) ?_
                      refine mx_aload_n dX8_fail_0 rfl rfl ?_
                      refine mx_get 8 48 (ref := "PrairiePoolModel") cl_8 (Nat.le_of_ble_eq_true rfl) (Or.inl q1675) (Or.inl rfl) dX8_fail_1 (fv_8_48 _ _) (ly8_k La0_h50) ?_
                      refine mx_if_le (tgt := 8) dX8_fail_4 rfl (fun c60 => ?_) (fun c60 => ?_)
                      · have H := H.1 c60
                        refine mx_aload_n dX8_fail_8 rfl rfl ?_
                        refine mx_iload_n dX8_fail_9 rfl rfl ?_
                        refine mx_putI 8 48 (ref := "PrairiePoolModel") cl_8 (Nat.le_of_ble_eq_true rfl) (Or.inl q1675) (Or.inl rfl) dX8_fail_10 (Or.inl rfl) rfl (ly8_k La0_h50) ?_
                        refine mx_nmI  (fun h61 eh61 Xh61 Kh61 Lh61 => ?_)
                        have H := H h61 eh61 Xh61
                        have La0_h61 := La0_h50.ext Xh61
                        refine mx_aload_n dX8_fail_13 rfl rfl ?_
                        refine mx_iload_n dX8_fail_14 rfl rfl ?_
                        refine mx_putI 8 49 (ref := "PrairiePoolModel") cl_8 (Nat.le_of_ble_eq_true rfl) (Or.inl q1676) (Or.inl rfl) dX8_fail_15 (Or.inl rfl) rfl (ly8_k La0_h61) ?_
                        refine mx_nmI  (fun h62 eh62 Xh62 Kh62 Lh62 => ?_)
                        have H := H h62 eh62 Xh62
                        have Kh62 := Kh62.trans Kh61
                        have Lh62 := Lh62.trans Lh61
                        have La0_h62 := La0_h61.ext Xh62
                        refine mx_vretK rfl dX8_fail_18 ?_
                        refine mx_aload_n dX8_readAtom_159 rfl rfl ?_
                        refine mx_callV 8 (y' := mi_X8_wrong) (vs := []) (st := []) (al' := [some (rv a0)]) cl_8 V_X8_wrong (Or.inl q2239) dX8_readAtom_160 rfl rfl (Nat.le_of_ble_eq_true rfl) (Nat.le_of_ble_eq_true rfl) (ly8_k La0_h62) ?_
                        refine mx_aload_n dX8_wrong_0 rfl rfl ?_
                        refine mx_aload_n dX8_wrong_1 rfl rfl ?_
                        refine mx_get 8 50 (ref := "PrairiePoolModel") cl_8 (Nat.le_of_ble_eq_true rfl) (Or.inl q1677) (Or.inl rfl) dX8_wrong_2 (fv_8_50 _ _) (ly8_k La0_h62) ?_
                        refine mx_ti ((ah_skIK eh62 (by decide)).trans (ah_skIK eh61 (by decide))) ?_
                        refine mx_iconst dX8_wrong_5 ic_4 ?_
                        refine mx_icmp_ne (tgt := 13) dX8_wrong_6 rfl (fun c63 => ?_) (fun c63 => ?_)
                        · have H := H.1 c63
                          refine mx_iconst dX8_wrong_13 ic_2 ?_
                          refine mx_aload_n dX8_wrong_14 rfl rfl ?_
                          refine mx_get 8 51 (ref := "PrairiePoolModel") cl_8 (Nat.le_of_ble_eq_true rfl) (Or.inl q1678) (Or.inl rfl) dX8_wrong_15 (fv_8_51 _ _) (ly8_k La0_h62) ?_
                          refine mx_ti ((ah_skIK eh62 (by decide)).trans (ah_skIK eh61 (by decide))) ?_
                          refine mx_callV 8 (y' := mi_X8_fail) (vs := [iv (2 : Int32), iv (ah_I h50 a0 51)]) (st := []) (al' := [some (rv a0), some (iv (2 : Int32)), some (iv (ah_I h50 a0 51))]) cl_8 V_X8_fail (Or.inl q2243) dX8_wrong_18 rfl rfl (Nat.le_of_ble_eq_true rfl) (Nat.le_of_ble_eq_true rfl) (ly8_k La0_h62) ?_
                          refine mx_aload_n dX8_fail_0 rfl rfl ?_
                          refine mx_get 8 48 (ref := "PrairiePoolModel") cl_8 (Nat.le_of_ble_eq_true rfl) (Or.inl q1675) (Or.inl rfl) dX8_fail_1 (fv_8_48 _ _) (ly8_k La0_h62) ?_
                          refine mx_ti ((ah_skIK eh62 (by decide)).trans (ah_hitI eh61)) ?_
                          refine mx_if_le (tgt := 8) dX8_fail_4 rfl (fun _ => absurd ‹_› (by decide)) (fun _ => ?_)
                          refine mx_vretK rfl dX8_fail_7 ?_
                          refine mx_vretK rfl dX8_wrong_21 ?_
                          exact mx_vret rfl dX8_readAtom_163 H
                        · have H := H.2 c63
                          refine mx_iconst dX8_wrong_9 ic_1 ?_
                          refine mx_goto (tgt := 14) dX8_wrong_10 rfl ?_
                          refine mx_aload_n dX8_wrong_14 rfl rfl ?_
                          refine mx_get 8 51 (ref := "PrairiePoolModel") cl_8 (Nat.le_of_ble_eq_true rfl) (Or.inl q1678) (Or.inl rfl) dX8_wrong_15 (fv_8_51 _ _) (ly8_k La0_h62) ?_
                          refine mx_ti ((ah_skIK eh62 (by decide)).trans (ah_skIK eh61 (by decide))) ?_
                          refine mx_callV 8 (y' := mi_X8_fail) (vs := [iv (1 : Int32), iv (ah_I h50 a0 51)]) (st := []) (al' := [some (rv a0), some (iv (1 : Int32)), some (iv (ah_I h50 a0 51))]) cl_8 V_X8_fail (Or.inl q2243) dX8_wrong_18 rfl rfl (Nat.le_of_ble_eq_true rfl) (Nat.le_of_ble_eq_true rfl) (ly8_k La0_h62) ?_
                          refine mx_aload_n dX8_fail_0 rfl rfl ?_
                          refine mx_get 8 48 (ref := "PrairiePoolModel") cl_8 (Nat.le_of_ble_eq_true rfl) (Or.inl q1675) (Or.inl rfl) dX8_fail_1 (fv_8_48 _ _) (ly8_k La0_h62) ?_
                          refine mx_ti ((ah_skIK eh62 (by decide)).trans (ah_hitI eh61)) ?_
                          refine mx_if_le (tgt := 8) dX8_fail_4 rfl (fun _ => absurd ‹_› (by decide)) (fun _ => ?_)
                          refine mx_vretK rfl dX8_fail_7 ?_
                          refine mx_vretK rfl dX8_wrong_21 ?_
                          exact mx_vret rfl dX8_readAtom_163 H
                      · have H := H.2 c60
                        refine mx_vretK rfl dX8_fail_7 ?_
                        refine mx_aload_n dX8_readAtom_159 rfl rfl ?_
                        refine mx_callV 8 (y' := mi_X8_wrong) (vs := []) (st := []) (al' := [some (rv a0)]) cl_8 V_X8_wrong (Or.inl q2239) dX8_readAtom_160 rfl rfl (Nat.le_of_ble_eq_true rfl) (Nat.le_of_ble_eq_true rfl) (ly8_k La0_h50) ?_
                        refine mx_aload_n dX8_wrong_0 rfl rfl ?_
                        refine mx_aload_n dX8_wrong_1 rfl rfl ?_
                        refine mx_get 8 50 (ref := "PrairiePoolModel") cl_8 (Nat.le_of_ble_eq_true rfl) (Or.inl q1677) (Or.inl rfl) dX8_wrong_2 (fv_8_50 _ _) (ly8_k La0_h50) ?_
                        refine mx_iconst dX8_wrong_5 ic_4 ?_
                        refine mx_icmp_ne (tgt := 13) dX8_wrong_6 rfl (fun c64 => ?_) (fun c64 => ?_)
                        · have H := H.1 c64
                          refine mx_iconst dX8_wrong_13 ic_2 ?_
                          refine mx_aload_n dX8_wrong_14 rfl rfl ?_
                          refine mx_get 8 51 (ref := "PrairiePoolModel") cl_8 (Nat.le_of_ble_eq_true rfl) (Or.inl q1678) (Or.inl rfl) dX8_wrong_15 (fv_8_51 _ _) (ly8_k La0_h50) ?_
                          refine mx_callV 8 (y' := mi_X8_fail) (vs := [iv (2 : Int32), iv (ah_I h50 a0 51)]) (st := []) (al' := [some (rv a0), some (iv (2 : Int32)), some (iv (ah_I h50 a0 51))]) cl_8 V_X8_fail (Or.inl q2243) dX8_wrong_18 rfl rfl (Nat.le_of_ble_eq_true rfl) (Nat.le_of_ble_eq_true rfl) (ly8_k La0_h50) ?_
                          refine mx_aload_n dX8_fail_0 rfl rfl ?_
                          refine mx_get 8 48 (ref := "PrairiePoolModel") cl_8 (Nat.le_of_ble_eq_true rfl) (Or.inl q1675) (Or.inl rfl) dX8_fail_1 (fv_8_48 _ _) (ly8_k La0_h50) ?_
                          refine mx_if_le (tgt := 8) dX8_fail_4 rfl (fun q_ => absurd q_ c60) (fun _ => ?_)
                          refine mx_vretK rfl dX8_fail_7 ?_
                          refine mx_vretK rfl dX8_wrong_21 ?_
                          exact mx_vret rfl dX8_readAtom_163 H
                        · have H := H.2 c64
                          refine mx_iconst dX8_wrong_9 ic_1 ?_
                          refine mx_goto (tgt := 14) dX8_wrong_10 rfl ?_
                          refine mx_aload_n dX8_wrong_14 rfl rfl ?_
                          refine mx_get 8 51 (ref := "PrairiePoolModel") cl_8 (Nat.le_of_ble_eq_true rfl) (Or.inl q1678) (Or.inl rfl) dX8_wrong_15 (fv_8_51 _ _) (ly8_k La0_h50) ?_
                          refine mx_callV 8 (y' := mi_X8_fail) (vs := [iv (1 : Int32), iv (ah_I h50 a0 51)]) (st := []) (al' := [some (rv a0), some (iv (1 : Int32)), some (iv (ah_I h50 a0 51))]) cl_8 V_X8_fail (Or.inl q2243) dX8_wrong_18 rfl rfl (Nat.le_of_ble_eq_true rfl) (Nat.le_of_ble_eq_true rfl) (ly8_k La0_h50) ?_
                          refine mx_aload_n dX8_fail_0 rfl rfl ?_
                          refine mx_get 8 48 (ref := "PrairiePoolModel") cl_8 (Nat.le_of_ble_eq_true rfl) (Or.inl q1675) (Or.inl rfl) dX8_fail_1 (fv_8_48 _ _) (ly8_k La0_h50) ?_
                          refine mx_if_le (tgt := 8) dX8_fail_4 rfl (fun q_ => absurd q_ c60) (fun _ => ?_)
                          refine mx_vretK rfl dX8_fail_7 ?_
                          refine mx_vretK rfl dX8_wrong_21 ?_
                          exact mx_vret rfl dX8_readAtom_163 H
            · have H := H.2 c35
              refine mx_iconst dX8_isWord_17 ic_1 ?_
              refine mx_goto (tgt := 22) dX8_isWord_18 rfl ?_
              refine mx_zretK rfl dX8_isWord_22 (Or.inr rfl) ?_
              refine mx_zretK rfl dX8_isMost_17 (Or.inr rfl) ?_
              refine mx_if_eq (tgt := 116) dX8_readAtom_93 rfl (fun _ => absurd ‹_› (by decide)) (fun _ => ?_)
              refine mx_aload_n dX8_readAtom_96 rfl rfl ?_
              refine mx_iload_n dX8_readAtom_97 rfl rfl ?_
              refine mx_aload_n dX8_readAtom_98 rfl rfl ?_
              refine mx_callV 8 (y' := mi_X8_isLeast) (vs := []) (st := [iv x1, rv a0]) (al' := [some (rv a0)]) cl_8 V_X8_isLeast (Or.inl q2231) dX8_readAtom_99 rfl rfl (Nat.le_of_ble_eq_true rfl) (Nat.le_of_ble_eq_true rfl) (ly8_k La0_h) ?_
              refine mx_aload_n dX8_isLeast_0 rfl rfl ?_
              refine mx_bipush dX8_isLeast_1 ib_108 ?_
              refine mx_bipush dX8_isLeast_3 ib_101 ?_
              refine mx_bipush dX8_isLeast_5 ib_97 ?_
              refine mx_bipush dX8_isLeast_7 ib_115 ?_
              refine mx_bipush dX8_isLeast_9 ib_116 ?_
              refine mx_iconst dX8_isLeast_11 ic_0 ?_
              refine mx_callS (y' := mi_X8_spelled) (vs := [iv (108 : Int32), iv (101 : Int32), iv (97 : Int32), iv (115 : Int32), iv (116 : Int32), iv (0 : Int32)]) (st := [rv a0]) (al' := [some (iv (108 : Int32)), some (iv (101 : Int32)), some (iv (97 : Int32)), some (iv (115 : Int32)), some (iv (116 : Int32)), some (iv (0 : Int32)), none, none]) S_X8_spelled q2075 dX8_isLeast_12 rfl rfl (Nat.le_of_ble_eq_true rfl) (Nat.le_of_ble_eq_true rfl) ?_
              refine mx_iload_n dX8_spelled_0 rfl rfl ?_
              refine mx_i2l dX8_spelled_1 ?_
              refine mx_ldc2 q2078 dX8_spelled_2 ?_
              refine mx_lsub dX8_spelled_5 ?_
              refine mx_lstore (al' := [some (iv (108 : Int32)), some (iv (101 : Int32)), some (iv (97 : Int32)), some (iv (115 : Int32)), some (iv (116 : Int32)), some (iv (0 : Int32)), some (jv ((108 : Int32).toInt64 - (96 : Int64))), none]) dX8_spelled_6 (Nat.le_of_ble_eq_true rfl) rfl ?_
              refine mx_lload dX8_spelled_8 rfl ?_
              refine mx_ldc2 q2079 dX8_spelled_10 ?_
              refine mx_lmul dX8_spelled_13 ?_
              refine mx_iload_n dX8_spelled_14 rfl rfl ?_
              refine mx_i2l dX8_spelled_15 ?_
              refine mx_ladd dX8_spelled_16 ?_
              refine mx_ldc2 q2078 dX8_spelled_17 ?_
              refine mx_lsub dX8_spelled_20 ?_
              refine mx_lstore (al' := [some (iv (108 : Int32)), some (iv (101 : Int32)), some (iv (97 : Int32)), some (iv (115 : Int32)), some (iv (116 : Int32)), some (iv (0 : Int32)), some (jv (((((108 : Int32).toInt64 - (96 : Int64)) * (32 : Int64)) + (101 : Int32).toInt64) - (96 : Int64))), none]) dX8_spelled_21 (Nat.le_of_ble_eq_true rfl) rfl ?_
              refine mx_iload_n dX8_spelled_23 rfl rfl ?_
              refine mx_if_le (tgt := 43) dX8_spelled_24 rfl (fun _ => absurd ‹_› (by decide)) (fun _ => ?_)
              refine mx_lload dX8_spelled_27 rfl ?_
              refine mx_ldc2 q2079 dX8_spelled_29 ?_
              refine mx_lmul dX8_spelled_32 ?_
              refine mx_iload_n dX8_spelled_33 rfl rfl ?_
              refine mx_i2l dX8_spelled_34 ?_
              refine mx_ladd dX8_spelled_35 ?_
              refine mx_ldc2 q2078 dX8_spelled_36 ?_
              refine mx_lsub dX8_spelled_39 ?_
              refine mx_goto (tgt := 45) dX8_spelled_40 rfl ?_
              refine mx_lstore (al' := [some (iv (108 : Int32)), some (iv (101 : Int32)), some (iv (97 : Int32)), some (iv (115 : Int32)), some (iv (116 : Int32)), some (iv (0 : Int32)), some (jv ((((((((108 : Int32).toInt64 - (96 : Int64)) * (32 : Int64)) + (101 : Int32).toInt64) - (96 : Int64)) * (32 : Int64)) + (97 : Int32).toInt64) - (96 : Int64))), none]) dX8_spelled_45 (Nat.le_of_ble_eq_true rfl) rfl ?_
              refine mx_iload_n dX8_spelled_47 rfl rfl ?_
              refine mx_if_le (tgt := 67) dX8_spelled_48 rfl (fun _ => absurd ‹_› (by decide)) (fun _ => ?_)
              refine mx_lload dX8_spelled_51 rfl ?_
              refine mx_ldc2 q2079 dX8_spelled_53 ?_
              refine mx_lmul dX8_spelled_56 ?_
              refine mx_iload_n dX8_spelled_57 rfl rfl ?_
              refine mx_i2l dX8_spelled_58 ?_
              refine mx_ladd dX8_spelled_59 ?_
              refine mx_ldc2 q2078 dX8_spelled_60 ?_
              refine mx_lsub dX8_spelled_63 ?_
              refine mx_goto (tgt := 69) dX8_spelled_64 rfl ?_
              refine mx_lstore (al' := [some (iv (108 : Int32)), some (iv (101 : Int32)), some (iv (97 : Int32)), some (iv (115 : Int32)), some (iv (116 : Int32)), some (iv (0 : Int32)), some (jv (((((((((((108 : Int32).toInt64 - (96 : Int64)) * (32 : Int64)) + (101 : Int32).toInt64) - (96 : Int64)) * (32 : Int64)) + (97 : Int32).toInt64) - (96 : Int64)) * (32 : Int64)) + (115 : Int32).toInt64) - (96 : Int64))), none]) dX8_spelled_69 (Nat.le_of_ble_eq_true rfl) rfl ?_
              refine mx_iload dX8_spelled_71 rfl ?_
              refine mx_if_le (tgt := 93) dX8_spelled_73 rfl (fun _ => absurd ‹_› (by decide)) (fun _ => ?_)
              refine mx_lload dX8_spelled_76 rfl ?_
              refine mx_ldc2 q2079 dX8_spelled_78 ?_
              refine mx_lmul dX8_spelled_81 ?_
              refine mx_iload dX8_spelled_82 rfl ?_
              refine mx_i2l dX8_spelled_84 ?_
              refine mx_ladd dX8_spelled_85 ?_
              refine mx_ldc2 q2078 dX8_spelled_86 ?_
              refine mx_lsub dX8_spelled_89 ?_
              refine mx_goto (tgt := 95) dX8_spelled_90 rfl ?_
              refine mx_lstore (al' := [some (iv (108 : Int32)), some (iv (101 : Int32)), some (iv (97 : Int32)), some (iv (115 : Int32)), some (iv (116 : Int32)), some (iv (0 : Int32)), some (jv ((((((((((((((108 : Int32).toInt64 - (96 : Int64)) * (32 : Int64)) + (101 : Int32).toInt64) - (96 : Int64)) * (32 : Int64)) + (97 : Int32).toInt64) - (96 : Int64)) * (32 : Int64)) + (115 : Int32).toInt64) - (96 : Int64)) * (32 : Int64)) + (116 : Int32).toInt64) - (96 : Int64))), none]) dX8_spelled_95 (Nat.le_of_ble_eq_true rfl) rfl ?_
              refine mx_iload dX8_spelled_97 rfl ?_
              refine mx_if_le (tgt := 119) dX8_spelled_99 rfl (fun _ => ?_) (fun _ => absurd ‹_› (by decide))
              refine mx_lload dX8_spelled_119 rfl ?_
              refine mx_lretK rfl dX8_spelled_121 ?_
              refine mx_tj (show ((((((((((((((108 : Int32).toInt64 - (96 : Int64)) * (32 : Int64)) + (101 : Int32).toInt64) - (96 : Int64)) * (32 : Int64)) + (97 : Int32).toInt64) - (96 : Int64)) * (32 : Int64)) + (115 : Int32).toInt64) - (96 : Int64)) * (32 : Int64)) + (116 : Int32).toInt64) - (96 : Int64)) = (12748404 : Int64) by decide) ?_
              refine mx_callV 8 (y' := mi_X8_isWord) (vs := [jv (12748404 : Int64)]) (st := []) (al' := [some (rv a0), some (jv (12748404 : Int64)), none]) cl_8 V_X8_isWord (Or.inl q2196) dX8_isLeast_15 rfl rfl (Nat.le_of_ble_eq_true rfl) (Nat.le_of_ble_eq_true rfl) (ly8_k La0_h) ?_
              refine mx_aload_n dX8_isWord_0 rfl rfl ?_
              refine mx_get 8 50 (ref := "PrairiePoolModel") cl_8 (Nat.le_of_ble_eq_true rfl) (Or.inl q1677) (Or.inl rfl) dX8_isWord_1 (fv_8_50 _ _) (ly8_k La0_h) ?_
              refine mx_iconst dX8_isWord_4 ic_1 ?_
              refine mx_icmp_ne (tgt := 21) dX8_isWord_5 rfl (fun q_ => absurd c4 q_) (fun _ => ?_)
              refine mx_aload_n dX8_isWord_8 rfl rfl ?_
              refine mx_get 8 55 (ref := "PrairiePoolModel") cl_8 (Nat.le_of_ble_eq_true rfl) (Or.inl q1682) (Or.inl rfl) dX8_isWord_9 (fv_8_55 _ _) (ly8_k La0_h) ?_
              refine mx_lload_n dX8_isWord_12 rfl rfl ?_
              refine mx_lif_ne (tgt := 21) dX8_isWord_13 dX8_isWord_14 rfl (fun _ => ?_) (fun q_ => absurd q_ c34)
              refine mx_iconst dX8_isWord_21 ic_0 ?_
              refine mx_zretK rfl dX8_isWord_22 (Or.inl rfl) ?_
              refine mx_zretK rfl dX8_isLeast_18 (Or.inl rfl) ?_
              refine mx_if_eq (tgt := 110) dX8_readAtom_102 rfl (fun _ => ?_) (fun _ => absurd ‹_› (by decide))
              refine mx_bipush dX8_readAtom_110 ib_9 ?_
              refine mx_callV 8 (y' := mi_X8_readFew) (vs := [iv x1, iv (9 : Int32)]) (st := []) (al' := [some (rv a0), some (iv x1), some (iv (9 : Int32))]) cl_8 V_X8_readFew (Or.inl q2283) dX8_readAtom_112 rfl rfl (Nat.le_of_ble_eq_true rfl) (Nat.le_of_ble_eq_true rfl) (ly8_k La0_h) ?_
              refine ma_kv H (fun h65 Xh65 H => ?_) (fun x1 h1 X1 H => mt_out rfl H)
              have H := H Xh65
              have La0_h65 := La0_h.ext Xh65
              exact mx_vret rfl dX8_readAtom_115 H
          · have H := H.2 c34
            refine mx_iconst dX8_isWord_17 ic_1 ?_
            refine mx_goto (tgt := 22) dX8_isWord_18 rfl ?_
            refine mx_zretK rfl dX8_isWord_22 (Or.inr rfl) ?_
            refine mx_zretK rfl dX8_isLeast_18 (Or.inr rfl) ?_
            refine mx_if_ne (tgt := 96) dX8_readAtom_86 rfl (fun _ => ?_) (fun _ => absurd ‹_› (by decide))
            refine mx_aload_n dX8_readAtom_96 rfl rfl ?_
            refine mx_iload_n dX8_readAtom_97 rfl rfl ?_
            refine mx_aload_n dX8_readAtom_98 rfl rfl ?_
            refine mx_callV 8 (y' := mi_X8_isLeast) (vs := []) (st := [iv x1, rv a0]) (al' := [some (rv a0)]) cl_8 V_X8_isLeast (Or.inl q2231) dX8_readAtom_99 rfl rfl (Nat.le_of_ble_eq_true rfl) (Nat.le_of_ble_eq_true rfl) (ly8_k La0_h) ?_
            refine mx_aload_n dX8_isLeast_0 rfl rfl ?_
            refine mx_bipush dX8_isLeast_1 ib_108 ?_
            refine mx_bipush dX8_isLeast_3 ib_101 ?_
            refine mx_bipush dX8_isLeast_5 ib_97 ?_
            refine mx_bipush dX8_isLeast_7 ib_115 ?_
            refine mx_bipush dX8_isLeast_9 ib_116 ?_
            refine mx_iconst dX8_isLeast_11 ic_0 ?_
            refine mx_callS (y' := mi_X8_spelled) (vs := [iv (108 : Int32), iv (101 : Int32), iv (97 : Int32), iv (115 : Int32), iv (116 : Int32), iv (0 : Int32)]) (st := [rv a0]) (al' := [some (iv (108 : Int32)), some (iv (101 : Int32)), some (iv (97 : Int32)), some (iv (115 : Int32)), some (iv (116 : Int32)), some (iv (0 : Int32)), none, none]) S_X8_spelled q2075 dX8_isLeast_12 rfl rfl (Nat.le_of_ble_eq_true rfl) (Nat.le_of_ble_eq_true rfl) ?_
            refine mx_iload_n dX8_spelled_0 rfl rfl ?_
            refine mx_i2l dX8_spelled_1 ?_
            refine mx_ldc2 q2078 dX8_spelled_2 ?_
            refine mx_lsub dX8_spelled_5 ?_
            refine mx_lstore (al' := [some (iv (108 : Int32)), some (iv (101 : Int32)), some (iv (97 : Int32)), some (iv (115 : Int32)), some (iv (116 : Int32)), some (iv (0 : Int32)), some (jv ((108 : Int32).toInt64 - (96 : Int64))), none]) dX8_spelled_6 (Nat.le_of_ble_eq_true rfl) rfl ?_
            refine mx_lload dX8_spelled_8 rfl ?_
            refine mx_ldc2 q2079 dX8_spelled_10 ?_
            refine mx_lmul dX8_spelled_13 ?_
            refine mx_iload_n dX8_spelled_14 rfl rfl ?_
            refine mx_i2l dX8_spelled_15 ?_
            refine mx_ladd dX8_spelled_16 ?_
            refine mx_ldc2 q2078 dX8_spelled_17 ?_
            refine mx_lsub dX8_spelled_20 ?_
            refine mx_lstore (al' := [some (iv (108 : Int32)), some (iv (101 : Int32)), some (iv (97 : Int32)), some (iv (115 : Int32)), some (iv (116 : Int32)), some (iv (0 : Int32)), some (jv (((((108 : Int32).toInt64 - (96 : Int64)) * (32 : Int64)) + (101 : Int32).toInt64) - (96 : Int64))), none]) dX8_spelled_21 (Nat.le_of_ble_eq_true rfl) rfl ?_
            refine mx_iload_n dX8_spelled_23 rfl rfl ?_
            refine mx_if_le (tgt := 43) dX8_spelled_24 rfl (fun _ => absurd ‹_› (by decide)) (fun _ => ?_)
            refine mx_lload dX8_spelled_27 rfl ?_
            refine mx_ldc2 q2079 dX8_spelled_29 ?_
            refine mx_lmul dX8_spelled_32 ?_
            refine mx_iload_n dX8_spelled_33 rfl rfl ?_
            refine mx_i2l dX8_spelled_34 ?_
            refine mx_ladd dX8_spelled_35 ?_
            refine mx_ldc2 q2078 dX8_spelled_36 ?_
            refine mx_lsub dX8_spelled_39 ?_
            refine mx_goto (tgt := 45) dX8_spelled_40 rfl ?_
            refine mx_lstore (al' := [some (iv (108 : Int32)), some (iv (101 : Int32)), some (iv (97 : Int32)), some (iv (115 : Int32)), some (iv (116 : Int32)), some (iv (0 : Int32)), some (jv ((((((((108 : Int32).toInt64 - (96 : Int64)) * (32 : Int64)) + (101 : Int32).toInt64) - (96 : Int64)) * (32 : Int64)) + (97 : Int32).toInt64) - (96 : Int64))), none]) dX8_spelled_45 (Nat.le_of_ble_eq_true rfl) rfl ?_
            refine mx_iload_n dX8_spelled_47 rfl rfl ?_
            refine mx_if_le (tgt := 67) dX8_spelled_48 rfl (fun _ => absurd ‹_› (by decide)) (fun _ => ?_)
            refine mx_lload dX8_spelled_51 rfl ?_
            refine mx_ldc2 q2079 dX8_spelled_53 ?_
            refine mx_lmul dX8_spelled_56 ?_
            refine mx_iload_n dX8_spelled_57 rfl rfl ?_
            refine mx_i2l dX8_spelled_58 ?_
            refine mx_ladd dX8_spelled_59 ?_
            refine mx_ldc2 q2078 dX8_spelled_60 ?_
            refine mx_lsub dX8_spelled_63 ?_
            refine mx_goto (tgt := 69) dX8_spelled_64 rfl ?_
            refine mx_lstore (al' := [some (iv (108 : Int32)), some (iv (101 : Int32)), some (iv (97 : Int32)), some (iv (115 : Int32)), some (iv (116 : Int32)), some (iv (0 : Int32)), some (jv (((((((((((108 : Int32).toInt64 - (96 : Int64)) * (32 : Int64)) + (101 : Int32).toInt64) - (96 : Int64)) * (32 : Int64)) + (97 : Int32).toInt64) - (96 : Int64)) * (32 : Int64)) + (115 : Int32).toInt64) - (96 : Int64))), none]) dX8_spelled_69 (Nat.le_of_ble_eq_true rfl) rfl ?_
            refine mx_iload dX8_spelled_71 rfl ?_
            refine mx_if_le (tgt := 93) dX8_spelled_73 rfl (fun _ => absurd ‹_› (by decide)) (fun _ => ?_)
            refine mx_lload dX8_spelled_76 rfl ?_
            refine mx_ldc2 q2079 dX8_spelled_78 ?_
            refine mx_lmul dX8_spelled_81 ?_
            refine mx_iload dX8_spelled_82 rfl ?_
            refine mx_i2l dX8_spelled_84 ?_
            refine mx_ladd dX8_spelled_85 ?_
            refine mx_ldc2 q2078 dX8_spelled_86 ?_
            refine mx_lsub dX8_spelled_89 ?_
            refine mx_goto (tgt := 95) dX8_spelled_90 rfl ?_
            refine mx_lstore (al' := [some (iv (108 : Int32)), some (iv (101 : Int32)), some (iv (97 : Int32)), some (iv (115 : Int32)), some (iv (116 : Int32)), some (iv (0 : Int32)), some (jv ((((((((((((((108 : Int32).toInt64 - (96 : Int64)) * (32 : Int64)) + (101 : Int32).toInt64) - (96 : Int64)) * (32 : Int64)) + (97 : Int32).toInt64) - (96 : Int64)) * (32 : Int64)) + (115 : Int32).toInt64) - (96 : Int64)) * (32 : Int64)) + (116 : Int32).toInt64) - (96 : Int64))), none]) dX8_spelled_95 (Nat.le_of_ble_eq_true rfl) rfl ?_
            refine mx_iload dX8_spelled_97 rfl ?_
            refine mx_if_le (tgt := 119) dX8_spelled_99 rfl (fun _ => ?_) (fun _ => absurd ‹_› (by decide))
            refine mx_lload dX8_spelled_119 rfl ?_
            refine mx_lretK rfl dX8_spelled_121 ?_
            refine mx_tj (show ((((((((((((((108 : Int32).toInt64 - (96 : Int64)) * (32 : Int64)) + (101 : Int32).toInt64) - (96 : Int64)) * (32 : Int64)) + (97 : Int32).toInt64) - (96 : Int64)) * (32 : Int64)) + (115 : Int32).toInt64) - (96 : Int64)) * (32 : Int64)) + (116 : Int32).toInt64) - (96 : Int64)) = (12748404 : Int64) by decide) ?_
            refine mx_callV 8 (y' := mi_X8_isWord) (vs := [jv (12748404 : Int64)]) (st := []) (al' := [some (rv a0), some (jv (12748404 : Int64)), none]) cl_8 V_X8_isWord (Or.inl q2196) dX8_isLeast_15 rfl rfl (Nat.le_of_ble_eq_true rfl) (Nat.le_of_ble_eq_true rfl) (ly8_k La0_h) ?_
            refine mx_aload_n dX8_isWord_0 rfl rfl ?_
            refine mx_get 8 50 (ref := "PrairiePoolModel") cl_8 (Nat.le_of_ble_eq_true rfl) (Or.inl q1677) (Or.inl rfl) dX8_isWord_1 (fv_8_50 _ _) (ly8_k La0_h) ?_
            refine mx_iconst dX8_isWord_4 ic_1 ?_
            refine mx_icmp_ne (tgt := 21) dX8_isWord_5 rfl (fun q_ => absurd c4 q_) (fun _ => ?_)
            refine mx_aload_n dX8_isWord_8 rfl rfl ?_
            refine mx_get 8 55 (ref := "PrairiePoolModel") cl_8 (Nat.le_of_ble_eq_true rfl) (Or.inl q1682) (Or.inl rfl) dX8_isWord_9 (fv_8_55 _ _) (ly8_k La0_h) ?_
            refine mx_lload_n dX8_isWord_12 rfl rfl ?_
            refine mx_lif_ne (tgt := 21) dX8_isWord_13 dX8_isWord_14 rfl (fun q_ => absurd c34 q_) (fun _ => ?_)
            refine mx_iconst dX8_isWord_17 ic_1 ?_
            refine mx_goto (tgt := 22) dX8_isWord_18 rfl ?_
            refine mx_zretK rfl dX8_isWord_22 (Or.inr rfl) ?_
            refine mx_zretK rfl dX8_isLeast_18 (Or.inr rfl) ?_
            refine mx_if_eq (tgt := 110) dX8_readAtom_102 rfl (fun _ => absurd ‹_› (by decide)) (fun _ => ?_)
            refine mx_bipush dX8_readAtom_105 ib_8 ?_
            refine mx_goto (tgt := 112) dX8_readAtom_107 rfl ?_
            refine mx_callV 8 (y' := mi_X8_readFew) (vs := [iv x1, iv (8 : Int32)]) (st := []) (al' := [some (rv a0), some (iv x1), some (iv (8 : Int32))]) cl_8 V_X8_readFew (Or.inl q2283) dX8_readAtom_112 rfl rfl (Nat.le_of_ble_eq_true rfl) (Nat.le_of_ble_eq_true rfl) (ly8_k La0_h) ?_
            refine ma_kv H (fun h67 Xh67 H => ?_) (fun x1 h1 X1 H => mt_out rfl H)
            have H := H Xh67
            have La0_h67 := La0_h.ext Xh67
            exact mx_vret rfl dX8_readAtom_115 H
      · have H := H.2 c3
        refine mx_aload_n dX8_isSign_8 rfl rfl ?_
        refine mx_get 8 53 (ref := "PrairiePoolModel") cl_8 (Nat.le_of_ble_eq_true rfl) (Or.inl q1680) (Or.inl rfl) dX8_isSign_9 (fv_8_53 _ _) (ly8_k La0_h) ?_
        refine mx_iload_n dX8_isSign_12 rfl rfl ?_
        refine mx_icmp_ne (tgt := 20) dX8_isSign_13 rfl (fun c69 => ?_) (fun c69 => ?_)
        · have H := H.1 c69
          refine mx_iconst dX8_isSign_20 ic_0 ?_
          refine mx_zretK rfl dX8_isSign_21 (Or.inl rfl) ?_
          refine mx_if_eq (tgt := 82) dX8_readAtom_36 rfl (fun _ => ?_) (fun _ => absurd ‹_› (by decide))
          refine mx_aload_n dX8_readAtom_82 rfl rfl ?_
          refine mx_callV 8 (y' := mi_X8_isLeast) (vs := []) (st := []) (al' := [some (rv a0)]) cl_8 V_X8_isLeast (Or.inl q2231) dX8_readAtom_83 rfl rfl (Nat.le_of_ble_eq_true rfl) (Nat.le_of_ble_eq_true rfl) (ly8_k La0_h) ?_
          refine mx_aload_n dX8_isLeast_0 rfl rfl ?_
          refine mx_bipush dX8_isLeast_1 ib_108 ?_
          refine mx_bipush dX8_isLeast_3 ib_101 ?_
          refine mx_bipush dX8_isLeast_5 ib_97 ?_
          refine mx_bipush dX8_isLeast_7 ib_115 ?_
          refine mx_bipush dX8_isLeast_9 ib_116 ?_
          refine mx_iconst dX8_isLeast_11 ic_0 ?_
          refine mx_callS (y' := mi_X8_spelled) (vs := [iv (108 : Int32), iv (101 : Int32), iv (97 : Int32), iv (115 : Int32), iv (116 : Int32), iv (0 : Int32)]) (st := [rv a0]) (al' := [some (iv (108 : Int32)), some (iv (101 : Int32)), some (iv (97 : Int32)), some (iv (115 : Int32)), some (iv (116 : Int32)), some (iv (0 : Int32)), none, none]) S_X8_spelled q2075 dX8_isLeast_12 rfl rfl (Nat.le_of_ble_eq_true rfl) (Nat.le_of_ble_eq_true rfl) ?_
          refine mx_iload_n dX8_spelled_0 rfl rfl ?_
          refine mx_i2l dX8_spelled_1 ?_
          refine mx_ldc2 q2078 dX8_spelled_2 ?_
          refine mx_lsub dX8_spelled_5 ?_
          refine mx_lstore (al' := [some (iv (108 : Int32)), some (iv (101 : Int32)), some (iv (97 : Int32)), some (iv (115 : Int32)), some (iv (116 : Int32)), some (iv (0 : Int32)), some (jv ((108 : Int32).toInt64 - (96 : Int64))), none]) dX8_spelled_6 (Nat.le_of_ble_eq_true rfl) rfl ?_
          refine mx_lload dX8_spelled_8 rfl ?_
          refine mx_ldc2 q2079 dX8_spelled_10 ?_
          refine mx_lmul dX8_spelled_13 ?_
          refine mx_iload_n dX8_spelled_14 rfl rfl ?_
          refine mx_i2l dX8_spelled_15 ?_
          refine mx_ladd dX8_spelled_16 ?_
          refine mx_ldc2 q2078 dX8_spelled_17 ?_
          refine mx_lsub dX8_spelled_20 ?_
          refine mx_lstore (al' := [some (iv (108 : Int32)), some (iv (101 : Int32)), some (iv (97 : Int32)), some (iv (115 : Int32)), some (iv (116 : Int32)), some (iv (0 : Int32)), some (jv (((((108 : Int32).toInt64 - (96 : Int64)) * (32 : Int64)) + (101 : Int32).toInt64) - (96 : Int64))), none]) dX8_spelled_21 (Nat.le_of_ble_eq_true rfl) rfl ?_
          refine mx_iload_n dX8_spelled_23 rfl rfl ?_
          refine mx_if_le (tgt := 43) dX8_spelled_24 rfl (fun _ => absurd ‹_› (by decide)) (fun _ => ?_)
          refine mx_lload dX8_spelled_27 rfl ?_
          refine mx_ldc2 q2079 dX8_spelled_29 ?_
          refine mx_lmul dX8_spelled_32 ?_
          refine mx_iload_n dX8_spelled_33 rfl rfl ?_
          refine mx_i2l dX8_spelled_34 ?_
          refine mx_ladd dX8_spelled_35 ?_
          refine mx_ldc2 q2078 dX8_spelled_36 ?_
          refine mx_lsub dX8_spelled_39 ?_
          refine mx_goto (tgt := 45) dX8_spelled_40 rfl ?_
          refine mx_lstore (al' := [some (iv (108 : Int32)), some (iv (101 : Int32)), some (iv (97 : Int32)), some (iv (115 : Int32)), some (iv (116 : Int32)), some (iv (0 : Int32)), some (jv ((((((((108 : Int32).toInt64 - (96 : Int64)) * (32 : Int64)) + (101 : Int32).toInt64) - (96 : Int64)) * (32 : Int64)) + (97 : Int32).toInt64) - (96 : Int64))), none]) dX8_spelled_45 (Nat.le_of_ble_eq_true rfl) rfl ?_
          refine mx_iload_n dX8_spelled_47 rfl rfl ?_
          refine mx_if_le (tgt := 67) dX8_spelled_48 rfl (fun _ => absurd ‹_› (by decide)) (fun _ => ?_)
          refine mx_lload dX8_spelled_51 rfl ?_
          refine mx_ldc2 q2079 dX8_spelled_53 ?_
          refine mx_lmul dX8_spelled_56 ?_
          refine mx_iload_n dX8_spelled_57 rfl rfl ?_
          refine mx_i2l dX8_spelled_58 ?_
          refine mx_ladd dX8_spelled_59 ?_
          refine mx_ldc2 q2078 dX8_spelled_60 ?_
          refine mx_lsub dX8_spelled_63 ?_
          refine mx_goto (tgt := 69) dX8_spelled_64 rfl ?_
          refine mx_lstore (al' := [some (iv (108 : Int32)), some (iv (101 : Int32)), some (iv (97 : Int32)), some (iv (115 : Int32)), some (iv (116 : Int32)), some (iv (0 : Int32)), some (jv (((((((((((108 : Int32).toInt64 - (96 : Int64)) * (32 : Int64)) + (101 : Int32).toInt64) - (96 : Int64)) * (32 : Int64)) + (97 : Int32).toInt64) - (96 : Int64)) * (32 : Int64)) + (115 : Int32).toInt64) - (96 : Int64))), none]) dX8_spelled_69 (Nat.le_of_ble_eq_true rfl) rfl ?_
          refine mx_iload dX8_spelled_71 rfl ?_
          refine mx_if_le (tgt := 93) dX8_spelled_73 rfl (fun _ => absurd ‹_› (by decide)) (fun _ => ?_)
          refine mx_lload dX8_spelled_76 rfl ?_
          refine mx_ldc2 q2079 dX8_spelled_78 ?_
          refine mx_lmul dX8_spelled_81 ?_
          refine mx_iload dX8_spelled_82 rfl ?_
          refine mx_i2l dX8_spelled_84 ?_
          refine mx_ladd dX8_spelled_85 ?_
          refine mx_ldc2 q2078 dX8_spelled_86 ?_
          refine mx_lsub dX8_spelled_89 ?_
          refine mx_goto (tgt := 95) dX8_spelled_90 rfl ?_
          refine mx_lstore (al' := [some (iv (108 : Int32)), some (iv (101 : Int32)), some (iv (97 : Int32)), some (iv (115 : Int32)), some (iv (116 : Int32)), some (iv (0 : Int32)), some (jv ((((((((((((((108 : Int32).toInt64 - (96 : Int64)) * (32 : Int64)) + (101 : Int32).toInt64) - (96 : Int64)) * (32 : Int64)) + (97 : Int32).toInt64) - (96 : Int64)) * (32 : Int64)) + (115 : Int32).toInt64) - (96 : Int64)) * (32 : Int64)) + (116 : Int32).toInt64) - (96 : Int64))), none]) dX8_spelled_95 (Nat.le_of_ble_eq_true rfl) rfl ?_
          refine mx_iload dX8_spelled_97 rfl ?_
          refine mx_if_le (tgt := 119) dX8_spelled_99 rfl (fun _ => ?_) (fun _ => absurd ‹_› (by decide))
          refine mx_lload dX8_spelled_119 rfl ?_
          refine mx_lretK rfl dX8_spelled_121 ?_
          refine mx_tj (show ((((((((((((((108 : Int32).toInt64 - (96 : Int64)) * (32 : Int64)) + (101 : Int32).toInt64) - (96 : Int64)) * (32 : Int64)) + (97 : Int32).toInt64) - (96 : Int64)) * (32 : Int64)) + (115 : Int32).toInt64) - (96 : Int64)) * (32 : Int64)) + (116 : Int32).toInt64) - (96 : Int64)) = (12748404 : Int64) by decide) ?_
          refine mx_callV 8 (y' := mi_X8_isWord) (vs := [jv (12748404 : Int64)]) (st := []) (al' := [some (rv a0), some (jv (12748404 : Int64)), none]) cl_8 V_X8_isWord (Or.inl q2196) dX8_isLeast_15 rfl rfl (Nat.le_of_ble_eq_true rfl) (Nat.le_of_ble_eq_true rfl) (ly8_k La0_h) ?_
          refine mx_aload_n dX8_isWord_0 rfl rfl ?_
          refine mx_get 8 50 (ref := "PrairiePoolModel") cl_8 (Nat.le_of_ble_eq_true rfl) (Or.inl q1677) (Or.inl rfl) dX8_isWord_1 (fv_8_50 _ _) (ly8_k La0_h) ?_
          refine mx_iconst dX8_isWord_4 ic_1 ?_
          refine mx_icmp_ne (tgt := 21) dX8_isWord_5 rfl (fun c70 => ?_) (fun c70 => ?_)
          · have H := H.1 c70
            refine mx_iconst dX8_isWord_21 ic_0 ?_
            refine mx_zretK rfl dX8_isWord_22 (Or.inl rfl) ?_
            refine mx_zretK rfl dX8_isLeast_18 (Or.inl rfl) ?_
            refine mx_if_ne (tgt := 96) dX8_readAtom_86 rfl (fun _ => absurd ‹_› (by decide)) (fun _ => ?_)
            refine mx_aload_n dX8_readAtom_89 rfl rfl ?_
            refine mx_callV 8 (y' := mi_X8_isMost) (vs := []) (st := []) (al' := [some (rv a0)]) cl_8 V_X8_isMost (Or.inl q2235) dX8_readAtom_90 rfl rfl (Nat.le_of_ble_eq_true rfl) (Nat.le_of_ble_eq_true rfl) (ly8_k La0_h) ?_
            refine mx_aload_n dX8_isMost_0 rfl rfl ?_
            refine mx_bipush dX8_isMost_1 ib_109 ?_
            refine mx_bipush dX8_isMost_3 ib_111 ?_
            refine mx_bipush dX8_isMost_5 ib_115 ?_
            refine mx_bipush dX8_isMost_7 ib_116 ?_
            refine mx_iconst dX8_isMost_9 ic_0 ?_
            refine mx_iconst dX8_isMost_10 ic_0 ?_
            refine mx_callS (y' := mi_X8_spelled) (vs := [iv (109 : Int32), iv (111 : Int32), iv (115 : Int32), iv (116 : Int32), iv (0 : Int32), iv (0 : Int32)]) (st := [rv a0]) (al' := [some (iv (109 : Int32)), some (iv (111 : Int32)), some (iv (115 : Int32)), some (iv (116 : Int32)), some (iv (0 : Int32)), some (iv (0 : Int32)), none, none]) S_X8_spelled q2075 dX8_isMost_11 rfl rfl (Nat.le_of_ble_eq_true rfl) (Nat.le_of_ble_eq_true rfl) ?_
            refine mx_iload_n dX8_spelled_0 rfl rfl ?_
            refine mx_i2l dX8_spelled_1 ?_
            refine mx_ldc2 q2078 dX8_spelled_2 ?_
            refine mx_lsub dX8_spelled_5 ?_
            refine mx_lstore (al' := [some (iv (109 : Int32)), some (iv (111 : Int32)), some (iv (115 : Int32)), some (iv (116 : Int32)), some (iv (0 : Int32)), some (iv (0 : Int32)), some (jv ((109 : Int32).toInt64 - (96 : Int64))), none]) dX8_spelled_6 (Nat.le_of_ble_eq_true rfl) rfl ?_
            refine mx_lload dX8_spelled_8 rfl ?_
            refine mx_ldc2 q2079 dX8_spelled_10 ?_
            refine mx_lmul dX8_spelled_13 ?_
            refine mx_iload_n dX8_spelled_14 rfl rfl ?_
            refine mx_i2l dX8_spelled_15 ?_
            refine mx_ladd dX8_spelled_16 ?_
            refine mx_ldc2 q2078 dX8_spelled_17 ?_
            refine mx_lsub dX8_spelled_20 ?_
            refine mx_lstore (al' := [some (iv (109 : Int32)), some (iv (111 : Int32)), some (iv (115 : Int32)), some (iv (116 : Int32)), some (iv (0 : Int32)), some (iv (0 : Int32)), some (jv (((((109 : Int32).toInt64 - (96 : Int64)) * (32 : Int64)) + (111 : Int32).toInt64) - (96 : Int64))), none]) dX8_spelled_21 (Nat.le_of_ble_eq_true rfl) rfl ?_
            refine mx_iload_n dX8_spelled_23 rfl rfl ?_
            refine mx_if_le (tgt := 43) dX8_spelled_24 rfl (fun _ => absurd ‹_› (by decide)) (fun _ => ?_)
            refine mx_lload dX8_spelled_27 rfl ?_
            refine mx_ldc2 q2079 dX8_spelled_29 ?_
            refine mx_lmul dX8_spelled_32 ?_
            refine mx_iload_n dX8_spelled_33 rfl rfl ?_
            refine mx_i2l dX8_spelled_34 ?_
            refine mx_ladd dX8_spelled_35 ?_
            refine mx_ldc2 q2078 dX8_spelled_36 ?_
            refine mx_lsub dX8_spelled_39 ?_
            refine mx_goto (tgt := 45) dX8_spelled_40 rfl ?_
            refine mx_lstore (al' := [some (iv (109 : Int32)), some (iv (111 : Int32)), some (iv (115 : Int32)), some (iv (116 : Int32)), some (iv (0 : Int32)), some (iv (0 : Int32)), some (jv ((((((((109 : Int32).toInt64 - (96 : Int64)) * (32 : Int64)) + (111 : Int32).toInt64) - (96 : Int64)) * (32 : Int64)) + (115 : Int32).toInt64) - (96 : Int64))), none]) dX8_spelled_45 (Nat.le_of_ble_eq_true rfl) rfl ?_
            refine mx_iload_n dX8_spelled_47 rfl rfl ?_
            refine mx_if_le (tgt := 67) dX8_spelled_48 rfl (fun _ => absurd ‹_› (by decide)) (fun _ => ?_)
            refine mx_lload dX8_spelled_51 rfl ?_
            refine mx_ldc2 q2079 dX8_spelled_53 ?_
            refine mx_lmul dX8_spelled_56 ?_
            refine mx_iload_n dX8_spelled_57 rfl rfl ?_
            refine mx_i2l dX8_spelled_58 ?_
            refine mx_ladd dX8_spelled_59 ?_
            refine mx_ldc2 q2078 dX8_spelled_60 ?_
            refine mx_lsub dX8_spelled_63 ?_
            refine mx_goto (tgt := 69) dX8_spelled_64 rfl ?_
            refine mx_lstore (al' := [some (iv (109 : Int32)), some (iv (111 : Int32)), some (iv (115 : Int32)), some (iv (116 : Int32)), some (iv (0 : Int32)), some (iv (0 : Int32)), some (jv (((((((((((109 : Int32).toInt64 - (96 : Int64)) * (32 : Int64)) + (111 : Int32).toInt64) - (96 : Int64)) * (32 : Int64)) + (115 : Int32).toInt64) - (96 : Int64)) * (32 : Int64)) + (116 : Int32).toInt64) - (96 : Int64))), none]) dX8_spelled_69 (Nat.le_of_ble_eq_true rfl) rfl ?_
            refine mx_iload dX8_spelled_71 rfl ?_
            refine mx_if_le (tgt := 93) dX8_spelled_73 rfl (fun _ => ?_) (fun _ => absurd ‹_› (by decide))
            refine mx_lload dX8_spelled_93 rfl ?_
            refine mx_lstore (al' := [some (iv (109 : Int32)), some (iv (111 : Int32)), some (iv (115 : Int32)), some (iv (116 : Int32)), some (iv (0 : Int32)), some (iv (0 : Int32)), some (jv (((((((((((109 : Int32).toInt64 - (96 : Int64)) * (32 : Int64)) + (111 : Int32).toInt64) - (96 : Int64)) * (32 : Int64)) + (115 : Int32).toInt64) - (96 : Int64)) * (32 : Int64)) + (116 : Int32).toInt64) - (96 : Int64))), none]) dX8_spelled_95 (Nat.le_of_ble_eq_true rfl) rfl ?_
            refine mx_iload dX8_spelled_97 rfl ?_
            refine mx_if_le (tgt := 119) dX8_spelled_99 rfl (fun _ => ?_) (fun _ => absurd ‹_› (by decide))
            refine mx_lload dX8_spelled_119 rfl ?_
            refine mx_lretK rfl dX8_spelled_121 ?_
            refine mx_tj (show (((((((((((109 : Int32).toInt64 - (96 : Int64)) * (32 : Int64)) + (111 : Int32).toInt64) - (96 : Int64)) * (32 : Int64)) + (115 : Int32).toInt64) - (96 : Int64)) * (32 : Int64)) + (116 : Int32).toInt64) - (96 : Int64)) = (441972 : Int64) by decide) ?_
            refine mx_callV 8 (y' := mi_X8_isWord) (vs := [jv (441972 : Int64)]) (st := []) (al' := [some (rv a0), some (jv (441972 : Int64)), none]) cl_8 V_X8_isWord (Or.inl q2196) dX8_isMost_14 rfl rfl (Nat.le_of_ble_eq_true rfl) (Nat.le_of_ble_eq_true rfl) (ly8_k La0_h) ?_
            refine mx_aload_n dX8_isWord_0 rfl rfl ?_
            refine mx_get 8 50 (ref := "PrairiePoolModel") cl_8 (Nat.le_of_ble_eq_true rfl) (Or.inl q1677) (Or.inl rfl) dX8_isWord_1 (fv_8_50 _ _) (ly8_k La0_h) ?_
            refine mx_iconst dX8_isWord_4 ic_1 ?_
            refine mx_icmp_ne (tgt := 21) dX8_isWord_5 rfl (fun _ => ?_) (fun q_ => absurd q_ c70)
            refine mx_iconst dX8_isWord_21 ic_0 ?_
            refine mx_zretK rfl dX8_isWord_22 (Or.inl rfl) ?_
            refine mx_zretK rfl dX8_isMost_17 (Or.inl rfl) ?_
            refine mx_if_eq (tgt := 116) dX8_readAtom_93 rfl (fun _ => ?_) (fun _ => absurd ‹_› (by decide))
            refine mx_aload_n dX8_readAtom_116 rfl rfl ?_
            refine mx_callV 8 (y' := mi_X8_variable) (vs := []) (st := []) (al' := [some (rv a0)]) cl_8 V_X8_variable (Or.inl q2192) dX8_readAtom_117 rfl rfl (Nat.le_of_ble_eq_true rfl) (Nat.le_of_ble_eq_true rfl) (ly8_k La0_h) ?_
            refine ma_ki H (fun r72 h71 Xh71 H => ?_) (fun x1 h1 X1 H => mt_out rfl H)
            have H := H Xh71
            have La0_h71 := La0_h.ext Xh71
            refine mx_istore_n (al' := [some (rv a0), some (iv x1), some (iv r72), none]) dX8_readAtom_120 rfl (Nat.le_of_ble_eq_true rfl) rfl ?_
            refine mx_aload_n dX8_readAtom_121 rfl rfl ?_
            refine mx_callV 8 (y' := mi_X8_named) (vs := []) (st := []) (al' := [some (rv a0), none]) cl_8 V_X8_named (Or.inl q2247) dX8_readAtom_122 rfl rfl (Nat.le_of_ble_eq_true rfl) (Nat.le_of_ble_eq_true rfl) (ly8_k La0_h71) ?_
            refine ma_ki H (fun r74 h73 Xh73 H => ?_) (fun x1 h1 X1 H => mt_out rfl H)
            have H := H Xh73
            have La0_h73 := La0_h71.ext Xh73
            refine mx_istore_n (al' := [some (rv a0), some (iv x1), some (iv r72), some (iv r74)]) dX8_readAtom_125 rfl (Nat.le_of_ble_eq_true rfl) rfl ?_
            refine mx_iload_n dX8_readAtom_126 rfl rfl ?_
            refine mx_if_ge (tgt := 164) dX8_readAtom_127 rfl (fun c75 => ?_) (fun c75 => ?_)
            · have H := H.1 c75
              exact mx_weak (al' := [some (rv a0), none, some (iv r72), some (iv r74)]) ⟨rfl, ⟨rfl, ⟨rfl, trivial⟩⟩⟩ H
            · have H := H.2 c75
              refine mx_iload_n dX8_readAtom_130 rfl rfl ?_
              refine mx_if_ge (tgt := 164) dX8_readAtom_131 rfl (fun c76 => ?_) (fun c76 => ?_)
              · have H := H.1 c76
                exact mx_weak (al' := [some (rv a0), none, some (iv r72), some (iv r74)]) ⟨rfl, ⟨rfl, ⟨rfl, trivial⟩⟩⟩ H
              · have H := H.2 c76
                refine mx_aload_n dX8_readAtom_134 rfl rfl ?_
                refine mx_get 8 50 (ref := "PrairiePoolModel") cl_8 (Nat.le_of_ble_eq_true rfl) (Or.inl q1677) (Or.inl rfl) dX8_readAtom_135 (fv_8_50 _ _) (ly8_k La0_h73) ?_
                refine mx_iconst dX8_readAtom_138 ic_1 ?_
                refine mx_icmp_ne (tgt := 159) dX8_readAtom_139 rfl (fun c77 => ?_) (fun c77 => ?_)
                · have H := H.1 c77
                  refine mx_aload_n dX8_readAtom_159 rfl rfl ?_
                  refine mx_callV 8 (y' := mi_X8_wrong) (vs := []) (st := []) (al' := [some (rv a0)]) cl_8 V_X8_wrong (Or.inl q2239) dX8_readAtom_160 rfl rfl (Nat.le_of_ble_eq_true rfl) (Nat.le_of_ble_eq_true rfl) (ly8_k La0_h73) ?_
                  refine mx_aload_n dX8_wrong_0 rfl rfl ?_
                  refine mx_aload_n dX8_wrong_1 rfl rfl ?_
                  refine mx_get 8 50 (ref := "PrairiePoolModel") cl_8 (Nat.le_of_ble_eq_true rfl) (Or.inl q1677) (Or.inl rfl) dX8_wrong_2 (fv_8_50 _ _) (ly8_k La0_h73) ?_
                  refine mx_iconst dX8_wrong_5 ic_4 ?_
                  refine mx_icmp_ne (tgt := 13) dX8_wrong_6 rfl (fun c78 => ?_) (fun c78 => ?_)
                  · have H := H.1 c78
                    refine mx_iconst dX8_wrong_13 ic_2 ?_
                    refine mx_aload_n dX8_wrong_14 rfl rfl ?_
                    refine mx_get 8 51 (ref := "PrairiePoolModel") cl_8 (Nat.le_of_ble_eq_true rfl) (Or.inl q1678) (Or.inl rfl) dX8_wrong_15 (fv_8_51 _ _) (ly8_k La0_h73) ?_
                    refine mx_callV 8 (y' := mi_X8_fail) (vs := [iv (2 : Int32), iv (ah_I h73 a0 51)]) (st := []) (al' := [some (rv a0), some (iv (2 : Int32)), some (iv (ah_I h73 a0 51))]) cl_8 V_X8_fail (Or.inl q2243) dX8_wrong_18 rfl rfl (Nat.le_of_ble_eq_true rfl) (Nat.le_of_ble_eq_true rfl) (ly8_k La0_h73) ?_
                    refine mx_aload_n dX8_fail_0 rfl rfl ?_
                    refine mx_get 8 48 (ref := "PrairiePoolModel") cl_8 (Nat.le_of_ble_eq_true rfl) (Or.inl q1675) (Or.inl rfl) dX8_fail_1 (fv_8_48 _ _) (ly8_k La0_h73) ?_
                    refine mx_if_le (tgt := 8) dX8_fail_4 rfl (fun c79 => ?_) (fun c79 => ?_)
                    · have H := H.1 c79
                      refine mx_aload_n dX8_fail_8 rfl rfl ?_
                      refine mx_iload_n dX8_fail_9 rfl rfl ?_
                      refine mx_putI 8 48 (ref := "PrairiePoolModel") cl_8 (Nat.le_of_ble_eq_true rfl) (Or.inl q1675) (Or.inl rfl) dX8_fail_10 (Or.inl rfl) rfl (ly8_k La0_h73) ?_
                      refine mx_nmI  (fun h80 eh80 Xh80 Kh80 Lh80 => ?_)
                      have H := H h80 eh80 Xh80
                      have La0_h80 := La0_h73.ext Xh80
                      refine mx_aload_n dX8_fail_13 rfl rfl ?_
                      refine mx_iload_n dX8_fail_14 rfl rfl ?_
                      refine mx_putI 8 49 (ref := "PrairiePoolModel") cl_8 (Nat.le_of_ble_eq_true rfl) (Or.inl q1676) (Or.inl rfl) dX8_fail_15 (Or.inl rfl) rfl (ly8_k La0_h80) ?_
                      refine mx_nmI  (fun h81 eh81 Xh81 Kh81 Lh81 => ?_)
                      have H := H h81 eh81 Xh81
                      have Kh81 := Kh81.trans Kh80
                      have Lh81 := Lh81.trans Lh80
                      have La0_h81 := La0_h80.ext Xh81
                      refine mx_vretK rfl dX8_fail_18 ?_
                      refine mx_vretK rfl dX8_wrong_21 ?_
                      exact mx_vret rfl dX8_readAtom_163 H
                    · have H := H.2 c79
                      refine mx_vretK rfl dX8_fail_7 ?_
                      refine mx_vretK rfl dX8_wrong_21 ?_
                      exact mx_vret rfl dX8_readAtom_163 H
                  · have H := H.2 c78
                    refine mx_iconst dX8_wrong_9 ic_1 ?_
                    refine mx_goto (tgt := 14) dX8_wrong_10 rfl ?_
                    refine mx_aload_n dX8_wrong_14 rfl rfl ?_
                    refine mx_get 8 51 (ref := "PrairiePoolModel") cl_8 (Nat.le_of_ble_eq_true rfl) (Or.inl q1678) (Or.inl rfl) dX8_wrong_15 (fv_8_51 _ _) (ly8_k La0_h73) ?_
                    refine mx_callV 8 (y' := mi_X8_fail) (vs := [iv (1 : Int32), iv (ah_I h73 a0 51)]) (st := []) (al' := [some (rv a0), some (iv (1 : Int32)), some (iv (ah_I h73 a0 51))]) cl_8 V_X8_fail (Or.inl q2243) dX8_wrong_18 rfl rfl (Nat.le_of_ble_eq_true rfl) (Nat.le_of_ble_eq_true rfl) (ly8_k La0_h73) ?_
                    refine mx_aload_n dX8_fail_0 rfl rfl ?_
                    refine mx_get 8 48 (ref := "PrairiePoolModel") cl_8 (Nat.le_of_ble_eq_true rfl) (Or.inl q1675) (Or.inl rfl) dX8_fail_1 (fv_8_48 _ _) (ly8_k La0_h73) ?_
                    refine mx_if_le (tgt := 8) dX8_fail_4 rfl (fun c82 => ?_) (fun c82 => ?_)
                    · have H := H.1 c82
                      refine mx_aload_n dX8_fail_8 rfl rfl ?_
                      refine mx_iload_n dX8_fail_9 rfl rfl ?_
                      refine mx_putI 8 48 (ref := "PrairiePoolModel") cl_8 (Nat.le_of_ble_eq_true rfl) (Or.inl q1675) (Or.inl rfl) dX8_fail_10 (Or.inl rfl) rfl (ly8_k La0_h73) ?_
                      refine mx_nmI  (fun h83 eh83 Xh83 Kh83 Lh83 => ?_)
                      have H := H h83 eh83 Xh83
                      have La0_h83 := La0_h73.ext Xh83
                      refine mx_aload_n dX8_fail_13 rfl rfl ?_
                      refine mx_iload_n dX8_fail_14 rfl rfl ?_
                      refine mx_putI 8 49 (ref := "PrairiePoolModel") cl_8 (Nat.le_of_ble_eq_true rfl) (Or.inl q1676) (Or.inl rfl) dX8_fail_15 (Or.inl rfl) rfl (ly8_k La0_h83) ?_
                      refine mx_nmI  (fun h84 eh84 Xh84 Kh84 Lh84 => ?_)
                      have H := H h84 eh84 Xh84
                      have Kh84 := Kh84.trans Kh83
                      have Lh84 := Lh84.trans Lh83
                      have La0_h84 := La0_h83.ext Xh84
                      refine mx_vretK rfl dX8_fail_18 ?_
                      refine mx_vretK rfl dX8_wrong_21 ?_
                      exact mx_vret rfl dX8_readAtom_163 H
                    · have H := H.2 c82
                      refine mx_vretK rfl dX8_fail_7 ?_
                      refine mx_vretK rfl dX8_wrong_21 ?_
                      exact mx_vret rfl dX8_readAtom_163 H
                · have H := H.2 c77
                  refine mx_aload_n dX8_readAtom_142 rfl rfl ?_
                  refine mx_callV 8 (y' := mi_X8_isKept) (vs := []) (st := []) (al' := [some (rv a0)]) cl_8 V_X8_isKept (Or.inl q2203) dX8_readAtom_143 rfl rfl (Nat.le_of_ble_eq_true rfl) (Nat.le_of_ble_eq_true rfl) (ly8_k La0_h73) ?_
                  refine ma_ki H (fun r86 h85 Xh85 H => ?_) (fun x1 h1 X1 H => mt_out rfl H)
                  have H := H Xh85
                  have La0_h85 := La0_h73.ext Xh85
                  refine mx_if_ne (tgt := 159) dX8_readAtom_146 rfl (fun c87 => ?_) (fun c87 => ?_)
                  · have H := H.1 c87
                    refine mx_aload_n dX8_readAtom_159 rfl rfl ?_
                    refine mx_callV 8 (y' := mi_X8_wrong) (vs := []) (st := []) (al' := [some (rv a0)]) cl_8 V_X8_wrong (Or.inl q2239) dX8_readAtom_160 rfl rfl (Nat.le_of_ble_eq_true rfl) (Nat.le_of_ble_eq_true rfl) (ly8_k La0_h85) ?_
                    refine mx_aload_n dX8_wrong_0 rfl rfl ?_
                    refine mx_aload_n dX8_wrong_1 rfl rfl ?_
                    refine mx_get 8 50 (ref := "PrairiePoolModel") cl_8 (Nat.le_of_ble_eq_true rfl) (Or.inl q1677) (Or.inl rfl) dX8_wrong_2 (fv_8_50 _ _) (ly8_k La0_h85) ?_
                    refine mx_iconst dX8_wrong_5 ic_4 ?_
                    refine mx_icmp_ne (tgt := 13) dX8_wrong_6 rfl (fun c88 => ?_) (fun c88 => ?_)
                    · have H := H.1 c88
                      refine mx_iconst dX8_wrong_13 ic_2 ?_
                      refine mx_aload_n dX8_wrong_14 rfl rfl ?_
                      refine mx_get 8 51 (ref := "PrairiePoolModel") cl_8 (Nat.le_of_ble_eq_true rfl) (Or.inl q1678) (Or.inl rfl) dX8_wrong_15 (fv_8_51 _ _) (ly8_k La0_h85) ?_
                      refine mx_callV 8 (y' := mi_X8_fail) (vs := [iv (2 : Int32), iv (ah_I h85 a0 51)]) (st := []) (al' := [some (rv a0), some (iv (2 : Int32)), some (iv (ah_I h85 a0 51))]) cl_8 V_X8_fail (Or.inl q2243) dX8_wrong_18 rfl rfl (Nat.le_of_ble_eq_true rfl) (Nat.le_of_ble_eq_true rfl) (ly8_k La0_h85) ?_
                      refine mx_aload_n dX8_fail_0 rfl rfl ?_
                      refine mx_get 8 48 (ref := "PrairiePoolModel") cl_8 (Nat.le_of_ble_eq_true rfl) (Or.inl q1675) (Or.inl rfl) dX8_fail_1 (fv_8_48 _ _) (ly8_k La0_h85) ?_
                      refine mx_if_le (tgt := 8) dX8_fail_4 rfl (fun c89 => ?_) (fun c89 => ?_)
                      · have H := H.1 c89
                        refine mx_aload_n dX8_fail_8 rfl rfl ?_
                        refine mx_iload_n dX8_fail_9 rfl rfl ?_
                        refine mx_putI 8 48 (ref := "PrairiePoolModel") cl_8 (Nat.le_of_ble_eq_true rfl) (Or.inl q1675) (Or.inl rfl) dX8_fail_10 (Or.inl rfl) rfl (ly8_k La0_h85) ?_
                        refine mx_nmI  (fun h90 eh90 Xh90 Kh90 Lh90 => ?_)
                        have H := H h90 eh90 Xh90
                        have La0_h90 := La0_h85.ext Xh90
                        refine mx_aload_n dX8_fail_13 rfl rfl ?_
                        refine mx_iload_n dX8_fail_14 rfl rfl ?_
                        refine mx_putI 8 49 (ref := "PrairiePoolModel") cl_8 (Nat.le_of_ble_eq_true rfl) (Or.inl q1676) (Or.inl rfl) dX8_fail_15 (Or.inl rfl) rfl (ly8_k La0_h90) ?_
                        refine mx_nmI  (fun h91 eh91 Xh91 Kh91 Lh91 => ?_)
                        have H := H h91 eh91 Xh91
                        have Kh91 := Kh91.trans Kh90
                        have Lh91 := Lh91.trans Lh90
                        have La0_h91 := La0_h90.ext Xh91
                        refine mx_vretK rfl dX8_fail_18 ?_
                        refine mx_vretK rfl dX8_wrong_21 ?_
                        exact mx_vret rfl dX8_readAtom_163 H
                      · have H := H.2 c89
                        refine mx_vretK rfl dX8_fail_7 ?_
                        refine mx_vretK rfl dX8_wrong_21 ?_
                        exact mx_vret rfl dX8_readAtom_163 H
                    · have H := H.2 c88
                      refine mx_iconst dX8_wrong_9 ic_1 ?_
                      refine mx_goto (tgt := 14) dX8_wrong_10 rfl ?_
                      refine mx_aload_n dX8_wrong_14 rfl rfl ?_
                      refine mx_get 8 51 (ref := "PrairiePoolModel") cl_8 (Nat.le_of_ble_eq_true rfl) (Or.inl q1678) (Or.inl rfl) dX8_wrong_15 (fv_8_51 _ _) (ly8_k La0_h85) ?_
                      refine mx_callV 8 (y' := mi_X8_fail) (vs := [iv (1 : Int32), iv (ah_I h85 a0 51)]) (st := []) (al' := [some (rv a0), some (iv (1 : Int32)), some (iv (ah_I h85 a0 51))]) cl_8 V_X8_fail (Or.inl q2243) dX8_wrong_18 rfl rfl (Nat.le_of_ble_eq_true rfl) (Nat.le_of_ble_eq_true rfl) (ly8_k La0_h85) ?_
                      refine mx_aload_n dX8_fail_0 rfl rfl ?_
                      refine mx_get 8 48 (ref := "PrairiePoolModel") cl_8 (Nat.le_of_ble_eq_true rfl) (Or.inl q1675) (Or.inl rfl) dX8_fail_1 (fv_8_48 _ _) (ly8_k La0_h85) ?_
                      refine mx_if_le (tgt := 8) dX8_fail_4 rfl (fun c92 => ?_) (fun c92 => ?_)
                      · have H := H.1 c92
                        refine mx_aload_n dX8_fail_8 rfl rfl ?_
                        refine mx_iload_n dX8_fail_9 rfl rfl ?_
                        refine mx_putI 8 48 (ref := "PrairiePoolModel") cl_8 (Nat.le_of_ble_eq_true rfl) (Or.inl q1675) (Or.inl rfl) dX8_fail_10 (Or.inl rfl) rfl (ly8_k La0_h85) ?_
                        refine mx_nmI  (fun h93 eh93 Xh93 Kh93 Lh93 => ?_)
                        have H := H h93 eh93 Xh93
                        have La0_h93 := La0_h85.ext Xh93
                        refine mx_aload_n dX8_fail_13 rfl rfl ?_
                        refine mx_iload_n dX8_fail_14 rfl rfl ?_
                        refine mx_putI 8 49 (ref := "PrairiePoolModel") cl_8 (Nat.le_of_ble_eq_true rfl) (Or.inl q1676) (Or.inl rfl) dX8_fail_15 (Or.inl rfl) rfl (ly8_k La0_h93) ?_
                        refine mx_nmI  (fun h94 eh94 Xh94 Kh94 Lh94 => ?_)
                        have H := H h94 eh94 Xh94
                        have Kh94 := Kh94.trans Kh93
                        have Lh94 := Lh94.trans Lh93
                        have La0_h94 := La0_h93.ext Xh94
                        refine mx_vretK rfl dX8_fail_18 ?_
                        refine mx_vretK rfl dX8_wrong_21 ?_
                        exact mx_vret rfl dX8_readAtom_163 H
                      · have H := H.2 c92
                        refine mx_vretK rfl dX8_fail_7 ?_
                        refine mx_vretK rfl dX8_wrong_21 ?_
                        exact mx_vret rfl dX8_readAtom_163 H
                  · have H := H.2 c87
                    refine mx_aload_n dX8_readAtom_149 rfl rfl ?_
                    refine mx_bipush dX8_readAtom_150 ib_6 ?_
                    refine mx_aload_n dX8_readAtom_152 rfl rfl ?_
                    refine mx_get 8 51 (ref := "PrairiePoolModel") cl_8 (Nat.le_of_ble_eq_true rfl) (Or.inl q1678) (Or.inl rfl) dX8_readAtom_153 (fv_8_51 _ _) (ly8_k La0_h85) ?_
                    refine mx_callV 8 (y' := mi_X8_fail) (vs := [iv (6 : Int32), iv (ah_I h85 a0 51)]) (st := []) (al' := [some (rv a0), some (iv (6 : Int32)), some (iv (ah_I h85 a0 51))]) cl_8 V_X8_fail (Or.inl q2243) dX8_readAtom_156 rfl rfl (Nat.le_of_ble_eq_true rfl) (Nat.le_of_ble_eq_true rfl) (ly8_k La0_h85) ?_
                    refine mx_aload_n dX8_fail_0 rfl rfl ?_
                    refine mx_get 8 48 (ref := "PrairiePoolModel") cl_8 (Nat.le_of_ble_eq_true rfl) (Or.inl q1675) (Or.inl rfl) dX8_fail_1 (fv_8_48 _ _) (ly8_k La0_h85) ?_
                    refine mx_if_le (tgt := 8) dX8_fail_4 rfl (fun c95 => ?_) (fun c95 => ?_)
                    · have H := H.1 c95
                      refine mx_aload_n dX8_fail_8 rfl rfl ?_
                      refine mx_iload_n dX8_fail_9 rfl rfl ?_
                      refine mx_putI 8 48 (ref := "PrairiePoolModel") cl_8 (Nat.le_of_ble_eq_true rfl) (Or.inl q1675) (Or.inl rfl) dX8_fail_10 (Or.inl rfl) rfl (ly8_k La0_h85) ?_
                      refine mx_nmI  (fun h96 eh96 Xh96 Kh96 Lh96 => ?_)
                      have H := H h96 eh96 Xh96
                      have La0_h96 := La0_h85.ext Xh96
                      refine mx_aload_n dX8_fail_13 rfl rfl ?_
                      refine mx_iload_n dX8_fail_14 rfl rfl ?_
                      refine mx_putI 8 49 (ref := "PrairiePoolModel") cl_8 (Nat.le_of_ble_eq_true rfl) (Or.inl q1676) (Or.inl rfl) dX8_fail_15 (Or.inl rfl) rfl (ly8_k La0_h96) ?_
                      refine mx_nmI  (fun h97 eh97 Xh97 Kh97 Lh97 => ?_)
                      have H := H h97 eh97 Xh97
                      have Kh97 := Kh97.trans Kh96
                      have Lh97 := Lh97.trans Lh96
                      have La0_h97 := La0_h96.ext Xh97
                      refine mx_vretK rfl dX8_fail_18 ?_
                      refine mx_aload_n dX8_readAtom_159 rfl rfl ?_
                      refine mx_callV 8 (y' := mi_X8_wrong) (vs := []) (st := []) (al' := [some (rv a0)]) cl_8 V_X8_wrong (Or.inl q2239) dX8_readAtom_160 rfl rfl (Nat.le_of_ble_eq_true rfl) (Nat.le_of_ble_eq_true rfl) (ly8_k La0_h97) ?_
                      refine mx_aload_n dX8_wrong_0 rfl rfl ?_
                      refine mx_aload_n dX8_wrong_1 rfl rfl ?_
                      refine mx_get 8 50 (ref := "PrairiePoolModel") cl_8 (Nat.le_of_ble_eq_true rfl) (Or.inl q1677) (Or.inl rfl) dX8_wrong_2 (fv_8_50 _ _) (ly8_k La0_h97) ?_
                      refine mx_ti ((ah_skIK eh97 (by decide)).trans (ah_skIK eh96 (by decide))) ?_
                      refine mx_iconst dX8_wrong_5 ic_4 ?_
                      refine mx_icmp_ne (tgt := 13) dX8_wrong_6 rfl (fun c98 => ?_) (fun c98 => ?_)
                      · have H := H.1 c98
                        refine mx_iconst dX8_wrong_13 ic_2 ?_
                        refine mx_aload_n dX8_wrong_14 rfl rfl ?_
                        refine mx_get 8 51 (ref := "PrairiePoolModel") cl_8 (Nat.le_of_ble_eq_true rfl) (Or.inl q1678) (Or.inl rfl) dX8_wrong_15 (fv_8_51 _ _) (ly8_k La0_h97) ?_
                        refine mx_ti ((ah_skIK eh97 (by decide)).trans (ah_skIK eh96 (by decide))) ?_
                        refine mx_callV 8 (y' := mi_X8_fail) (vs := [iv (2 : Int32), iv (ah_I h85 a0 51)]) (st := []) (al' := [some (rv a0), some (iv (2 : Int32)), some (iv (ah_I h85 a0 51))]) cl_8 V_X8_fail (Or.inl q2243) dX8_wrong_18 rfl rfl (Nat.le_of_ble_eq_true rfl) (Nat.le_of_ble_eq_true rfl) (ly8_k La0_h97) ?_
                        refine mx_aload_n dX8_fail_0 rfl rfl ?_
                        refine mx_get 8 48 (ref := "PrairiePoolModel") cl_8 (Nat.le_of_ble_eq_true rfl) (Or.inl q1675) (Or.inl rfl) dX8_fail_1 (fv_8_48 _ _) (ly8_k La0_h97) ?_
                        refine mx_ti ((ah_skIK eh97 (by decide)).trans (ah_hitI eh96)) ?_
                        refine mx_if_le (tgt := 8) dX8_fail_4 rfl (fun _ => absurd ‹_› (by decide)) (fun _ => ?_)
                        refine mx_vretK rfl dX8_fail_7 ?_
                        refine mx_vretK rfl dX8_wrong_21 ?_
                        exact mx_vret rfl dX8_readAtom_163 H
                      · have H := H.2 c98
                        refine mx_iconst dX8_wrong_9 ic_1 ?_
                        refine mx_goto (tgt := 14) dX8_wrong_10 rfl ?_
                        refine mx_aload_n dX8_wrong_14 rfl rfl ?_
                        refine mx_get 8 51 (ref := "PrairiePoolModel") cl_8 (Nat.le_of_ble_eq_true rfl) (Or.inl q1678) (Or.inl rfl) dX8_wrong_15 (fv_8_51 _ _) (ly8_k La0_h97) ?_
                        refine mx_ti ((ah_skIK eh97 (by decide)).trans (ah_skIK eh96 (by decide))) ?_
                        refine mx_callV 8 (y' := mi_X8_fail) (vs := [iv (1 : Int32), iv (ah_I h85 a0 51)]) (st := []) (al' := [some (rv a0), some (iv (1 : Int32)), some (iv (ah_I h85 a0 51))]) cl_8 V_X8_fail (Or.inl q2243) dX8_wrong_18 rfl rfl (Nat.le_of_ble_eq_true rfl) (Nat.le_of_ble_eq_true rfl) (ly8_k La0_h97) ?_
                        refine mx_aload_n dX8_fail_0 rfl rfl ?_
                        refine mx_get 8 48 (ref := "PrairiePoolModel") cl_8 (Nat.le_of_ble_eq_true rfl) (Or.inl q1675) (Or.inl rfl) dX8_fail_1 (fv_8_48 _ _) (ly8_k La0_h97) ?_
                        refine mx_ti ((ah_skIK eh97 (by decide)).trans (ah_hitI eh96)) ?_
                        refine mx_if_le (tgt := 8) dX8_fail_4 rfl (fun _ => absurd ‹_› (by decide)) (fun _ => ?_)
                        refine mx_vretK rfl dX8_fail_7 ?_
                        refine mx_vretK rfl dX8_wrong_21 ?_
                        exact mx_vret rfl dX8_readAtom_163 H
                    · have H := H.2 c95
                      refine mx_vretK rfl dX8_fail_7 ?_
                      refine mx_aload_n dX8_readAtom_159 rfl rfl ?_
                      refine mx_callV 8 (y' := mi_X8_wrong) (vs := []) (st := []) (al' := [some (rv a0)]) cl_8 V_X8_wrong (Or.inl q2239) dX8_readAtom_160 rfl rfl (Nat.le_of_ble_eq_true rfl) (Nat.le_of_ble_eq_true rfl) (ly8_k La0_h85) ?_
                      refine mx_aload_n dX8_wrong_0 rfl rfl ?_
                      refine mx_aload_n dX8_wrong_1 rfl rfl ?_
                      refine mx_get 8 50 (ref := "PrairiePoolModel") cl_8 (Nat.le_of_ble_eq_true rfl) (Or.inl q1677) (Or.inl rfl) dX8_wrong_2 (fv_8_50 _ _) (ly8_k La0_h85) ?_
                      refine mx_iconst dX8_wrong_5 ic_4 ?_
                      refine mx_icmp_ne (tgt := 13) dX8_wrong_6 rfl (fun c99 => ?_) (fun c99 => ?_)
                      · have H := H.1 c99
                        refine mx_iconst dX8_wrong_13 ic_2 ?_
                        refine mx_aload_n dX8_wrong_14 rfl rfl ?_
                        refine mx_get 8 51 (ref := "PrairiePoolModel") cl_8 (Nat.le_of_ble_eq_true rfl) (Or.inl q1678) (Or.inl rfl) dX8_wrong_15 (fv_8_51 _ _) (ly8_k La0_h85) ?_
                        refine mx_callV 8 (y' := mi_X8_fail) (vs := [iv (2 : Int32), iv (ah_I h85 a0 51)]) (st := []) (al' := [some (rv a0), some (iv (2 : Int32)), some (iv (ah_I h85 a0 51))]) cl_8 V_X8_fail (Or.inl q2243) dX8_wrong_18 rfl rfl (Nat.le_of_ble_eq_true rfl) (Nat.le_of_ble_eq_true rfl) (ly8_k La0_h85) ?_
                        refine mx_aload_n dX8_fail_0 rfl rfl ?_
                        refine mx_get 8 48 (ref := "PrairiePoolModel") cl_8 (Nat.le_of_ble_eq_true rfl) (Or.inl q1675) (Or.inl rfl) dX8_fail_1 (fv_8_48 _ _) (ly8_k La0_h85) ?_
                        refine mx_if_le (tgt := 8) dX8_fail_4 rfl (fun q_ => absurd q_ c95) (fun _ => ?_)
                        refine mx_vretK rfl dX8_fail_7 ?_
                        refine mx_vretK rfl dX8_wrong_21 ?_
                        exact mx_vret rfl dX8_readAtom_163 H
                      · have H := H.2 c99
                        refine mx_iconst dX8_wrong_9 ic_1 ?_
                        refine mx_goto (tgt := 14) dX8_wrong_10 rfl ?_
                        refine mx_aload_n dX8_wrong_14 rfl rfl ?_
                        refine mx_get 8 51 (ref := "PrairiePoolModel") cl_8 (Nat.le_of_ble_eq_true rfl) (Or.inl q1678) (Or.inl rfl) dX8_wrong_15 (fv_8_51 _ _) (ly8_k La0_h85) ?_
                        refine mx_callV 8 (y' := mi_X8_fail) (vs := [iv (1 : Int32), iv (ah_I h85 a0 51)]) (st := []) (al' := [some (rv a0), some (iv (1 : Int32)), some (iv (ah_I h85 a0 51))]) cl_8 V_X8_fail (Or.inl q2243) dX8_wrong_18 rfl rfl (Nat.le_of_ble_eq_true rfl) (Nat.le_of_ble_eq_true rfl) (ly8_k La0_h85) ?_
                        refine mx_aload_n dX8_fail_0 rfl rfl ?_
                        refine mx_get 8 48 (ref := "PrairiePoolModel") cl_8 (Nat.le_of_ble_eq_true rfl) (Or.inl q1675) (Or.inl rfl) dX8_fail_1 (fv_8_48 _ _) (ly8_k La0_h85) ?_
                        refine mx_if_le (tgt := 8) dX8_fail_4 rfl (fun q_ => absurd q_ c95) (fun _ => ?_)
                        refine mx_vretK rfl dX8_fail_7 ?_
                        refine mx_vretK rfl dX8_wrong_21 ?_
                        exact mx_vret rfl dX8_readAtom_163 H
          · have H := H.2 c70
            refine mx_aload_n dX8_isWord_8 rfl rfl ?_
            refine mx_get 8 55 (ref := "PrairiePoolModel") cl_8 (Nat.le_of_ble_eq_true rfl) (Or.inl q1682) (Or.inl rfl) dX8_isWord_9 (fv_8_55 _ _) (ly8_k La0_h) ?_
            refine mx_lload_n dX8_isWord_12 rfl rfl ?_
            refine mx_lif_ne (tgt := 21) dX8_isWord_13 dX8_isWord_14 rfl (fun c100 => ?_) (fun c100 => ?_)
            · have H := H.1 c100
              refine mx_iconst dX8_isWord_21 ic_0 ?_
              refine mx_zretK rfl dX8_isWord_22 (Or.inl rfl) ?_
              refine mx_zretK rfl dX8_isLeast_18 (Or.inl rfl) ?_
              refine mx_if_ne (tgt := 96) dX8_readAtom_86 rfl (fun _ => absurd ‹_› (by decide)) (fun _ => ?_)
              refine mx_aload_n dX8_readAtom_89 rfl rfl ?_
              refine mx_callV 8 (y' := mi_X8_isMost) (vs := []) (st := []) (al' := [some (rv a0)]) cl_8 V_X8_isMost (Or.inl q2235) dX8_readAtom_90 rfl rfl (Nat.le_of_ble_eq_true rfl) (Nat.le_of_ble_eq_true rfl) (ly8_k La0_h) ?_
              refine mx_aload_n dX8_isMost_0 rfl rfl ?_
              refine mx_bipush dX8_isMost_1 ib_109 ?_
              refine mx_bipush dX8_isMost_3 ib_111 ?_
              refine mx_bipush dX8_isMost_5 ib_115 ?_
              refine mx_bipush dX8_isMost_7 ib_116 ?_
              refine mx_iconst dX8_isMost_9 ic_0 ?_
              refine mx_iconst dX8_isMost_10 ic_0 ?_
              refine mx_callS (y' := mi_X8_spelled) (vs := [iv (109 : Int32), iv (111 : Int32), iv (115 : Int32), iv (116 : Int32), iv (0 : Int32), iv (0 : Int32)]) (st := [rv a0]) (al' := [some (iv (109 : Int32)), some (iv (111 : Int32)), some (iv (115 : Int32)), some (iv (116 : Int32)), some (iv (0 : Int32)), some (iv (0 : Int32)), none, none]) S_X8_spelled q2075 dX8_isMost_11 rfl rfl (Nat.le_of_ble_eq_true rfl) (Nat.le_of_ble_eq_true rfl) ?_
              refine mx_iload_n dX8_spelled_0 rfl rfl ?_
              refine mx_i2l dX8_spelled_1 ?_
              refine mx_ldc2 q2078 dX8_spelled_2 ?_
              refine mx_lsub dX8_spelled_5 ?_
              refine mx_lstore (al' := [some (iv (109 : Int32)), some (iv (111 : Int32)), some (iv (115 : Int32)), some (iv (116 : Int32)), some (iv (0 : Int32)), some (iv (0 : Int32)), some (jv ((109 : Int32).toInt64 - (96 : Int64))), none]) dX8_spelled_6 (Nat.le_of_ble_eq_true rfl) rfl ?_
              refine mx_lload dX8_spelled_8 rfl ?_
              refine mx_ldc2 q2079 dX8_spelled_10 ?_
              refine mx_lmul dX8_spelled_13 ?_
              refine mx_iload_n dX8_spelled_14 rfl rfl ?_
              refine mx_i2l dX8_spelled_15 ?_
              refine mx_ladd dX8_spelled_16 ?_
              refine mx_ldc2 q2078 dX8_spelled_17 ?_
              refine mx_lsub dX8_spelled_20 ?_
              refine mx_lstore (al' := [some (iv (109 : Int32)), some (iv (111 : Int32)), some (iv (115 : Int32)), some (iv (116 : Int32)), some (iv (0 : Int32)), some (iv (0 : Int32)), some (jv (((((109 : Int32).toInt64 - (96 : Int64)) * (32 : Int64)) + (111 : Int32).toInt64) - (96 : Int64))), none]) dX8_spelled_21 (Nat.le_of_ble_eq_true rfl) rfl ?_
              refine mx_iload_n dX8_spelled_23 rfl rfl ?_
              refine mx_if_le (tgt := 43) dX8_spelled_24 rfl (fun _ => absurd ‹_› (by decide)) (fun _ => ?_)
              refine mx_lload dX8_spelled_27 rfl ?_
              refine mx_ldc2 q2079 dX8_spelled_29 ?_
              refine mx_lmul dX8_spelled_32 ?_
              refine mx_iload_n dX8_spelled_33 rfl rfl ?_
              refine mx_i2l dX8_spelled_34 ?_
              refine mx_ladd dX8_spelled_35 ?_
              refine mx_ldc2 q2078 dX8_spelled_36 ?_
              refine mx_lsub dX8_spelled_39 ?_
              refine mx_goto (tgt := 45) dX8_spelled_40 rfl ?_
              refine mx_lstore (al' := [some (iv (109 : Int32)), some (iv (111 : Int32)), some (iv (115 : Int32)), some (iv (116 : Int32)), some (iv (0 : Int32)), some (iv (0 : Int32)), some (jv ((((((((109 : Int32).toInt64 - (96 : Int64)) * (32 : Int64)) + (111 : Int32).toInt64) - (96 : Int64)) * (32 : Int64)) + (115 : Int32).toInt64) - (96 : Int64))), none]) dX8_spelled_45 (Nat.le_of_ble_eq_true rfl) rfl ?_
              refine mx_iload_n dX8_spelled_47 rfl rfl ?_
              refine mx_if_le (tgt := 67) dX8_spelled_48 rfl (fun _ => absurd ‹_› (by decide)) (fun _ => ?_)
              refine mx_lload dX8_spelled_51 rfl ?_
              refine mx_ldc2 q2079 dX8_spelled_53 ?_
              refine mx_lmul dX8_spelled_56 ?_
              refine mx_iload_n dX8_spelled_57 rfl rfl ?_
              refine mx_i2l dX8_spelled_58 ?_
              refine mx_ladd dX8_spelled_59 ?_
              refine mx_ldc2 q2078 dX8_spelled_60 ?_
              refine mx_lsub dX8_spelled_63 ?_
              refine mx_goto (tgt := 69) dX8_spelled_64 rfl ?_
              refine mx_lstore (al' := [some (iv (109 : Int32)), some (iv (111 : Int32)), some (iv (115 : Int32)), some (iv (116 : Int32)), some (iv (0 : Int32)), some (iv (0 : Int32)), some (jv (((((((((((109 : Int32).toInt64 - (96 : Int64)) * (32 : Int64)) + (111 : Int32).toInt64) - (96 : Int64)) * (32 : Int64)) + (115 : Int32).toInt64) - (96 : Int64)) * (32 : Int64)) + (116 : Int32).toInt64) - (96 : Int64))), none]) dX8_spelled_69 (Nat.le_of_ble_eq_true rfl) rfl ?_
              refine mx_iload dX8_spelled_71 rfl ?_
              refine mx_if_le (tgt := 93) dX8_spelled_73 rfl (fun _ => ?_) (fun _ => absurd ‹_› (by decide))
              refine mx_lload dX8_spelled_93 rfl ?_
              refine mx_lstore (al' := [some (iv (109 : Int32)), some (iv (111 : Int32)), some (iv (115 : Int32)), some (iv (116 : Int32)), some (iv (0 : Int32)), some (iv (0 : Int32)), some (jv (((((((((((109 : Int32).toInt64 - (96 : Int64)) * (32 : Int64)) + (111 : Int32).toInt64) - (96 : Int64)) * (32 : Int64)) + (115 : Int32).toInt64) - (96 : Int64)) * (32 : Int64)) + (116 : Int32).toInt64) - (96 : Int64))), none]) dX8_spelled_95 (Nat.le_of_ble_eq_true rfl) rfl ?_
              refine mx_iload dX8_spelled_97 rfl ?_
              refine mx_if_le (tgt := 119) dX8_spelled_99 rfl (fun _ => ?_) (fun _ => absurd ‹_› (by decide))
              refine mx_lload dX8_spelled_119 rfl ?_
              refine mx_lretK rfl dX8_spelled_121 ?_
              refine mx_tj (show (((((((((((109 : Int32).toInt64 - (96 : Int64)) * (32 : Int64)) + (111 : Int32).toInt64) - (96 : Int64)) * (32 : Int64)) + (115 : Int32).toInt64) - (96 : Int64)) * (32 : Int64)) + (116 : Int32).toInt64) - (96 : Int64)) = (441972 : Int64) by decide) ?_
              refine mx_callV 8 (y' := mi_X8_isWord) (vs := [jv (441972 : Int64)]) (st := []) (al' := [some (rv a0), some (jv (441972 : Int64)), none]) cl_8 V_X8_isWord (Or.inl q2196) dX8_isMost_14 rfl rfl (Nat.le_of_ble_eq_true rfl) (Nat.le_of_ble_eq_true rfl) (ly8_k La0_h) ?_
              refine mx_aload_n dX8_isWord_0 rfl rfl ?_
              refine mx_get 8 50 (ref := "PrairiePoolModel") cl_8 (Nat.le_of_ble_eq_true rfl) (Or.inl q1677) (Or.inl rfl) dX8_isWord_1 (fv_8_50 _ _) (ly8_k La0_h) ?_
              refine mx_iconst dX8_isWord_4 ic_1 ?_
              refine mx_icmp_ne (tgt := 21) dX8_isWord_5 rfl (fun q_ => absurd c70 q_) (fun _ => ?_)
              refine mx_aload_n dX8_isWord_8 rfl rfl ?_
              refine mx_get 8 55 (ref := "PrairiePoolModel") cl_8 (Nat.le_of_ble_eq_true rfl) (Or.inl q1682) (Or.inl rfl) dX8_isWord_9 (fv_8_55 _ _) (ly8_k La0_h) ?_
              refine mx_lload_n dX8_isWord_12 rfl rfl ?_
              refine mx_lif_ne (tgt := 21) dX8_isWord_13 dX8_isWord_14 rfl (fun c101 => ?_) (fun c101 => ?_)
              · have H := H.1 c101
                refine mx_iconst dX8_isWord_21 ic_0 ?_
                refine mx_zretK rfl dX8_isWord_22 (Or.inl rfl) ?_
                refine mx_zretK rfl dX8_isMost_17 (Or.inl rfl) ?_
                refine mx_if_eq (tgt := 116) dX8_readAtom_93 rfl (fun _ => ?_) (fun _ => absurd ‹_› (by decide))
                refine mx_aload_n dX8_readAtom_116 rfl rfl ?_
                refine mx_callV 8 (y' := mi_X8_variable) (vs := []) (st := []) (al' := [some (rv a0)]) cl_8 V_X8_variable (Or.inl q2192) dX8_readAtom_117 rfl rfl (Nat.le_of_ble_eq_true rfl) (Nat.le_of_ble_eq_true rfl) (ly8_k La0_h) ?_
                refine ma_ki H (fun r103 h102 Xh102 H => ?_) (fun x1 h1 X1 H => mt_out rfl H)
                have H := H Xh102
                have La0_h102 := La0_h.ext Xh102
                refine mx_istore_n (al' := [some (rv a0), some (iv x1), some (iv r103), none]) dX8_readAtom_120 rfl (Nat.le_of_ble_eq_true rfl) rfl ?_
                refine mx_aload_n dX8_readAtom_121 rfl rfl ?_
                refine mx_callV 8 (y' := mi_X8_named) (vs := []) (st := []) (al' := [some (rv a0), none]) cl_8 V_X8_named (Or.inl q2247) dX8_readAtom_122 rfl rfl (Nat.le_of_ble_eq_true rfl) (Nat.le_of_ble_eq_true rfl) (ly8_k La0_h102) ?_
                refine ma_ki H (fun r105 h104 Xh104 H => ?_) (fun x1 h1 X1 H => mt_out rfl H)
                have H := H Xh104
                have La0_h104 := La0_h102.ext Xh104
                refine mx_istore_n (al' := [some (rv a0), some (iv x1), some (iv r103), some (iv r105)]) dX8_readAtom_125 rfl (Nat.le_of_ble_eq_true rfl) rfl ?_
                refine mx_iload_n dX8_readAtom_126 rfl rfl ?_
                refine mx_if_ge (tgt := 164) dX8_readAtom_127 rfl (fun c106 => ?_) (fun c106 => ?_)
                · have H := H.1 c106
                  exact mx_weak (al' := [some (rv a0), none, some (iv r103), some (iv r105)]) ⟨rfl, ⟨rfl, ⟨rfl, trivial⟩⟩⟩ H
                · have H := H.2 c106
                  refine mx_iload_n dX8_readAtom_130 rfl rfl ?_
                  refine mx_if_ge (tgt := 164) dX8_readAtom_131 rfl (fun c107 => ?_) (fun c107 => ?_)
                  · have H := H.1 c107
                    exact mx_weak (al' := [some (rv a0), none, some (iv r103), some (iv r105)]) ⟨rfl, ⟨rfl, ⟨rfl, trivial⟩⟩⟩ H
                  · have H := H.2 c107
                    refine mx_aload_n dX8_readAtom_134 rfl rfl ?_
                    refine mx_get 8 50 (ref := "PrairiePoolModel") cl_8 (Nat.le_of_ble_eq_true rfl) (Or.inl q1677) (Or.inl rfl) dX8_readAtom_135 (fv_8_50 _ _) (ly8_k La0_h104) ?_
                    refine mx_iconst dX8_readAtom_138 ic_1 ?_
                    refine mx_icmp_ne (tgt := 159) dX8_readAtom_139 rfl (fun c108 => ?_) (fun c108 => ?_)
                    · have H := H.1 c108
                      refine mx_aload_n dX8_readAtom_159 rfl rfl ?_
                      refine mx_callV 8 (y' := mi_X8_wrong) (vs := []) (st := []) (al' := [some (rv a0)]) cl_8 V_X8_wrong (Or.inl q2239) dX8_readAtom_160 rfl rfl (Nat.le_of_ble_eq_true rfl) (Nat.le_of_ble_eq_true rfl) (ly8_k La0_h104) ?_
                      refine mx_aload_n dX8_wrong_0 rfl rfl ?_
                      refine mx_aload_n dX8_wrong_1 rfl rfl ?_
                      refine mx_get 8 50 (ref := "PrairiePoolModel") cl_8 (Nat.le_of_ble_eq_true rfl) (Or.inl q1677) (Or.inl rfl) dX8_wrong_2 (fv_8_50 _ _) (ly8_k La0_h104) ?_
                      refine mx_iconst dX8_wrong_5 ic_4 ?_
                      refine mx_icmp_ne (tgt := 13) dX8_wrong_6 rfl (fun c109 => ?_) (fun c109 => ?_)
                      · have H := H.1 c109
                        refine mx_iconst dX8_wrong_13 ic_2 ?_
                        refine mx_aload_n dX8_wrong_14 rfl rfl ?_
                        refine mx_get 8 51 (ref := "PrairiePoolModel") cl_8 (Nat.le_of_ble_eq_true rfl) (Or.inl q1678) (Or.inl rfl) dX8_wrong_15 (fv_8_51 _ _) (ly8_k La0_h104) ?_
                        refine mx_callV 8 (y' := mi_X8_fail) (vs := [iv (2 : Int32), iv (ah_I h104 a0 51)]) (st := []) (al' := [some (rv a0), some (iv (2 : Int32)), some (iv (ah_I h104 a0 51))]) cl_8 V_X8_fail (Or.inl q2243) dX8_wrong_18 rfl rfl (Nat.le_of_ble_eq_true rfl) (Nat.le_of_ble_eq_true rfl) (ly8_k La0_h104) ?_
                        refine mx_aload_n dX8_fail_0 rfl rfl ?_
                        refine mx_get 8 48 (ref := "PrairiePoolModel") cl_8 (Nat.le_of_ble_eq_true rfl) (Or.inl q1675) (Or.inl rfl) dX8_fail_1 (fv_8_48 _ _) (ly8_k La0_h104) ?_
                        refine mx_if_le (tgt := 8) dX8_fail_4 rfl (fun c110 => ?_) (fun c110 => ?_)
                        · have H := H.1 c110
                          refine mx_aload_n dX8_fail_8 rfl rfl ?_
                          refine mx_iload_n dX8_fail_9 rfl rfl ?_
                          refine mx_putI 8 48 (ref := "PrairiePoolModel") cl_8 (Nat.le_of_ble_eq_true rfl) (Or.inl q1675) (Or.inl rfl) dX8_fail_10 (Or.inl rfl) rfl (ly8_k La0_h104) ?_
                          refine mx_nmI  (fun h111 eh111 Xh111 Kh111 Lh111 => ?_)
                          have H := H h111 eh111 Xh111
                          have La0_h111 := La0_h104.ext Xh111
                          refine mx_aload_n dX8_fail_13 rfl rfl ?_
                          refine mx_iload_n dX8_fail_14 rfl rfl ?_
                          refine mx_putI 8 49 (ref := "PrairiePoolModel") cl_8 (Nat.le_of_ble_eq_true rfl) (Or.inl q1676) (Or.inl rfl) dX8_fail_15 (Or.inl rfl) rfl (ly8_k La0_h111) ?_
                          refine mx_nmI  (fun h112 eh112 Xh112 Kh112 Lh112 => ?_)
                          have H := H h112 eh112 Xh112
                          have Kh112 := Kh112.trans Kh111
                          have Lh112 := Lh112.trans Lh111
                          have La0_h112 := La0_h111.ext Xh112
                          refine mx_vretK rfl dX8_fail_18 ?_
                          refine mx_vretK rfl dX8_wrong_21 ?_
                          exact mx_vret rfl dX8_readAtom_163 H
                        · have H := H.2 c110
                          refine mx_vretK rfl dX8_fail_7 ?_
                          refine mx_vretK rfl dX8_wrong_21 ?_
                          exact mx_vret rfl dX8_readAtom_163 H
                      · have H := H.2 c109
                        refine mx_iconst dX8_wrong_9 ic_1 ?_
                        refine mx_goto (tgt := 14) dX8_wrong_10 rfl ?_
                        refine mx_aload_n dX8_wrong_14 rfl rfl ?_
                        refine mx_get 8 51 (ref := "PrairiePoolModel") cl_8 (Nat.le_of_ble_eq_true rfl) (Or.inl q1678) (Or.inl rfl) dX8_wrong_15 (fv_8_51 _ _) (ly8_k La0_h104) ?_
                        refine mx_callV 8 (y' := mi_X8_fail) (vs := [iv (1 : Int32), iv (ah_I h104 a0 51)]) (st := []) (al' := [some (rv a0), some (iv (1 : Int32)), some (iv (ah_I h104 a0 51))]) cl_8 V_X8_fail (Or.inl q2243) dX8_wrong_18 rfl rfl (Nat.le_of_ble_eq_true rfl) (Nat.le_of_ble_eq_true rfl) (ly8_k La0_h104) ?_
                        refine mx_aload_n dX8_fail_0 rfl rfl ?_
                        refine mx_get 8 48 (ref := "PrairiePoolModel") cl_8 (Nat.le_of_ble_eq_true rfl) (Or.inl q1675) (Or.inl rfl) dX8_fail_1 (fv_8_48 _ _) (ly8_k La0_h104) ?_
                        refine mx_if_le (tgt := 8) dX8_fail_4 rfl (fun c113 => ?_) (fun c113 => ?_)
                        · have H := H.1 c113
                          refine mx_aload_n dX8_fail_8 rfl rfl ?_
                          refine mx_iload_n dX8_fail_9 rfl rfl ?_
                          refine mx_putI 8 48 (ref := "PrairiePoolModel") cl_8 (Nat.le_of_ble_eq_true rfl) (Or.inl q1675) (Or.inl rfl) dX8_fail_10 (Or.inl rfl) rfl (ly8_k La0_h104) ?_
                          refine mx_nmI  (fun h114 eh114 Xh114 Kh114 Lh114 => ?_)
                          have H := H h114 eh114 Xh114
                          have La0_h114 := La0_h104.ext Xh114
                          refine mx_aload_n dX8_fail_13 rfl rfl ?_
                          refine mx_iload_n dX8_fail_14 rfl rfl ?_
                          refine mx_putI 8 49 (ref := "PrairiePoolModel") cl_8 (Nat.le_of_ble_eq_true rfl) (Or.inl q1676) (Or.inl rfl) dX8_fail_15 (Or.inl rfl) rfl (ly8_k La0_h114) ?_
                          refine mx_nmI  (fun h115 eh115 Xh115 Kh115 Lh115 => ?_)
                          have H := H h115 eh115 Xh115
                          have Kh115 := Kh115.trans Kh114
                          have Lh115 := Lh115.trans Lh114
                          have La0_h115 := La0_h114.ext Xh115
                          refine mx_vretK rfl dX8_fail_18 ?_
                          refine mx_vretK rfl dX8_wrong_21 ?_
                          exact mx_vret rfl dX8_readAtom_163 H
                        · have H := H.2 c113
                          refine mx_vretK rfl dX8_fail_7 ?_
                          refine mx_vretK rfl dX8_wrong_21 ?_
                          exact mx_vret rfl dX8_readAtom_163 H
                    · have H := H.2 c108
                      refine mx_aload_n dX8_readAtom_142 rfl rfl ?_
                      refine mx_callV 8 (y' := mi_X8_isKept) (vs := []) (st := []) (al' := [some (rv a0)]) cl_8 V_X8_isKept (Or.inl q2203) dX8_readAtom_143 rfl rfl (Nat.le_of_ble_eq_true rfl) (Nat.le_of_ble_eq_true rfl) (ly8_k La0_h104) ?_
                      refine ma_ki H (fun r117 h116 Xh116 H => ?_) (fun x1 h1 X1 H => mt_out rfl H)
                      have H := H Xh116
                      have La0_h116 := La0_h104.ext Xh116
                      refine mx_if_ne (tgt := 159) dX8_readAtom_146 rfl (fun c118 => ?_) (fun c118 => ?_)
                      · have H := H.1 c118
                        refine mx_aload_n dX8_readAtom_159 rfl rfl ?_
                        refine mx_callV 8 (y' := mi_X8_wrong) (vs := []) (st := []) (al' := [some (rv a0)]) cl_8 V_X8_wrong (Or.inl q2239) dX8_readAtom_160 rfl rfl (Nat.le_of_ble_eq_true rfl) (Nat.le_of_ble_eq_true rfl) (ly8_k La0_h116) ?_
                        refine mx_aload_n dX8_wrong_0 rfl rfl ?_
                        refine mx_aload_n dX8_wrong_1 rfl rfl ?_
                        refine mx_get 8 50 (ref := "PrairiePoolModel") cl_8 (Nat.le_of_ble_eq_true rfl) (Or.inl q1677) (Or.inl rfl) dX8_wrong_2 (fv_8_50 _ _) (ly8_k La0_h116) ?_
                        refine mx_iconst dX8_wrong_5 ic_4 ?_
                        refine mx_icmp_ne (tgt := 13) dX8_wrong_6 rfl (fun c119 => ?_) (fun c119 => ?_)
                        · have H := H.1 c119
                          refine mx_iconst dX8_wrong_13 ic_2 ?_
                          refine mx_aload_n dX8_wrong_14 rfl rfl ?_
                          refine mx_get 8 51 (ref := "PrairiePoolModel") cl_8 (Nat.le_of_ble_eq_true rfl) (Or.inl q1678) (Or.inl rfl) dX8_wrong_15 (fv_8_51 _ _) (ly8_k La0_h116) ?_
                          refine mx_callV 8 (y' := mi_X8_fail) (vs := [iv (2 : Int32), iv (ah_I h116 a0 51)]) (st := []) (al' := [some (rv a0), some (iv (2 : Int32)), some (iv (ah_I h116 a0 51))]) cl_8 V_X8_fail (Or.inl q2243) dX8_wrong_18 rfl rfl (Nat.le_of_ble_eq_true rfl) (Nat.le_of_ble_eq_true rfl) (ly8_k La0_h116) ?_
                          refine mx_aload_n dX8_fail_0 rfl rfl ?_
                          refine mx_get 8 48 (ref := "PrairiePoolModel") cl_8 (Nat.le_of_ble_eq_true rfl) (Or.inl q1675) (Or.inl rfl) dX8_fail_1 (fv_8_48 _ _) (ly8_k La0_h116) ?_
                          refine mx_if_le (tgt := 8) dX8_fail_4 rfl (fun c120 => ?_) (fun c120 => ?_)
                          · have H := H.1 c120
                            refine mx_aload_n dX8_fail_8 rfl rfl ?_
                            refine mx_iload_n dX8_fail_9 rfl rfl ?_
                            refine mx_putI 8 48 (ref := "PrairiePoolModel") cl_8 (Nat.le_of_ble_eq_true rfl) (Or.inl q1675) (Or.inl rfl) dX8_fail_10 (Or.inl rfl) rfl (ly8_k La0_h116) ?_
                            refine mx_nmI  (fun h121 eh121 Xh121 Kh121 Lh121 => ?_)
                            have H := H h121 eh121 Xh121
                            have La0_h121 := La0_h116.ext Xh121
                            refine mx_aload_n dX8_fail_13 rfl rfl ?_
                            refine mx_iload_n dX8_fail_14 rfl rfl ?_
                            refine mx_putI 8 49 (ref := "PrairiePoolModel") cl_8 (Nat.le_of_ble_eq_true rfl) (Or.inl q1676) (Or.inl rfl) dX8_fail_15 (Or.inl rfl) rfl (ly8_k La0_h121) ?_
                            refine mx_nmI  (fun h122 eh122 Xh122 Kh122 Lh122 => ?_)
                            have H := H h122 eh122 Xh122
                            have Kh122 := Kh122.trans Kh121
                            have Lh122 := Lh122.trans Lh121
                            have La0_h122 := La0_h121.ext Xh122
                            refine mx_vretK rfl dX8_fail_18 ?_
                            refine mx_vretK rfl dX8_wrong_21 ?_
                            exact mx_vret rfl dX8_readAtom_163 H
                          · have H := H.2 c120
                            refine mx_vretK rfl dX8_fail_7 ?_
                            refine mx_vretK rfl dX8_wrong_21 ?_
                            exact mx_vret rfl dX8_readAtom_163 H
                        · have H := H.2 c119
                          refine mx_iconst dX8_wrong_9 ic_1 ?_
                          refine mx_goto (tgt := 14) dX8_wrong_10 rfl ?_
                          refine mx_aload_n dX8_wrong_14 rfl rfl ?_
                          refine mx_get 8 51 (ref := "PrairiePoolModel") cl_8 (Nat.le_of_ble_eq_true rfl) (Or.inl q1678) (Or.inl rfl) dX8_wrong_15 (fv_8_51 _ _) (ly8_k La0_h116) ?_
                          refine mx_callV 8 (y' := mi_X8_fail) (vs := [iv (1 : Int32), iv (ah_I h116 a0 51)]) (st := []) (al' := [some (rv a0), some (iv (1 : Int32)), some (iv (ah_I h116 a0 51))]) cl_8 V_X8_fail (Or.inl q2243) dX8_wrong_18 rfl rfl (Nat.le_of_ble_eq_true rfl) (Nat.le_of_ble_eq_true rfl) (ly8_k La0_h116) ?_
                          refine mx_aload_n dX8_fail_0 rfl rfl ?_
                          refine mx_get 8 48 (ref := "PrairiePoolModel") cl_8 (Nat.le_of_ble_eq_true rfl) (Or.inl q1675) (Or.inl rfl) dX8_fail_1 (fv_8_48 _ _) (ly8_k La0_h116) ?_
                          refine mx_if_le (tgt := 8) dX8_fail_4 rfl (fun c123 => ?_) (fun c123 => ?_)
                          · have H := H.1 c123
                            refine mx_aload_n dX8_fail_8 rfl rfl ?_
                            refine mx_iload_n dX8_fail_9 rfl rfl ?_
                            refine mx_putI 8 48 (ref := "PrairiePoolModel") cl_8 (Nat.le_of_ble_eq_true rfl) (Or.inl q1675) (Or.inl rfl) dX8_fail_10 (Or.inl rfl) rfl (ly8_k La0_h116) ?_
                            refine mx_nmI  (fun h124 eh124 Xh124 Kh124 Lh124 => ?_)
                            have H := H h124 eh124 Xh124
                            have La0_h124 := La0_h116.ext Xh124
                            refine mx_aload_n dX8_fail_13 rfl rfl ?_
                            refine mx_iload_n dX8_fail_14 rfl rfl ?_
                            refine mx_putI 8 49 (ref := "PrairiePoolModel") cl_8 (Nat.le_of_ble_eq_true rfl) (Or.inl q1676) (Or.inl rfl) dX8_fail_15 (Or.inl rfl) rfl (ly8_k La0_h124) ?_
                            refine mx_nmI  (fun h125 eh125 Xh125 Kh125 Lh125 => ?_)
                            have H := H h125 eh125 Xh125
                            have Kh125 := Kh125.trans Kh124
                            have Lh125 := Lh125.trans Lh124
                            have La0_h125 := La0_h124.ext Xh125
                            refine mx_vretK rfl dX8_fail_18 ?_
                            refine mx_vretK rfl dX8_wrong_21 ?_
                            exact mx_vret rfl dX8_readAtom_163 H
                          · have H := H.2 c123
                            refine mx_vretK rfl dX8_fail_7 ?_
                            refine mx_vretK rfl dX8_wrong_21 ?_
                            exact mx_vret rfl dX8_readAtom_163 H
                      · have H := H.2 c118
                        refine mx_aload_n dX8_readAtom_149 rfl rfl ?_
                        refine mx_bipush dX8_readAtom_150 ib_6 ?_
                        refine mx_aload_n dX8_readAtom_152 rfl rfl ?_
                        refine mx_get 8 51 (ref := "PrairiePoolModel") cl_8 (Nat.le_of_ble_eq_true rfl) (Or.inl q1678) (Or.inl rfl) dX8_readAtom_153 (fv_8_51 _ _) (ly8_k La0_h116) ?_
                        refine mx_callV 8 (y' := mi_X8_fail) (vs := [iv (6 : Int32), iv (ah_I h116 a0 51)]) (st := []) (al' := [some (rv a0), some (iv (6 : Int32)), some (iv (ah_I h116 a0 51))]) cl_8 V_X8_fail (Or.inl q2243) dX8_readAtom_156 rfl rfl (Nat.le_of_ble_eq_true rfl) (Nat.le_of_ble_eq_true rfl) (ly8_k La0_h116) ?_
                        refine mx_aload_n dX8_fail_0 rfl rfl ?_
                        refine mx_get 8 48 (ref := "PrairiePoolModel") cl_8 (Nat.le_of_ble_eq_true rfl) (Or.inl q1675) (Or.inl rfl) dX8_fail_1 (fv_8_48 _ _) (ly8_k La0_h116) ?_
                        refine mx_if_le (tgt := 8) dX8_fail_4 rfl (fun c126 => ?_) (fun c126 => ?_)
                        · have H := H.1 c126
                          refine mx_aload_n dX8_fail_8 rfl rfl ?_
                          refine mx_iload_n dX8_fail_9 rfl rfl ?_
                          refine mx_putI 8 48 (ref := "PrairiePoolModel") cl_8 (Nat.le_of_ble_eq_true rfl) (Or.inl q1675) (Or.inl rfl) dX8_fail_10 (Or.inl rfl) rfl (ly8_k La0_h116) ?_
                          refine mx_nmI  (fun h127 eh127 Xh127 Kh127 Lh127 => ?_)
                          have H := H h127 eh127 Xh127
                          have La0_h127 := La0_h116.ext Xh127
                          refine mx_aload_n dX8_fail_13 rfl rfl ?_
                          refine mx_iload_n dX8_fail_14 rfl rfl ?_
                          refine mx_putI 8 49 (ref := "PrairiePoolModel") cl_8 (Nat.le_of_ble_eq_true rfl) (Or.inl q1676) (Or.inl rfl) dX8_fail_15 (Or.inl rfl) rfl (ly8_k La0_h127) ?_
                          refine mx_nmI  (fun h128 eh128 Xh128 Kh128 Lh128 => ?_)
                          have H := H h128 eh128 Xh128
                          have Kh128 := Kh128.trans Kh127
                          have Lh128 := Lh128.trans Lh127
                          have La0_h128 := La0_h127.ext Xh128
                          refine mx_vretK rfl dX8_fail_18 ?_
                          refine mx_aload_n dX8_readAtom_159 rfl rfl ?_
                          refine mx_callV 8 (y' := mi_X8_wrong) (vs := []) (st := []) (al' := [some (rv a0)]) cl_8 V_X8_wrong (Or.inl q2239) dX8_readAtom_160 rfl rfl (Nat.le_of_ble_eq_true rfl) (Nat.le_of_ble_eq_true rfl) (ly8_k La0_h128) ?_
                          refine mx_aload_n dX8_wrong_0 rfl rfl ?_
                          refine mx_aload_n dX8_wrong_1 rfl rfl ?_
                          refine mx_get 8 50 (ref := "PrairiePoolModel") cl_8 (Nat.le_of_ble_eq_true rfl) (Or.inl q1677) (Or.inl rfl) dX8_wrong_2 (fv_8_50 _ _) (ly8_k La0_h128) ?_
                          refine mx_ti ((ah_skIK eh128 (by decide)).trans (ah_skIK eh127 (by decide))) ?_
                          refine mx_iconst dX8_wrong_5 ic_4 ?_
                          refine mx_icmp_ne (tgt := 13) dX8_wrong_6 rfl (fun c129 => ?_) (fun c129 => ?_)
                          · have H := H.1 c129
                            refine mx_iconst dX8_wrong_13 ic_2 ?_
                            refine mx_aload_n dX8_wrong_14 rfl rfl ?_
                            refine mx_get 8 51 (ref := "PrairiePoolModel") cl_8 (Nat.le_of_ble_eq_true rfl) (Or.inl q1678) (Or.inl rfl) dX8_wrong_15 (fv_8_51 _ _) (ly8_k La0_h128) ?_
                            refine mx_ti ((ah_skIK eh128 (by decide)).trans (ah_skIK eh127 (by decide))) ?_
                            refine mx_callV 8 (y' := mi_X8_fail) (vs := [iv (2 : Int32), iv (ah_I h116 a0 51)]) (st := []) (al' := [some (rv a0), some (iv (2 : Int32)), some (iv (ah_I h116 a0 51))]) cl_8 V_X8_fail (Or.inl q2243) dX8_wrong_18 rfl rfl (Nat.le_of_ble_eq_true rfl) (Nat.le_of_ble_eq_true rfl) (ly8_k La0_h128) ?_
                            refine mx_aload_n dX8_fail_0 rfl rfl ?_
                            refine mx_get 8 48 (ref := "PrairiePoolModel") cl_8 (Nat.le_of_ble_eq_true rfl) (Or.inl q1675) (Or.inl rfl) dX8_fail_1 (fv_8_48 _ _) (ly8_k La0_h128) ?_
                            refine mx_ti ((ah_skIK eh128 (by decide)).trans (ah_hitI eh127)) ?_
                            refine mx_if_le (tgt := 8) dX8_fail_4 rfl (fun _ => absurd ‹_› (by decide)) (fun _ => ?_)
                            refine mx_vretK rfl dX8_fail_7 ?_
                            refine mx_vretK rfl dX8_wrong_21 ?_
                            exact mx_vret rfl dX8_readAtom_163 H
                          · have H := H.2 c129
                            refine mx_iconst dX8_wrong_9 ic_1 ?_
                            refine mx_goto (tgt := 14) dX8_wrong_10 rfl ?_
                            refine mx_aload_n dX8_wrong_14 rfl rfl ?_
                            refine mx_get 8 51 (ref := "PrairiePoolModel") cl_8 (Nat.le_of_ble_eq_true rfl) (Or.inl q1678) (Or.inl rfl) dX8_wrong_15 (fv_8_51 _ _) (ly8_k La0_h128) ?_
                            refine mx_ti ((ah_skIK eh128 (by decide)).trans (ah_skIK eh127 (by decide))) ?_
                            refine mx_callV 8 (y' := mi_X8_fail) (vs := [iv (1 : Int32), iv (ah_I h116 a0 51)]) (st := []) (al' := [some (rv a0), some (iv (1 : Int32)), some (iv (ah_I h116 a0 51))]) cl_8 V_X8_fail (Or.inl q2243) dX8_wrong_18 rfl rfl (Nat.le_of_ble_eq_true rfl) (Nat.le_of_ble_eq_true rfl) (ly8_k La0_h128) ?_
                            refine mx_aload_n dX8_fail_0 rfl rfl ?_
                            refine mx_get 8 48 (ref := "PrairiePoolModel") cl_8 (Nat.le_of_ble_eq_true rfl) (Or.inl q1675) (Or.inl rfl) dX8_fail_1 (fv_8_48 _ _) (ly8_k La0_h128) ?_
                            refine mx_ti ((ah_skIK eh128 (by decide)).trans (ah_hitI eh127)) ?_
                            refine mx_if_le (tgt := 8) dX8_fail_4 rfl (fun _ => absurd ‹_› (by decide)) (fun _ => ?_)
                            refine mx_vretK rfl dX8_fail_7 ?_
                            refine mx_vretK rfl dX8_wrong_21 ?_
                            exact mx_vret rfl dX8_readAtom_163 H
                        · have H := H.2 c126
                          refine mx_vretK rfl dX8_fail_7 ?_
                          refine mx_aload_n dX8_readAtom_159 rfl rfl ?_
                          refine mx_callV 8 (y' := mi_X8_wrong) (vs := []) (st := []) (al' := [some (rv a0)]) cl_8 V_X8_wrong (Or.inl q2239) dX8_readAtom_160 rfl rfl (Nat.le_of_ble_eq_true rfl) (Nat.le_of_ble_eq_true rfl) (ly8_k La0_h116) ?_
                          refine mx_aload_n dX8_wrong_0 rfl rfl ?_
                          refine mx_aload_n dX8_wrong_1 rfl rfl ?_
                          refine mx_get 8 50 (ref := "PrairiePoolModel") cl_8 (Nat.le_of_ble_eq_true rfl) (Or.inl q1677) (Or.inl rfl) dX8_wrong_2 (fv_8_50 _ _) (ly8_k La0_h116) ?_
                          refine mx_iconst dX8_wrong_5 ic_4 ?_
                          refine mx_icmp_ne (tgt := 13) dX8_wrong_6 rfl (fun c130 => ?_) (fun c130 => ?_)
                          · have H := H.1 c130
                            refine mx_iconst dX8_wrong_13 ic_2 ?_
                            refine mx_aload_n dX8_wrong_14 rfl rfl ?_
                            refine mx_get 8 51 (ref := "PrairiePoolModel") cl_8 (Nat.le_of_ble_eq_true rfl) (Or.inl q1678) (Or.inl rfl) dX8_wrong_15 (fv_8_51 _ _) (ly8_k La0_h116) ?_
                            refine mx_callV 8 (y' := mi_X8_fail) (vs := [iv (2 : Int32), iv (ah_I h116 a0 51)]) (st := []) (al' := [some (rv a0), some (iv (2 : Int32)), some (iv (ah_I h116 a0 51))]) cl_8 V_X8_fail (Or.inl q2243) dX8_wrong_18 rfl rfl (Nat.le_of_ble_eq_true rfl) (Nat.le_of_ble_eq_true rfl) (ly8_k La0_h116) ?_
                            refine mx_aload_n dX8_fail_0 rfl rfl ?_
                            refine mx_get 8 48 (ref := "PrairiePoolModel") cl_8 (Nat.le_of_ble_eq_true rfl) (Or.inl q1675) (Or.inl rfl) dX8_fail_1 (fv_8_48 _ _) (ly8_k La0_h116) ?_
                            refine mx_if_le (tgt := 8) dX8_fail_4 rfl (fun q_ => absurd q_ c126) (fun _ => ?_)
                            refine mx_vretK rfl dX8_fail_7 ?_
                            refine mx_vretK rfl dX8_wrong_21 ?_
                            exact mx_vret rfl dX8_readAtom_163 H
                          · have H := H.2 c130
                            refine mx_iconst dX8_wrong_9 ic_1 ?_
                            refine mx_goto (tgt := 14) dX8_wrong_10 rfl ?_
                            refine mx_aload_n dX8_wrong_14 rfl rfl ?_
                            refine mx_get 8 51 (ref := "PrairiePoolModel") cl_8 (Nat.le_of_ble_eq_true rfl) (Or.inl q1678) (Or.inl rfl) dX8_wrong_15 (fv_8_51 _ _) (ly8_k La0_h116) ?_
                            refine mx_callV 8 (y' := mi_X8_fail) (vs := [iv (1 : Int32), iv (ah_I h116 a0 51)]) (st := []) (al' := [some (rv a0), some (iv (1 : Int32)), some (iv (ah_I h116 a0 51))]) cl_8 V_X8_fail (Or.inl q2243) dX8_wrong_18 rfl rfl (Nat.le_of_ble_eq_true rfl) (Nat.le_of_ble_eq_true rfl) (ly8_k La0_h116) ?_
                            refine mx_aload_n dX8_fail_0 rfl rfl ?_
                            refine mx_get 8 48 (ref := "PrairiePoolModel") cl_8 (Nat.le_of_ble_eq_true rfl) (Or.inl q1675) (Or.inl rfl) dX8_fail_1 (fv_8_48 _ _) (ly8_k La0_h116) ?_
                            refine mx_if_le (tgt := 8) dX8_fail_4 rfl (fun q_ => absurd q_ c126) (fun _ => ?_)
                            refine mx_vretK rfl dX8_fail_7 ?_
                            refine mx_vretK rfl dX8_wrong_21 ?_
                            exact mx_vret rfl dX8_readAtom_163 H
              · have H := H.2 c101
                refine mx_iconst dX8_isWord_17 ic_1 ?_
                refine mx_goto (tgt := 22) dX8_isWord_18 rfl ?_
                refine mx_zretK rfl dX8_isWord_22 (Or.inr rfl) ?_
                refine mx_zretK rfl dX8_isMost_17 (Or.inr rfl) ?_
                refine mx_if_eq (tgt := 116) dX8_readAtom_93 rfl (fun _ => absurd ‹_› (by decide)) (fun _ => ?_)
                refine mx_aload_n dX8_readAtom_96 rfl rfl ?_
                refine mx_iload_n dX8_readAtom_97 rfl rfl ?_
                refine mx_aload_n dX8_readAtom_98 rfl rfl ?_
                refine mx_callV 8 (y' := mi_X8_isLeast) (vs := []) (st := [iv x1, rv a0]) (al' := [some (rv a0)]) cl_8 V_X8_isLeast (Or.inl q2231) dX8_readAtom_99 rfl rfl (Nat.le_of_ble_eq_true rfl) (Nat.le_of_ble_eq_true rfl) (ly8_k La0_h) ?_
                refine mx_aload_n dX8_isLeast_0 rfl rfl ?_
                refine mx_bipush dX8_isLeast_1 ib_108 ?_
                refine mx_bipush dX8_isLeast_3 ib_101 ?_
                refine mx_bipush dX8_isLeast_5 ib_97 ?_
                refine mx_bipush dX8_isLeast_7 ib_115 ?_
                refine mx_bipush dX8_isLeast_9 ib_116 ?_
                refine mx_iconst dX8_isLeast_11 ic_0 ?_
                refine mx_callS (y' := mi_X8_spelled) (vs := [iv (108 : Int32), iv (101 : Int32), iv (97 : Int32), iv (115 : Int32), iv (116 : Int32), iv (0 : Int32)]) (st := [rv a0]) (al' := [some (iv (108 : Int32)), some (iv (101 : Int32)), some (iv (97 : Int32)), some (iv (115 : Int32)), some (iv (116 : Int32)), some (iv (0 : Int32)), none, none]) S_X8_spelled q2075 dX8_isLeast_12 rfl rfl (Nat.le_of_ble_eq_true rfl) (Nat.le_of_ble_eq_true rfl) ?_
                refine mx_iload_n dX8_spelled_0 rfl rfl ?_
                refine mx_i2l dX8_spelled_1 ?_
                refine mx_ldc2 q2078 dX8_spelled_2 ?_
                refine mx_lsub dX8_spelled_5 ?_
                refine mx_lstore (al' := [some (iv (108 : Int32)), some (iv (101 : Int32)), some (iv (97 : Int32)), some (iv (115 : Int32)), some (iv (116 : Int32)), some (iv (0 : Int32)), some (jv ((108 : Int32).toInt64 - (96 : Int64))), none]) dX8_spelled_6 (Nat.le_of_ble_eq_true rfl) rfl ?_
                refine mx_lload dX8_spelled_8 rfl ?_
                refine mx_ldc2 q2079 dX8_spelled_10 ?_
                refine mx_lmul dX8_spelled_13 ?_
                refine mx_iload_n dX8_spelled_14 rfl rfl ?_
                refine mx_i2l dX8_spelled_15 ?_
                refine mx_ladd dX8_spelled_16 ?_
                refine mx_ldc2 q2078 dX8_spelled_17 ?_
                refine mx_lsub dX8_spelled_20 ?_
                refine mx_lstore (al' := [some (iv (108 : Int32)), some (iv (101 : Int32)), some (iv (97 : Int32)), some (iv (115 : Int32)), some (iv (116 : Int32)), some (iv (0 : Int32)), some (jv (((((108 : Int32).toInt64 - (96 : Int64)) * (32 : Int64)) + (101 : Int32).toInt64) - (96 : Int64))), none]) dX8_spelled_21 (Nat.le_of_ble_eq_true rfl) rfl ?_
                refine mx_iload_n dX8_spelled_23 rfl rfl ?_
                refine mx_if_le (tgt := 43) dX8_spelled_24 rfl (fun _ => absurd ‹_› (by decide)) (fun _ => ?_)
                refine mx_lload dX8_spelled_27 rfl ?_
                refine mx_ldc2 q2079 dX8_spelled_29 ?_
                refine mx_lmul dX8_spelled_32 ?_
                refine mx_iload_n dX8_spelled_33 rfl rfl ?_
                refine mx_i2l dX8_spelled_34 ?_
                refine mx_ladd dX8_spelled_35 ?_
                refine mx_ldc2 q2078 dX8_spelled_36 ?_
                refine mx_lsub dX8_spelled_39 ?_
                refine mx_goto (tgt := 45) dX8_spelled_40 rfl ?_
                refine mx_lstore (al' := [some (iv (108 : Int32)), some (iv (101 : Int32)), some (iv (97 : Int32)), some (iv (115 : Int32)), some (iv (116 : Int32)), some (iv (0 : Int32)), some (jv ((((((((108 : Int32).toInt64 - (96 : Int64)) * (32 : Int64)) + (101 : Int32).toInt64) - (96 : Int64)) * (32 : Int64)) + (97 : Int32).toInt64) - (96 : Int64))), none]) dX8_spelled_45 (Nat.le_of_ble_eq_true rfl) rfl ?_
                refine mx_iload_n dX8_spelled_47 rfl rfl ?_
                refine mx_if_le (tgt := 67) dX8_spelled_48 rfl (fun _ => absurd ‹_› (by decide)) (fun _ => ?_)
                refine mx_lload dX8_spelled_51 rfl ?_
                refine mx_ldc2 q2079 dX8_spelled_53 ?_
                refine mx_lmul dX8_spelled_56 ?_
                refine mx_iload_n dX8_spelled_57 rfl rfl ?_
                refine mx_i2l dX8_spelled_58 ?_
                refine mx_ladd dX8_spelled_59 ?_
                refine mx_ldc2 q2078 dX8_spelled_60 ?_
                refine mx_lsub dX8_spelled_63 ?_
                refine mx_goto (tgt := 69) dX8_spelled_64 rfl ?_
                refine mx_lstore (al' := [some (iv (108 : Int32)), some (iv (101 : Int32)), some (iv (97 : Int32)), some (iv (115 : Int32)), some (iv (116 : Int32)), some (iv (0 : Int32)), some (jv (((((((((((108 : Int32).toInt64 - (96 : Int64)) * (32 : Int64)) + (101 : Int32).toInt64) - (96 : Int64)) * (32 : Int64)) + (97 : Int32).toInt64) - (96 : Int64)) * (32 : Int64)) + (115 : Int32).toInt64) - (96 : Int64))), none]) dX8_spelled_69 (Nat.le_of_ble_eq_true rfl) rfl ?_
                refine mx_iload dX8_spelled_71 rfl ?_
                refine mx_if_le (tgt := 93) dX8_spelled_73 rfl (fun _ => absurd ‹_› (by decide)) (fun _ => ?_)
                refine mx_lload dX8_spelled_76 rfl ?_
                refine mx_ldc2 q2079 dX8_spelled_78 ?_
                refine mx_lmul dX8_spelled_81 ?_
                refine mx_iload dX8_spelled_82 rfl ?_
                refine mx_i2l dX8_spelled_84 ?_
                refine mx_ladd dX8_spelled_85 ?_
                refine mx_ldc2 q2078 dX8_spelled_86 ?_
                refine mx_lsub dX8_spelled_89 ?_
                refine mx_goto (tgt := 95) dX8_spelled_90 rfl ?_
                refine mx_lstore (al' := [some (iv (108 : Int32)), some (iv (101 : Int32)), some (iv (97 : Int32)), some (iv (115 : Int32)), some (iv (116 : Int32)), some (iv (0 : Int32)), some (jv ((((((((((((((108 : Int32).toInt64 - (96 : Int64)) * (32 : Int64)) + (101 : Int32).toInt64) - (96 : Int64)) * (32 : Int64)) + (97 : Int32).toInt64) - (96 : Int64)) * (32 : Int64)) + (115 : Int32).toInt64) - (96 : Int64)) * (32 : Int64)) + (116 : Int32).toInt64) - (96 : Int64))), none]) dX8_spelled_95 (Nat.le_of_ble_eq_true rfl) rfl ?_
                refine mx_iload dX8_spelled_97 rfl ?_
                refine mx_if_le (tgt := 119) dX8_spelled_99 rfl (fun _ => ?_) (fun _ => absurd ‹_› (by decide))
                refine mx_lload dX8_spelled_119 rfl ?_
                refine mx_lretK rfl dX8_spelled_121 ?_
                refine mx_tj (show ((((((((((((((108 : Int32).toInt64 - (96 : Int64)) * (32 : Int64)) + (101 : Int32).toInt64) - (96 : Int64)) * (32 : Int64)) + (97 : Int32).toInt64) - (96 : Int64)) * (32 : Int64)) + (115 : Int32).toInt64) - (96 : Int64)) * (32 : Int64)) + (116 : Int32).toInt64) - (96 : Int64)) = (12748404 : Int64) by decide) ?_
                refine mx_callV 8 (y' := mi_X8_isWord) (vs := [jv (12748404 : Int64)]) (st := []) (al' := [some (rv a0), some (jv (12748404 : Int64)), none]) cl_8 V_X8_isWord (Or.inl q2196) dX8_isLeast_15 rfl rfl (Nat.le_of_ble_eq_true rfl) (Nat.le_of_ble_eq_true rfl) (ly8_k La0_h) ?_
                refine mx_aload_n dX8_isWord_0 rfl rfl ?_
                refine mx_get 8 50 (ref := "PrairiePoolModel") cl_8 (Nat.le_of_ble_eq_true rfl) (Or.inl q1677) (Or.inl rfl) dX8_isWord_1 (fv_8_50 _ _) (ly8_k La0_h) ?_
                refine mx_iconst dX8_isWord_4 ic_1 ?_
                refine mx_icmp_ne (tgt := 21) dX8_isWord_5 rfl (fun q_ => absurd c70 q_) (fun _ => ?_)
                refine mx_aload_n dX8_isWord_8 rfl rfl ?_
                refine mx_get 8 55 (ref := "PrairiePoolModel") cl_8 (Nat.le_of_ble_eq_true rfl) (Or.inl q1682) (Or.inl rfl) dX8_isWord_9 (fv_8_55 _ _) (ly8_k La0_h) ?_
                refine mx_lload_n dX8_isWord_12 rfl rfl ?_
                refine mx_lif_ne (tgt := 21) dX8_isWord_13 dX8_isWord_14 rfl (fun _ => ?_) (fun q_ => absurd q_ c100)
                refine mx_iconst dX8_isWord_21 ic_0 ?_
                refine mx_zretK rfl dX8_isWord_22 (Or.inl rfl) ?_
                refine mx_zretK rfl dX8_isLeast_18 (Or.inl rfl) ?_
                refine mx_if_eq (tgt := 110) dX8_readAtom_102 rfl (fun _ => ?_) (fun _ => absurd ‹_› (by decide))
                refine mx_bipush dX8_readAtom_110 ib_9 ?_
                refine mx_callV 8 (y' := mi_X8_readFew) (vs := [iv x1, iv (9 : Int32)]) (st := []) (al' := [some (rv a0), some (iv x1), some (iv (9 : Int32))]) cl_8 V_X8_readFew (Or.inl q2283) dX8_readAtom_112 rfl rfl (Nat.le_of_ble_eq_true rfl) (Nat.le_of_ble_eq_true rfl) (ly8_k La0_h) ?_
                refine ma_kv H (fun h131 Xh131 H => ?_) (fun x1 h1 X1 H => mt_out rfl H)
                have H := H Xh131
                have La0_h131 := La0_h.ext Xh131
                exact mx_vret rfl dX8_readAtom_115 H
            · have H := H.2 c100
              refine mx_iconst dX8_isWord_17 ic_1 ?_
              refine mx_goto (tgt := 22) dX8_isWord_18 rfl ?_
              refine mx_zretK rfl dX8_isWord_22 (Or.inr rfl) ?_
              refine mx_zretK rfl dX8_isLeast_18 (Or.inr rfl) ?_
              refine mx_if_ne (tgt := 96) dX8_readAtom_86 rfl (fun _ => ?_) (fun _ => absurd ‹_› (by decide))
              refine mx_aload_n dX8_readAtom_96 rfl rfl ?_
              refine mx_iload_n dX8_readAtom_97 rfl rfl ?_
              refine mx_aload_n dX8_readAtom_98 rfl rfl ?_
              refine mx_callV 8 (y' := mi_X8_isLeast) (vs := []) (st := [iv x1, rv a0]) (al' := [some (rv a0)]) cl_8 V_X8_isLeast (Or.inl q2231) dX8_readAtom_99 rfl rfl (Nat.le_of_ble_eq_true rfl) (Nat.le_of_ble_eq_true rfl) (ly8_k La0_h) ?_
              refine mx_aload_n dX8_isLeast_0 rfl rfl ?_
              refine mx_bipush dX8_isLeast_1 ib_108 ?_
              refine mx_bipush dX8_isLeast_3 ib_101 ?_
              refine mx_bipush dX8_isLeast_5 ib_97 ?_
              refine mx_bipush dX8_isLeast_7 ib_115 ?_
              refine mx_bipush dX8_isLeast_9 ib_116 ?_
              refine mx_iconst dX8_isLeast_11 ic_0 ?_
              refine mx_callS (y' := mi_X8_spelled) (vs := [iv (108 : Int32), iv (101 : Int32), iv (97 : Int32), iv (115 : Int32), iv (116 : Int32), iv (0 : Int32)]) (st := [rv a0]) (al' := [some (iv (108 : Int32)), some (iv (101 : Int32)), some (iv (97 : Int32)), some (iv (115 : Int32)), some (iv (116 : Int32)), some (iv (0 : Int32)), none, none]) S_X8_spelled q2075 dX8_isLeast_12 rfl rfl (Nat.le_of_ble_eq_true rfl) (Nat.le_of_ble_eq_true rfl) ?_
              refine mx_iload_n dX8_spelled_0 rfl rfl ?_
              refine mx_i2l dX8_spelled_1 ?_
              refine mx_ldc2 q2078 dX8_spelled_2 ?_
              refine mx_lsub dX8_spelled_5 ?_
              refine mx_lstore (al' := [some (iv (108 : Int32)), some (iv (101 : Int32)), some (iv (97 : Int32)), some (iv (115 : Int32)), some (iv (116 : Int32)), some (iv (0 : Int32)), some (jv ((108 : Int32).toInt64 - (96 : Int64))), none]) dX8_spelled_6 (Nat.le_of_ble_eq_true rfl) rfl ?_
              refine mx_lload dX8_spelled_8 rfl ?_
              refine mx_ldc2 q2079 dX8_spelled_10 ?_
              refine mx_lmul dX8_spelled_13 ?_
              refine mx_iload_n dX8_spelled_14 rfl rfl ?_
              refine mx_i2l dX8_spelled_15 ?_
              refine mx_ladd dX8_spelled_16 ?_
              refine mx_ldc2 q2078 dX8_spelled_17 ?_
              refine mx_lsub dX8_spelled_20 ?_
              refine mx_lstore (al' := [some (iv (108 : Int32)), some (iv (101 : Int32)), some (iv (97 : Int32)), some (iv (115 : Int32)), some (iv (116 : Int32)), some (iv (0 : Int32)), some (jv (((((108 : Int32).toInt64 - (96 : Int64)) * (32 : Int64)) + (101 : Int32).toInt64) - (96 : Int64))), none]) dX8_spelled_21 (Nat.le_of_ble_eq_true rfl) rfl ?_
              refine mx_iload_n dX8_spelled_23 rfl rfl ?_
              refine mx_if_le (tgt := 43) dX8_spelled_24 rfl (fun _ => absurd ‹_› (by decide)) (fun _ => ?_)
              refine mx_lload dX8_spelled_27 rfl ?_
              refine mx_ldc2 q2079 dX8_spelled_29 ?_
              refine mx_lmul dX8_spelled_32 ?_
              refine mx_iload_n dX8_spelled_33 rfl rfl ?_
              refine mx_i2l dX8_spelled_34 ?_
              refine mx_ladd dX8_spelled_35 ?_
              refine mx_ldc2 q2078 dX8_spelled_36 ?_
              refine mx_lsub dX8_spelled_39 ?_
              refine mx_goto (tgt := 45) dX8_spelled_40 rfl ?_
              refine mx_lstore (al' := [some (iv (108 : Int32)), some (iv (101 : Int32)), some (iv (97 : Int32)), some (iv (115 : Int32)), some (iv (116 : Int32)), some (iv (0 : Int32)), some (jv ((((((((108 : Int32).toInt64 - (96 : Int64)) * (32 : Int64)) + (101 : Int32).toInt64) - (96 : Int64)) * (32 : Int64)) + (97 : Int32).toInt64) - (96 : Int64))), none]) dX8_spelled_45 (Nat.le_of_ble_eq_true rfl) rfl ?_
              refine mx_iload_n dX8_spelled_47 rfl rfl ?_
              refine mx_if_le (tgt := 67) dX8_spelled_48 rfl (fun _ => absurd ‹_› (by decide)) (fun _ => ?_)
              refine mx_lload dX8_spelled_51 rfl ?_
              refine mx_ldc2 q2079 dX8_spelled_53 ?_
              refine mx_lmul dX8_spelled_56 ?_
              refine mx_iload_n dX8_spelled_57 rfl rfl ?_
              refine mx_i2l dX8_spelled_58 ?_
              refine mx_ladd dX8_spelled_59 ?_
              refine mx_ldc2 q2078 dX8_spelled_60 ?_
              refine mx_lsub dX8_spelled_63 ?_
              refine mx_goto (tgt := 69) dX8_spelled_64 rfl ?_
              refine mx_lstore (al' := [some (iv (108 : Int32)), some (iv (101 : Int32)), some (iv (97 : Int32)), some (iv (115 : Int32)), some (iv (116 : Int32)), some (iv (0 : Int32)), some (jv (((((((((((108 : Int32).toInt64 - (96 : Int64)) * (32 : Int64)) + (101 : Int32).toInt64) - (96 : Int64)) * (32 : Int64)) + (97 : Int32).toInt64) - (96 : Int64)) * (32 : Int64)) + (115 : Int32).toInt64) - (96 : Int64))), none]) dX8_spelled_69 (Nat.le_of_ble_eq_true rfl) rfl ?_
              refine mx_iload dX8_spelled_71 rfl ?_
              refine mx_if_le (tgt := 93) dX8_spelled_73 rfl (fun _ => absurd ‹_› (by decide)) (fun _ => ?_)
              refine mx_lload dX8_spelled_76 rfl ?_
              refine mx_ldc2 q2079 dX8_spelled_78 ?_
              refine mx_lmul dX8_spelled_81 ?_
              refine mx_iload dX8_spelled_82 rfl ?_
              refine mx_i2l dX8_spelled_84 ?_
              refine mx_ladd dX8_spelled_85 ?_
              refine mx_ldc2 q2078 dX8_spelled_86 ?_
              refine mx_lsub dX8_spelled_89 ?_
              refine mx_goto (tgt := 95) dX8_spelled_90 rfl ?_
              refine mx_lstore (al' := [some (iv (108 : Int32)), some (iv (101 : Int32)), some (iv (97 : Int32)), some (iv (115 : Int32)), some (iv (116 : Int32)), some (iv (0 : Int32)), some (jv ((((((((((((((108 : Int32).toInt64 - (96 : Int64)) * (32 : Int64)) + (101 : Int32).toInt64) - (96 : Int64)) * (32 : Int64)) + (97 : Int32).toInt64) - (96 : Int64)) * (32 : Int64)) + (115 : Int32).toInt64) - (96 : Int64)) * (32 : Int64)) + (116 : Int32).toInt64) - (96 : Int64))), none]) dX8_spelled_95 (Nat.le_of_ble_eq_true rfl) rfl ?_
              refine mx_iload dX8_spelled_97 rfl ?_
              refine mx_if_le (tgt := 119) dX8_spelled_99 rfl (fun _ => ?_) (fun _ => absurd ‹_› (by decide))
              refine mx_lload dX8_spelled_119 rfl ?_
              refine mx_lretK rfl dX8_spelled_121 ?_
              refine mx_tj (show ((((((((((((((108 : Int32).toInt64 - (96 : Int64)) * (32 : Int64)) + (101 : Int32).toInt64) - (96 : Int64)) * (32 : Int64)) + (97 : Int32).toInt64) - (96 : Int64)) * (32 : Int64)) + (115 : Int32).toInt64) - (96 : Int64)) * (32 : Int64)) + (116 : Int32).toInt64) - (96 : Int64)) = (12748404 : Int64) by decide) ?_
              refine mx_callV 8 (y' := mi_X8_isWord) (vs := [jv (12748404 : Int64)]) (st := []) (al' := [some (rv a0), some (jv (12748404 : Int64)), none]) cl_8 V_X8_isWord (Or.inl q2196) dX8_isLeast_15 rfl rfl (Nat.le_of_ble_eq_true rfl) (Nat.le_of_ble_eq_true rfl) (ly8_k La0_h) ?_
              refine mx_aload_n dX8_isWord_0 rfl rfl ?_
              refine mx_get 8 50 (ref := "PrairiePoolModel") cl_8 (Nat.le_of_ble_eq_true rfl) (Or.inl q1677) (Or.inl rfl) dX8_isWord_1 (fv_8_50 _ _) (ly8_k La0_h) ?_
              refine mx_iconst dX8_isWord_4 ic_1 ?_
              refine mx_icmp_ne (tgt := 21) dX8_isWord_5 rfl (fun q_ => absurd c70 q_) (fun _ => ?_)
              refine mx_aload_n dX8_isWord_8 rfl rfl ?_
              refine mx_get 8 55 (ref := "PrairiePoolModel") cl_8 (Nat.le_of_ble_eq_true rfl) (Or.inl q1682) (Or.inl rfl) dX8_isWord_9 (fv_8_55 _ _) (ly8_k La0_h) ?_
              refine mx_lload_n dX8_isWord_12 rfl rfl ?_
              refine mx_lif_ne (tgt := 21) dX8_isWord_13 dX8_isWord_14 rfl (fun q_ => absurd c100 q_) (fun _ => ?_)
              refine mx_iconst dX8_isWord_17 ic_1 ?_
              refine mx_goto (tgt := 22) dX8_isWord_18 rfl ?_
              refine mx_zretK rfl dX8_isWord_22 (Or.inr rfl) ?_
              refine mx_zretK rfl dX8_isLeast_18 (Or.inr rfl) ?_
              refine mx_if_eq (tgt := 110) dX8_readAtom_102 rfl (fun _ => absurd ‹_› (by decide)) (fun _ => ?_)
              refine mx_bipush dX8_readAtom_105 ib_8 ?_
              refine mx_goto (tgt := 112) dX8_readAtom_107 rfl ?_
              refine mx_callV 8 (y' := mi_X8_readFew) (vs := [iv x1, iv (8 : Int32)]) (st := []) (al' := [some (rv a0), some (iv x1), some (iv (8 : Int32))]) cl_8 V_X8_readFew (Or.inl q2283) dX8_readAtom_112 rfl rfl (Nat.le_of_ble_eq_true rfl) (Nat.le_of_ble_eq_true rfl) (ly8_k La0_h) ?_
              refine ma_kv H (fun h133 Xh133 H => ?_) (fun x1 h1 X1 H => mt_out rfl H)
              have H := H Xh133
              have La0_h133 := La0_h.ext Xh133
              exact mx_vret rfl dX8_readAtom_115 H
        · have H := H.2 c69
          refine mx_iconst dX8_isSign_16 ic_1 ?_
          refine mx_goto (tgt := 21) dX8_isSign_17 rfl ?_
          refine mx_zretK rfl dX8_isSign_21 (Or.inr rfl) ?_
          refine mx_if_eq (tgt := 82) dX8_readAtom_36 rfl (fun _ => absurd ‹_› (by decide)) (fun _ => ?_)
          refine mx_aload_n dX8_readAtom_39 rfl rfl ?_
          refine mx_callV 8 (y' := mi_X8_next) (vs := []) (st := []) (al' := [some (rv a0), none]) cl_8 V_X8_next (Or.inl q2170) dX8_readAtom_40 rfl rfl (Nat.le_of_ble_eq_true rfl) (Nat.le_of_ble_eq_true rfl) (ly8_k La0_h) ?_
          refine ma_kv H (fun h135 Xh135 H => ?_) (fun x1 h1 X1 H => mt_out rfl H)
          have H := H Xh135
          have La0_h135 := La0_h.ext Xh135
          refine mx_aload_n dX8_readAtom_43 rfl rfl ?_
          refine mx_iload_n dX8_readAtom_44 rfl rfl ?_
          refine mx_iconst dX8_readAtom_45 ic_1 ?_
          refine mx_iadd dX8_readAtom_46 ?_
          refine mx_callV 8 (y' := mi_X8_readWhole) (vs := [iv (x1 + (1 : Int32))]) (st := []) (al' := [some (rv a0), some (iv (x1 + (1 : Int32))), none, none]) cl_8 V_X8_readWhole (Or.inl q2255) dX8_readAtom_47 rfl rfl (Nat.le_of_ble_eq_true rfl) (Nat.le_of_ble_eq_true rfl) (ly8_k La0_h135) ?_
          refine ma_kv H (fun h137 Xh137 H => ?_) (fun x1 h1 X1 H => mt_out rfl H)
          have H := H Xh137
          have La0_h137 := La0_h135.ext Xh137
          refine mx_aload_n dX8_readAtom_50 rfl rfl ?_
          refine mx_get 8 48 (ref := "PrairiePoolModel") cl_8 (Nat.le_of_ble_eq_true rfl) (Or.inl q1675) (Or.inl rfl) dX8_readAtom_51 (fv_8_48 _ _) (ly8_k La0_h137) ?_
          refine mx_if_ne (tgt := 70) dX8_readAtom_54 rfl (fun c139 => ?_) (fun c139 => ?_)
          · have H := H.1 c139
            refine mx_aload_n dX8_readAtom_70 rfl rfl ?_
            refine mx_get 8 48 (ref := "PrairiePoolModel") cl_8 (Nat.le_of_ble_eq_true rfl) (Or.inl q1675) (Or.inl rfl) dX8_readAtom_71 (fv_8_48 _ _) (ly8_k La0_h137) ?_
            refine mx_if_ne (tgt := 81) dX8_readAtom_74 rfl (fun _ => ?_) (fun q_ => absurd q_ c139)
            exact mx_vret rfl dX8_readAtom_81 H
          · have H := H.2 c139
            refine mx_aload_n dX8_readAtom_57 rfl rfl ?_
            refine mx_bipush dX8_readAtom_58 ib_41 ?_
            refine mx_callV 8 (y' := mi_X8_isSign) (vs := [iv (41 : Int32)]) (st := []) (al' := [some (rv a0), some (iv (41 : Int32))]) cl_8 V_X8_isSign (Or.inl q2251) dX8_readAtom_60 rfl rfl (Nat.le_of_ble_eq_true rfl) (Nat.le_of_ble_eq_true rfl) (ly8_k La0_h137) ?_
            refine mx_aload_n dX8_isSign_0 rfl rfl ?_
            refine mx_get 8 50 (ref := "PrairiePoolModel") cl_8 (Nat.le_of_ble_eq_true rfl) (Or.inl q1677) (Or.inl rfl) dX8_isSign_1 (fv_8_50 _ _) (ly8_k La0_h137) ?_
            refine mx_iconst dX8_isSign_4 ic_3 ?_
            refine mx_icmp_ne (tgt := 20) dX8_isSign_5 rfl (fun c140 => ?_) (fun c140 => ?_)
            · have H := H.1 c140
              refine mx_iconst dX8_isSign_20 ic_0 ?_
              refine mx_zretK rfl dX8_isSign_21 (Or.inl rfl) ?_
              refine mx_if_ne (tgt := 70) dX8_readAtom_63 rfl (fun _ => absurd ‹_› (by decide)) (fun _ => ?_)
              refine mx_aload_n dX8_readAtom_66 rfl rfl ?_
              refine mx_callV 8 (y' := mi_X8_wrong) (vs := []) (st := []) (al' := [some (rv a0)]) cl_8 V_X8_wrong (Or.inl q2239) dX8_readAtom_67 rfl rfl (Nat.le_of_ble_eq_true rfl) (Nat.le_of_ble_eq_true rfl) (ly8_k La0_h137) ?_
              refine mx_aload_n dX8_wrong_0 rfl rfl ?_
              refine mx_aload_n dX8_wrong_1 rfl rfl ?_
              refine mx_get 8 50 (ref := "PrairiePoolModel") cl_8 (Nat.le_of_ble_eq_true rfl) (Or.inl q1677) (Or.inl rfl) dX8_wrong_2 (fv_8_50 _ _) (ly8_k La0_h137) ?_
              refine mx_iconst dX8_wrong_5 ic_4 ?_
              refine mx_icmp_ne (tgt := 13) dX8_wrong_6 rfl (fun c141 => ?_) (fun c141 => ?_)
              · have H := H.1 c141
                refine mx_iconst dX8_wrong_13 ic_2 ?_
                refine mx_aload_n dX8_wrong_14 rfl rfl ?_
                refine mx_get 8 51 (ref := "PrairiePoolModel") cl_8 (Nat.le_of_ble_eq_true rfl) (Or.inl q1678) (Or.inl rfl) dX8_wrong_15 (fv_8_51 _ _) (ly8_k La0_h137) ?_
                refine mx_callV 8 (y' := mi_X8_fail) (vs := [iv (2 : Int32), iv (ah_I h137 a0 51)]) (st := []) (al' := [some (rv a0), some (iv (2 : Int32)), some (iv (ah_I h137 a0 51))]) cl_8 V_X8_fail (Or.inl q2243) dX8_wrong_18 rfl rfl (Nat.le_of_ble_eq_true rfl) (Nat.le_of_ble_eq_true rfl) (ly8_k La0_h137) ?_
                refine mx_aload_n dX8_fail_0 rfl rfl ?_
                refine mx_get 8 48 (ref := "PrairiePoolModel") cl_8 (Nat.le_of_ble_eq_true rfl) (Or.inl q1675) (Or.inl rfl) dX8_fail_1 (fv_8_48 _ _) (ly8_k La0_h137) ?_
                refine mx_if_le (tgt := 8) dX8_fail_4 rfl (fun c142 => ?_) (fun c142 => ?_)
                · have H := H.1 c142
                  refine mx_aload_n dX8_fail_8 rfl rfl ?_
                  refine mx_iload_n dX8_fail_9 rfl rfl ?_
                  refine mx_putI 8 48 (ref := "PrairiePoolModel") cl_8 (Nat.le_of_ble_eq_true rfl) (Or.inl q1675) (Or.inl rfl) dX8_fail_10 (Or.inl rfl) rfl (ly8_k La0_h137) ?_
                  refine mx_nmI  (fun h143 eh143 Xh143 Kh143 Lh143 => ?_)
                  have H := H h143 eh143 Xh143
                  have La0_h143 := La0_h137.ext Xh143
                  refine mx_aload_n dX8_fail_13 rfl rfl ?_
                  refine mx_iload_n dX8_fail_14 rfl rfl ?_
                  refine mx_putI 8 49 (ref := "PrairiePoolModel") cl_8 (Nat.le_of_ble_eq_true rfl) (Or.inl q1676) (Or.inl rfl) dX8_fail_15 (Or.inl rfl) rfl (ly8_k La0_h143) ?_
                  refine mx_nmI  (fun h144 eh144 Xh144 Kh144 Lh144 => ?_)
                  have H := H h144 eh144 Xh144
                  have Kh144 := Kh144.trans Kh143
                  have Lh144 := Lh144.trans Lh143
                  have La0_h144 := La0_h143.ext Xh144
                  refine mx_vretK rfl dX8_fail_18 ?_
                  refine mx_vretK rfl dX8_wrong_21 ?_
                  refine mx_aload_n dX8_readAtom_70 rfl rfl ?_
                  refine mx_get 8 48 (ref := "PrairiePoolModel") cl_8 (Nat.le_of_ble_eq_true rfl) (Or.inl q1675) (Or.inl rfl) dX8_readAtom_71 (fv_8_48 _ _) (ly8_k La0_h144) ?_
                  refine mx_ti ((ah_skIK eh144 (by decide)).trans (ah_hitI eh143)) ?_
                  refine mx_if_ne (tgt := 81) dX8_readAtom_74 rfl (fun _ => ?_) (fun _ => absurd ‹_› (by decide))
                  exact mx_vret rfl dX8_readAtom_81 H
                · have H := H.2 c142
                  refine mx_vretK rfl dX8_fail_7 ?_
                  refine mx_vretK rfl dX8_wrong_21 ?_
                  refine mx_aload_n dX8_readAtom_70 rfl rfl ?_
                  refine mx_get 8 48 (ref := "PrairiePoolModel") cl_8 (Nat.le_of_ble_eq_true rfl) (Or.inl q1675) (Or.inl rfl) dX8_readAtom_71 (fv_8_48 _ _) (ly8_k La0_h137) ?_
                  refine mx_if_ne (tgt := 81) dX8_readAtom_74 rfl (fun q_ => absurd c139 q_) (fun _ => ?_)
                  refine mx_aload_n dX8_readAtom_77 rfl rfl ?_
                  refine mx_callV 8 (y' := mi_X8_next) (vs := []) (st := []) (al' := [some (rv a0), none]) cl_8 V_X8_next (Or.inl q2170) dX8_readAtom_78 rfl rfl (Nat.le_of_ble_eq_true rfl) (Nat.le_of_ble_eq_true rfl) (ly8_k La0_h137) ?_
                  refine ma_kv H (fun h145 Xh145 H => ?_) (fun x1 h1 X1 H => mt_out rfl H)
                  have H := H Xh145
                  have La0_h145 := La0_h137.ext Xh145
                  exact mx_vret rfl dX8_readAtom_81 H
              · have H := H.2 c141
                refine mx_iconst dX8_wrong_9 ic_1 ?_
                refine mx_goto (tgt := 14) dX8_wrong_10 rfl ?_
                refine mx_aload_n dX8_wrong_14 rfl rfl ?_
                refine mx_get 8 51 (ref := "PrairiePoolModel") cl_8 (Nat.le_of_ble_eq_true rfl) (Or.inl q1678) (Or.inl rfl) dX8_wrong_15 (fv_8_51 _ _) (ly8_k La0_h137) ?_
                refine mx_callV 8 (y' := mi_X8_fail) (vs := [iv (1 : Int32), iv (ah_I h137 a0 51)]) (st := []) (al' := [some (rv a0), some (iv (1 : Int32)), some (iv (ah_I h137 a0 51))]) cl_8 V_X8_fail (Or.inl q2243) dX8_wrong_18 rfl rfl (Nat.le_of_ble_eq_true rfl) (Nat.le_of_ble_eq_true rfl) (ly8_k La0_h137) ?_
                refine mx_aload_n dX8_fail_0 rfl rfl ?_
                refine mx_get 8 48 (ref := "PrairiePoolModel") cl_8 (Nat.le_of_ble_eq_true rfl) (Or.inl q1675) (Or.inl rfl) dX8_fail_1 (fv_8_48 _ _) (ly8_k La0_h137) ?_
                refine mx_if_le (tgt := 8) dX8_fail_4 rfl (fun c147 => ?_) (fun c147 => ?_)
                · have H := H.1 c147
                  refine mx_aload_n dX8_fail_8 rfl rfl ?_
                  refine mx_iload_n dX8_fail_9 rfl rfl ?_
                  refine mx_putI 8 48 (ref := "PrairiePoolModel") cl_8 (Nat.le_of_ble_eq_true rfl) (Or.inl q1675) (Or.inl rfl) dX8_fail_10 (Or.inl rfl) rfl (ly8_k La0_h137) ?_
                  refine mx_nmI  (fun h148 eh148 Xh148 Kh148 Lh148 => ?_)
                  have H := H h148 eh148 Xh148
                  have La0_h148 := La0_h137.ext Xh148
                  refine mx_aload_n dX8_fail_13 rfl rfl ?_
                  refine mx_iload_n dX8_fail_14 rfl rfl ?_
                  refine mx_putI 8 49 (ref := "PrairiePoolModel") cl_8 (Nat.le_of_ble_eq_true rfl) (Or.inl q1676) (Or.inl rfl) dX8_fail_15 (Or.inl rfl) rfl (ly8_k La0_h148) ?_
                  refine mx_nmI  (fun h149 eh149 Xh149 Kh149 Lh149 => ?_)
                  have H := H h149 eh149 Xh149
                  have Kh149 := Kh149.trans Kh148
                  have Lh149 := Lh149.trans Lh148
                  have La0_h149 := La0_h148.ext Xh149
                  refine mx_vretK rfl dX8_fail_18 ?_
                  refine mx_vretK rfl dX8_wrong_21 ?_
                  refine mx_aload_n dX8_readAtom_70 rfl rfl ?_
                  refine mx_get 8 48 (ref := "PrairiePoolModel") cl_8 (Nat.le_of_ble_eq_true rfl) (Or.inl q1675) (Or.inl rfl) dX8_readAtom_71 (fv_8_48 _ _) (ly8_k La0_h149) ?_
                  refine mx_ti ((ah_skIK eh149 (by decide)).trans (ah_hitI eh148)) ?_
                  refine mx_if_ne (tgt := 81) dX8_readAtom_74 rfl (fun _ => ?_) (fun _ => absurd ‹_› (by decide))
                  exact mx_vret rfl dX8_readAtom_81 H
                · have H := H.2 c147
                  refine mx_vretK rfl dX8_fail_7 ?_
                  refine mx_vretK rfl dX8_wrong_21 ?_
                  refine mx_aload_n dX8_readAtom_70 rfl rfl ?_
                  refine mx_get 8 48 (ref := "PrairiePoolModel") cl_8 (Nat.le_of_ble_eq_true rfl) (Or.inl q1675) (Or.inl rfl) dX8_readAtom_71 (fv_8_48 _ _) (ly8_k La0_h137) ?_
                  refine mx_if_ne (tgt := 81) dX8_readAtom_74 rfl (fun q_ => absurd c139 q_) (fun _ => ?_)
                  refine mx_aload_n dX8_readAtom_77 rfl rfl ?_
                  refine mx_callV 8 (y' := mi_X8_next) (vs := []) (st := []) (al' := [some (rv a0), none]) cl_8 V_X8_next (Or.inl q2170) dX8_readAtom_78 rfl rfl (Nat.le_of_ble_eq_true rfl) (Nat.le_of_ble_eq_true rfl) (ly8_k La0_h137) ?_
                  refine ma_kv H (fun h150 Xh150 H => ?_) (fun x1 h1 X1 H => mt_out rfl H)
                  have H := H Xh150
                  have La0_h150 := La0_h137.ext Xh150
                  exact mx_vret rfl dX8_readAtom_81 H
            · have H := H.2 c140
              refine mx_aload_n dX8_isSign_8 rfl rfl ?_
              refine mx_get 8 53 (ref := "PrairiePoolModel") cl_8 (Nat.le_of_ble_eq_true rfl) (Or.inl q1680) (Or.inl rfl) dX8_isSign_9 (fv_8_53 _ _) (ly8_k La0_h137) ?_
              refine mx_iload_n dX8_isSign_12 rfl rfl ?_
              refine mx_icmp_ne (tgt := 20) dX8_isSign_13 rfl (fun c152 => ?_) (fun c152 => ?_)
              · have H := H.1 c152
                refine mx_iconst dX8_isSign_20 ic_0 ?_
                refine mx_zretK rfl dX8_isSign_21 (Or.inl rfl) ?_
                refine mx_if_ne (tgt := 70) dX8_readAtom_63 rfl (fun _ => absurd ‹_› (by decide)) (fun _ => ?_)
                refine mx_aload_n dX8_readAtom_66 rfl rfl ?_
                refine mx_callV 8 (y' := mi_X8_wrong) (vs := []) (st := []) (al' := [some (rv a0)]) cl_8 V_X8_wrong (Or.inl q2239) dX8_readAtom_67 rfl rfl (Nat.le_of_ble_eq_true rfl) (Nat.le_of_ble_eq_true rfl) (ly8_k La0_h137) ?_
                refine mx_aload_n dX8_wrong_0 rfl rfl ?_
                refine mx_aload_n dX8_wrong_1 rfl rfl ?_
                refine mx_get 8 50 (ref := "PrairiePoolModel") cl_8 (Nat.le_of_ble_eq_true rfl) (Or.inl q1677) (Or.inl rfl) dX8_wrong_2 (fv_8_50 _ _) (ly8_k La0_h137) ?_
                refine mx_iconst dX8_wrong_5 ic_4 ?_
                refine mx_icmp_ne (tgt := 13) dX8_wrong_6 rfl (fun c153 => ?_) (fun c153 => ?_)
                · have H := H.1 c153
                  refine mx_iconst dX8_wrong_13 ic_2 ?_
                  refine mx_aload_n dX8_wrong_14 rfl rfl ?_
                  refine mx_get 8 51 (ref := "PrairiePoolModel") cl_8 (Nat.le_of_ble_eq_true rfl) (Or.inl q1678) (Or.inl rfl) dX8_wrong_15 (fv_8_51 _ _) (ly8_k La0_h137) ?_
                  refine mx_callV 8 (y' := mi_X8_fail) (vs := [iv (2 : Int32), iv (ah_I h137 a0 51)]) (st := []) (al' := [some (rv a0), some (iv (2 : Int32)), some (iv (ah_I h137 a0 51))]) cl_8 V_X8_fail (Or.inl q2243) dX8_wrong_18 rfl rfl (Nat.le_of_ble_eq_true rfl) (Nat.le_of_ble_eq_true rfl) (ly8_k La0_h137) ?_
                  refine mx_aload_n dX8_fail_0 rfl rfl ?_
                  refine mx_get 8 48 (ref := "PrairiePoolModel") cl_8 (Nat.le_of_ble_eq_true rfl) (Or.inl q1675) (Or.inl rfl) dX8_fail_1 (fv_8_48 _ _) (ly8_k La0_h137) ?_
                  refine mx_if_le (tgt := 8) dX8_fail_4 rfl (fun c154 => ?_) (fun c154 => ?_)
                  · have H := H.1 c154
                    refine mx_aload_n dX8_fail_8 rfl rfl ?_
                    refine mx_iload_n dX8_fail_9 rfl rfl ?_
                    refine mx_putI 8 48 (ref := "PrairiePoolModel") cl_8 (Nat.le_of_ble_eq_true rfl) (Or.inl q1675) (Or.inl rfl) dX8_fail_10 (Or.inl rfl) rfl (ly8_k La0_h137) ?_
                    refine mx_nmI  (fun h155 eh155 Xh155 Kh155 Lh155 => ?_)
                    have H := H h155 eh155 Xh155
                    have La0_h155 := La0_h137.ext Xh155
                    refine mx_aload_n dX8_fail_13 rfl rfl ?_
                    refine mx_iload_n dX8_fail_14 rfl rfl ?_
                    refine mx_putI 8 49 (ref := "PrairiePoolModel") cl_8 (Nat.le_of_ble_eq_true rfl) (Or.inl q1676) (Or.inl rfl) dX8_fail_15 (Or.inl rfl) rfl (ly8_k La0_h155) ?_
                    refine mx_nmI  (fun h156 eh156 Xh156 Kh156 Lh156 => ?_)
                    have H := H h156 eh156 Xh156
                    have Kh156 := Kh156.trans Kh155
                    have Lh156 := Lh156.trans Lh155
                    have La0_h156 := La0_h155.ext Xh156
                    refine mx_vretK rfl dX8_fail_18 ?_
                    refine mx_vretK rfl dX8_wrong_21 ?_
                    refine mx_aload_n dX8_readAtom_70 rfl rfl ?_
                    refine mx_get 8 48 (ref := "PrairiePoolModel") cl_8 (Nat.le_of_ble_eq_true rfl) (Or.inl q1675) (Or.inl rfl) dX8_readAtom_71 (fv_8_48 _ _) (ly8_k La0_h156) ?_
                    refine mx_ti ((ah_skIK eh156 (by decide)).trans (ah_hitI eh155)) ?_
                    refine mx_if_ne (tgt := 81) dX8_readAtom_74 rfl (fun _ => ?_) (fun _ => absurd ‹_› (by decide))
                    exact mx_vret rfl dX8_readAtom_81 H
                  · have H := H.2 c154
                    refine mx_vretK rfl dX8_fail_7 ?_
                    refine mx_vretK rfl dX8_wrong_21 ?_
                    refine mx_aload_n dX8_readAtom_70 rfl rfl ?_
                    refine mx_get 8 48 (ref := "PrairiePoolModel") cl_8 (Nat.le_of_ble_eq_true rfl) (Or.inl q1675) (Or.inl rfl) dX8_readAtom_71 (fv_8_48 _ _) (ly8_k La0_h137) ?_
                    refine mx_if_ne (tgt := 81) dX8_readAtom_74 rfl (fun q_ => absurd c139 q_) (fun _ => ?_)
                    refine mx_aload_n dX8_readAtom_77 rfl rfl ?_
                    refine mx_callV 8 (y' := mi_X8_next) (vs := []) (st := []) (al' := [some (rv a0), none]) cl_8 V_X8_next (Or.inl q2170) dX8_readAtom_78 rfl rfl (Nat.le_of_ble_eq_true rfl) (Nat.le_of_ble_eq_true rfl) (ly8_k La0_h137) ?_
                    refine ma_kv H (fun h157 Xh157 H => ?_) (fun x1 h1 X1 H => mt_out rfl H)
                    have H := H Xh157
                    have La0_h157 := La0_h137.ext Xh157
                    exact mx_vret rfl dX8_readAtom_81 H
                · have H := H.2 c153
                  refine mx_iconst dX8_wrong_9 ic_1 ?_
                  refine mx_goto (tgt := 14) dX8_wrong_10 rfl ?_
                  refine mx_aload_n dX8_wrong_14 rfl rfl ?_
                  refine mx_get 8 51 (ref := "PrairiePoolModel") cl_8 (Nat.le_of_ble_eq_true rfl) (Or.inl q1678) (Or.inl rfl) dX8_wrong_15 (fv_8_51 _ _) (ly8_k La0_h137) ?_
                  refine mx_callV 8 (y' := mi_X8_fail) (vs := [iv (1 : Int32), iv (ah_I h137 a0 51)]) (st := []) (al' := [some (rv a0), some (iv (1 : Int32)), some (iv (ah_I h137 a0 51))]) cl_8 V_X8_fail (Or.inl q2243) dX8_wrong_18 rfl rfl (Nat.le_of_ble_eq_true rfl) (Nat.le_of_ble_eq_true rfl) (ly8_k La0_h137) ?_
                  refine mx_aload_n dX8_fail_0 rfl rfl ?_
                  refine mx_get 8 48 (ref := "PrairiePoolModel") cl_8 (Nat.le_of_ble_eq_true rfl) (Or.inl q1675) (Or.inl rfl) dX8_fail_1 (fv_8_48 _ _) (ly8_k La0_h137) ?_
                  refine mx_if_le (tgt := 8) dX8_fail_4 rfl (fun c159 => ?_) (fun c159 => ?_)
                  · have H := H.1 c159
                    refine mx_aload_n dX8_fail_8 rfl rfl ?_
                    refine mx_iload_n dX8_fail_9 rfl rfl ?_
                    refine mx_putI 8 48 (ref := "PrairiePoolModel") cl_8 (Nat.le_of_ble_eq_true rfl) (Or.inl q1675) (Or.inl rfl) dX8_fail_10 (Or.inl rfl) rfl (ly8_k La0_h137) ?_
                    refine mx_nmI  (fun h160 eh160 Xh160 Kh160 Lh160 => ?_)
                    have H := H h160 eh160 Xh160
                    have La0_h160 := La0_h137.ext Xh160
                    refine mx_aload_n dX8_fail_13 rfl rfl ?_
                    refine mx_iload_n dX8_fail_14 rfl rfl ?_
                    refine mx_putI 8 49 (ref := "PrairiePoolModel") cl_8 (Nat.le_of_ble_eq_true rfl) (Or.inl q1676) (Or.inl rfl) dX8_fail_15 (Or.inl rfl) rfl (ly8_k La0_h160) ?_
                    refine mx_nmI  (fun h161 eh161 Xh161 Kh161 Lh161 => ?_)
                    have H := H h161 eh161 Xh161
                    have Kh161 := Kh161.trans Kh160
                    have Lh161 := Lh161.trans Lh160
                    have La0_h161 := La0_h160.ext Xh161
                    refine mx_vretK rfl dX8_fail_18 ?_
                    refine mx_vretK rfl dX8_wrong_21 ?_
                    refine mx_aload_n dX8_readAtom_70 rfl rfl ?_
                    refine mx_get 8 48 (ref := "PrairiePoolModel") cl_8 (Nat.le_of_ble_eq_true rfl) (Or.inl q1675) (Or.inl rfl) dX8_readAtom_71 (fv_8_48 _ _) (ly8_k La0_h161) ?_
                    refine mx_ti ((ah_skIK eh161 (by decide)).trans (ah_hitI eh160)) ?_
                    refine mx_if_ne (tgt := 81) dX8_readAtom_74 rfl (fun _ => ?_) (fun _ => absurd ‹_› (by decide))
                    exact mx_vret rfl dX8_readAtom_81 H
                  · have H := H.2 c159
                    refine mx_vretK rfl dX8_fail_7 ?_
                    refine mx_vretK rfl dX8_wrong_21 ?_
                    refine mx_aload_n dX8_readAtom_70 rfl rfl ?_
                    refine mx_get 8 48 (ref := "PrairiePoolModel") cl_8 (Nat.le_of_ble_eq_true rfl) (Or.inl q1675) (Or.inl rfl) dX8_readAtom_71 (fv_8_48 _ _) (ly8_k La0_h137) ?_
                    refine mx_if_ne (tgt := 81) dX8_readAtom_74 rfl (fun q_ => absurd c139 q_) (fun _ => ?_)
                    refine mx_aload_n dX8_readAtom_77 rfl rfl ?_
                    refine mx_callV 8 (y' := mi_X8_next) (vs := []) (st := []) (al' := [some (rv a0), none]) cl_8 V_X8_next (Or.inl q2170) dX8_readAtom_78 rfl rfl (Nat.le_of_ble_eq_true rfl) (Nat.le_of_ble_eq_true rfl) (ly8_k La0_h137) ?_
                    refine ma_kv H (fun h162 Xh162 H => ?_) (fun x1 h1 X1 H => mt_out rfl H)
                    have H := H Xh162
                    have La0_h162 := La0_h137.ext Xh162
                    exact mx_vret rfl dX8_readAtom_81 H
              · have H := H.2 c152
                refine mx_iconst dX8_isSign_16 ic_1 ?_
                refine mx_goto (tgt := 21) dX8_isSign_17 rfl ?_
                refine mx_zretK rfl dX8_isSign_21 (Or.inr rfl) ?_
                refine mx_if_ne (tgt := 70) dX8_readAtom_63 rfl (fun _ => ?_) (fun _ => absurd ‹_› (by decide))
                refine mx_aload_n dX8_readAtom_70 rfl rfl ?_
                refine mx_get 8 48 (ref := "PrairiePoolModel") cl_8 (Nat.le_of_ble_eq_true rfl) (Or.inl q1675) (Or.inl rfl) dX8_readAtom_71 (fv_8_48 _ _) (ly8_k La0_h137) ?_
                refine mx_if_ne (tgt := 81) dX8_readAtom_74 rfl (fun q_ => absurd c139 q_) (fun _ => ?_)
                refine mx_aload_n dX8_readAtom_77 rfl rfl ?_
                refine mx_callV 8 (y' := mi_X8_next) (vs := []) (st := []) (al' := [some (rv a0), none]) cl_8 V_X8_next (Or.inl q2170) dX8_readAtom_78 rfl rfl (Nat.le_of_ble_eq_true rfl) (Nat.le_of_ble_eq_true rfl) (ly8_k La0_h137) ?_
                refine ma_kv H (fun h164 Xh164 H => ?_) (fun x1 h1 X1 H => mt_out rfl H)
                have H := H Xh164
                have La0_h164 := La0_h137.ext Xh164
                exact mx_vret rfl dX8_readAtom_81 H
    · have H := H.2 c2
      refine mx_aload_n dX8_readAtom_16 rfl rfl ?_
      refine mx_iconst dX8_readAtom_17 ic_0 ?_
      refine mx_aload_n dX8_readAtom_18 rfl rfl ?_
      refine mx_get 8 53 (ref := "PrairiePoolModel") cl_8 (Nat.le_of_ble_eq_true rfl) (Or.inl q1680) (Or.inl rfl) dX8_readAtom_19 (fv_8_53 _ _) (ly8_k La0_h) ?_
      refine mx_callV 8 (y' := mi_X8_mark) (vs := [iv (0 : Int32), iv (ah_I h a0 53)]) (st := []) (al' := [some (rv a0), some (iv (0 : Int32)), some (iv (ah_I h a0 53))]) cl_8 V_X8_mark (Or.inl q2279) dX8_readAtom_22 rfl rfl (Nat.le_of_ble_eq_true rfl) (Nat.le_of_ble_eq_true rfl) (ly8_k La0_h) ?_
      refine mx_aload_n dX8_mark_0 rfl rfl ?_
      refine mx_get 8 64 (ref := "PrairiePoolModel") cl_8 (Nat.le_of_ble_eq_true rfl) (Or.inl q1691) (Or.inl rfl) dX8_mark_1 (fv_8_64 _ _) (ly8_k La0_h) ?_
      refine mx_tr (ly8_R_0_64 La0_h) ?_
      refine mx_aload_n dX8_mark_4 rfl rfl ?_
      refine mx_get 8 58 (ref := "PrairiePoolModel") cl_8 (Nat.le_of_ble_eq_true rfl) (Or.inl q1685) (Or.inl rfl) dX8_mark_5 (fv_8_58 _ _) (ly8_k La0_h) ?_
      refine mx_ldcw q2096 dX8_mark_8 ?_
      refine mx_iload_n dX8_mark_11 rfl rfl ?_
      refine mx_imul dX8_mark_12 ?_
      refine mx_iload_n dX8_mark_13 rfl rfl ?_
      refine mx_iadd dX8_mark_14 ?_
      obtain ⟨k166, H⟩ := H
      refine my_iast dX8_mark_15 rfl (ly8_A_41 La0_h k166) ?_
      refine mx_nmI  (fun h167 eh167 Xh167 Kh167 Lh167 => ?_)
      have H := H h167 eh167 Xh167
      have La0_h167 := La0_h.ext Xh167
      refine mx_aload_n dX8_mark_16 rfl rfl ?_
      refine mx_dup_r dX8_mark_17 ?_
      refine mx_get 8 58 (ref := "PrairiePoolModel") cl_8 (Nat.le_of_ble_eq_true rfl) (Or.inl q1685) (Or.inl rfl) dX8_mark_18 (fv_8_58 _ _) (ly8_k La0_h167) ?_
      refine mx_ti (ah_skIA eh167 (by omega)) ?_
      refine mx_iconst dX8_mark_21 ic_1 ?_
      refine mx_iadd dX8_mark_22 ?_
      refine mx_putI 8 58 (ref := "PrairiePoolModel") cl_8 (Nat.le_of_ble_eq_true rfl) (Or.inl q1685) (Or.inl rfl) dX8_mark_23 (Or.inl rfl) rfl (ly8_k La0_h167) ?_
      refine mx_nmI  (fun h168 eh168 Xh168 Kh168 Lh168 => ?_)
      have H := H h168 eh168 Xh168
      have Kh168 := Kh168.trans Kh167
      have Lh168 := Lh168.trans Lh167
      have La0_h168 := La0_h167.ext Xh168
      refine mx_vretK rfl dX8_mark_26 ?_
      refine mx_aload_n dX8_readAtom_25 rfl rfl ?_
      refine mx_callV 8 (y' := mi_X8_next) (vs := []) (st := []) (al' := [some (rv a0), none]) cl_8 V_X8_next (Or.inl q2170) dX8_readAtom_26 rfl rfl (Nat.le_of_ble_eq_true rfl) (Nat.le_of_ble_eq_true rfl) (ly8_k La0_h168) ?_
      refine ma_kv H (fun h169 Xh169 H => ?_) (fun x1 h1 X1 H => mt_out rfl H)
      have H := H Xh169
      have La0_h169 := La0_h168.ext Xh169
      exact mx_vret rfl dX8_readAtom_29 H
  · have H := H.2 c1
    exact mx_vret rfl dX8_readAtom_7 H
theorem v_X8_readAtom_164 {G : ma_G} {d : Nat} {a0 : Nat} {x2 : Int32} {x3 : Int32} {h : ah_T} {Q : Option ma_V → ah_T → Prop} {E : Nat → ah_T → Prop} (La0_h : LY8 h a0) (H : (x2 < 0 → vp_in (ah_I h a0 58) 1100 ∧ ∀ h3 : ah_T, h3 = ah_wI h (a0 + 41) (ah_I h a0 58).toNatClampNeg (((1048576 : Int32) * (2 : Int32)) + x3) → ah_ext h h3 → ∀ h4 : ah_T, h4 = ah_wI h3 a0 58 ((ah_I h a0 58) + (1 : Int32)) → ah_ext h3 h4 → MX G mi_X8_next (d + 1) 0 [some (rv a0), none] [] h4 (Qv fun h5 => ah_ext h4 h5 → Q none h5) E) ∧ (¬ x2 < 0 → vp_in (ah_I h a0 58) 1100 ∧ ∀ h8 : ah_T, h8 = ah_wI h (a0 + 41) (ah_I h a0 58).toNatClampNeg (((1048576 : Int32) * (1 : Int32)) + x2) → ah_ext h h8 → ∀ h9 : ah_T, h9 = ah_wI h8 a0 58 ((ah_I h a0 58) + (1 : Int32)) → ah_ext h8 h9 → MX G mi_X8_next (d + 1) 0 [some (rv a0), none] [] h9 (Qv fun h10 => ah_ext h9 h10 → Q none h10) E)) : MX G mi_X8_readAtom (d + 2) 164 [some (rv a0), none, some (iv x2), some (iv x3)] [] h Q E := by
  refine mx_aload_n dX8_readAtom_164 rfl rfl ?_
  refine mx_iload_n dX8_readAtom_165 rfl rfl ?_
  refine mx_if_lt (tgt := 173) dX8_readAtom_166 rfl (fun c1 => ?_) (fun c1 => ?_)
  · have H := H.1 c1
    refine mx_iconst dX8_readAtom_173 ic_2 ?_
    refine mx_iload_n dX8_readAtom_174 rfl rfl ?_
    refine mx_if_lt (tgt := 182) dX8_readAtom_175 rfl (fun _ => ?_) (fun q_ => absurd c1 q_)
    refine mx_iload_n dX8_readAtom_182 rfl rfl ?_
    refine mx_callV 8 (y' := mi_X8_mark) (vs := [iv (2 : Int32), iv x3]) (st := []) (al' := [some (rv a0), some (iv (2 : Int32)), some (iv x3)]) cl_8 V_X8_mark (Or.inl q2279) dX8_readAtom_183 rfl rfl (Nat.le_of_ble_eq_true rfl) (Nat.le_of_ble_eq_true rfl) (ly8_k La0_h) ?_
    refine mx_aload_n dX8_mark_0 rfl rfl ?_
    refine mx_get 8 64 (ref := "PrairiePoolModel") cl_8 (Nat.le_of_ble_eq_true rfl) (Or.inl q1691) (Or.inl rfl) dX8_mark_1 (fv_8_64 _ _) (ly8_k La0_h) ?_
    refine mx_tr (ly8_R_0_64 La0_h) ?_
    refine mx_aload_n dX8_mark_4 rfl rfl ?_
    refine mx_get 8 58 (ref := "PrairiePoolModel") cl_8 (Nat.le_of_ble_eq_true rfl) (Or.inl q1685) (Or.inl rfl) dX8_mark_5 (fv_8_58 _ _) (ly8_k La0_h) ?_
    refine mx_ldcw q2096 dX8_mark_8 ?_
    refine mx_iload_n dX8_mark_11 rfl rfl ?_
    refine mx_imul dX8_mark_12 ?_
    refine mx_iload_n dX8_mark_13 rfl rfl ?_
    refine mx_iadd dX8_mark_14 ?_
    obtain ⟨k2, H⟩ := H
    refine my_iast dX8_mark_15 rfl (ly8_A_41 La0_h k2) ?_
    refine mx_nmI  (fun h3 eh3 Xh3 Kh3 Lh3 => ?_)
    have H := H h3 eh3 Xh3
    have La0_h3 := La0_h.ext Xh3
    refine mx_aload_n dX8_mark_16 rfl rfl ?_
    refine mx_dup_r dX8_mark_17 ?_
    refine mx_get 8 58 (ref := "PrairiePoolModel") cl_8 (Nat.le_of_ble_eq_true rfl) (Or.inl q1685) (Or.inl rfl) dX8_mark_18 (fv_8_58 _ _) (ly8_k La0_h3) ?_
    refine mx_ti (ah_skIA eh3 (by omega)) ?_
    refine mx_iconst dX8_mark_21 ic_1 ?_
    refine mx_iadd dX8_mark_22 ?_
    refine mx_putI 8 58 (ref := "PrairiePoolModel") cl_8 (Nat.le_of_ble_eq_true rfl) (Or.inl q1685) (Or.inl rfl) dX8_mark_23 (Or.inl rfl) rfl (ly8_k La0_h3) ?_
    refine mx_nmI  (fun h4 eh4 Xh4 Kh4 Lh4 => ?_)
    have H := H h4 eh4 Xh4
    have Kh4 := Kh4.trans Kh3
    have Lh4 := Lh4.trans Lh3
    have La0_h4 := La0_h3.ext Xh4
    refine mx_vretK rfl dX8_mark_26 ?_
    refine mx_aload_n dX8_readAtom_186 rfl rfl ?_
    refine mx_callV 8 (y' := mi_X8_next) (vs := []) (st := []) (al' := [some (rv a0), none]) cl_8 V_X8_next (Or.inl q2170) dX8_readAtom_187 rfl rfl (Nat.le_of_ble_eq_true rfl) (Nat.le_of_ble_eq_true rfl) (ly8_k La0_h4) ?_
    refine ma_kv H (fun h5 Xh5 H => ?_) (fun x1 h1 X1 H => mt_out rfl H)
    have H := H Xh5
    have La0_h5 := La0_h4.ext Xh5
    exact mx_vret rfl dX8_readAtom_190 H
  · have H := H.2 c1
    refine mx_iconst dX8_readAtom_169 ic_1 ?_
    refine mx_goto (tgt := 174) dX8_readAtom_170 rfl ?_
    refine mx_iload_n dX8_readAtom_174 rfl rfl ?_
    refine mx_if_lt (tgt := 182) dX8_readAtom_175 rfl (fun q_ => absurd q_ c1) (fun _ => ?_)
    refine mx_iload_n dX8_readAtom_178 rfl rfl ?_
    refine mx_goto (tgt := 183) dX8_readAtom_179 rfl ?_
    refine mx_callV 8 (y' := mi_X8_mark) (vs := [iv (1 : Int32), iv x2]) (st := []) (al' := [some (rv a0), some (iv (1 : Int32)), some (iv x2)]) cl_8 V_X8_mark (Or.inl q2279) dX8_readAtom_183 rfl rfl (Nat.le_of_ble_eq_true rfl) (Nat.le_of_ble_eq_true rfl) (ly8_k La0_h) ?_
    refine mx_aload_n dX8_mark_0 rfl rfl ?_
    refine mx_get 8 64 (ref := "PrairiePoolModel") cl_8 (Nat.le_of_ble_eq_true rfl) (Or.inl q1691) (Or.inl rfl) dX8_mark_1 (fv_8_64 _ _) (ly8_k La0_h) ?_
    refine mx_tr (ly8_R_0_64 La0_h) ?_
    refine mx_aload_n dX8_mark_4 rfl rfl ?_
    refine mx_get 8 58 (ref := "PrairiePoolModel") cl_8 (Nat.le_of_ble_eq_true rfl) (Or.inl q1685) (Or.inl rfl) dX8_mark_5 (fv_8_58 _ _) (ly8_k La0_h) ?_
    refine mx_ldcw q2096 dX8_mark_8 ?_
    refine mx_iload_n dX8_mark_11 rfl rfl ?_
    refine mx_imul dX8_mark_12 ?_
    refine mx_iload_n dX8_mark_13 rfl rfl ?_
    refine mx_iadd dX8_mark_14 ?_
    obtain ⟨k7, H⟩ := H
    refine my_iast dX8_mark_15 rfl (ly8_A_41 La0_h k7) ?_
    refine mx_nmI  (fun h8 eh8 Xh8 Kh8 Lh8 => ?_)
    have H := H h8 eh8 Xh8
    have La0_h8 := La0_h.ext Xh8
    refine mx_aload_n dX8_mark_16 rfl rfl ?_
    refine mx_dup_r dX8_mark_17 ?_
    refine mx_get 8 58 (ref := "PrairiePoolModel") cl_8 (Nat.le_of_ble_eq_true rfl) (Or.inl q1685) (Or.inl rfl) dX8_mark_18 (fv_8_58 _ _) (ly8_k La0_h8) ?_
    refine mx_ti (ah_skIA eh8 (by omega)) ?_
    refine mx_iconst dX8_mark_21 ic_1 ?_
    refine mx_iadd dX8_mark_22 ?_
    refine mx_putI 8 58 (ref := "PrairiePoolModel") cl_8 (Nat.le_of_ble_eq_true rfl) (Or.inl q1685) (Or.inl rfl) dX8_mark_23 (Or.inl rfl) rfl (ly8_k La0_h8) ?_
    refine mx_nmI  (fun h9 eh9 Xh9 Kh9 Lh9 => ?_)
    have H := H h9 eh9 Xh9
    have Kh9 := Kh9.trans Kh8
    have Lh9 := Lh9.trans Lh8
    have La0_h9 := La0_h8.ext Xh9
    refine mx_vretK rfl dX8_mark_26 ?_
    refine mx_aload_n dX8_readAtom_186 rfl rfl ?_
    refine mx_callV 8 (y' := mi_X8_next) (vs := []) (st := []) (al' := [some (rv a0), none]) cl_8 V_X8_next (Or.inl q2170) dX8_readAtom_187 rfl rfl (Nat.le_of_ble_eq_true rfl) (Nat.le_of_ble_eq_true rfl) (ly8_k La0_h9) ?_
    refine ma_kv H (fun h10 Xh10 H => ?_) (fun x1 h1 X1 H => mt_out rfl H)
    have H := H Xh10
    have La0_h10 := La0_h9.ext Xh10
    exact mx_vret rfl dX8_readAtom_190 H
theorem v_X8_mark {G : ma_G} {d : Nat} {a0 : Nat} {x1 : Int32} {x2 : Int32} {h : ah_T} {Q : Option ma_V → ah_T → Prop} {E : Nat → ah_T → Prop} (La0_h : LY8 h a0) (H : vp_in (ah_I h a0 58) 1100 ∧ ∀ h2 : ah_T, h2 = ah_wI h (a0 + 41) (ah_I h a0 58).toNatClampNeg (((1048576 : Int32) * x1) + x2) → ah_ext h h2 → ∀ h3 : ah_T, h3 = ah_wI h2 a0 58 ((ah_I h a0 58) + (1 : Int32)) → ah_ext h2 h3 → Q none h3) : MX G mi_X8_mark d 0 [some (rv a0), some (iv x1), some (iv x2)] [] h Q E := by
  refine mx_aload_n dX8_mark_0 rfl rfl ?_
  refine mx_get 8 64 (ref := "PrairiePoolModel") cl_8 (Nat.le_of_ble_eq_true rfl) (Or.inl q1691) (Or.inl rfl) dX8_mark_1 (fv_8_64 _ _) (ly8_k La0_h) ?_
  refine mx_tr (ly8_R_0_64 La0_h) ?_
  refine mx_aload_n dX8_mark_4 rfl rfl ?_
  refine mx_get 8 58 (ref := "PrairiePoolModel") cl_8 (Nat.le_of_ble_eq_true rfl) (Or.inl q1685) (Or.inl rfl) dX8_mark_5 (fv_8_58 _ _) (ly8_k La0_h) ?_
  refine mx_ldcw q2096 dX8_mark_8 ?_
  refine mx_iload_n dX8_mark_11 rfl rfl ?_
  refine mx_imul dX8_mark_12 ?_
  refine mx_iload_n dX8_mark_13 rfl rfl ?_
  refine mx_iadd dX8_mark_14 ?_
  obtain ⟨k1, H⟩ := H
  refine my_iast dX8_mark_15 rfl (ly8_A_41 La0_h k1) ?_
  refine mx_nmI  (fun h2 eh2 Xh2 Kh2 Lh2 => ?_)
  have H := H h2 eh2 Xh2
  have La0_h2 := La0_h.ext Xh2
  refine mx_aload_n dX8_mark_16 rfl rfl ?_
  refine mx_dup_r dX8_mark_17 ?_
  refine mx_get 8 58 (ref := "PrairiePoolModel") cl_8 (Nat.le_of_ble_eq_true rfl) (Or.inl q1685) (Or.inl rfl) dX8_mark_18 (fv_8_58 _ _) (ly8_k La0_h2) ?_
  refine mx_ti (ah_skIA eh2 (by omega)) ?_
  refine mx_iconst dX8_mark_21 ic_1 ?_
  refine mx_iadd dX8_mark_22 ?_
  refine mx_putI 8 58 (ref := "PrairiePoolModel") cl_8 (Nat.le_of_ble_eq_true rfl) (Or.inl q1685) (Or.inl rfl) dX8_mark_23 (Or.inl rfl) rfl (ly8_k La0_h2) ?_
  refine mx_nmI  (fun h3 eh3 Xh3 Kh3 Lh3 => ?_)
  have H := H h3 eh3 Xh3
  have Kh3 := Kh3.trans Kh2
  have Lh3 := Lh3.trans Lh2
  have La0_h3 := La0_h2.ext Xh3
  exact mx_vret rfl dX8_mark_26 H
theorem dX8_readFew_0 : decode mi_X8_readFew.2.1 0 = .ok (.aload_n 0, 1) := by decide +kernel
theorem dX8_readFew_1 : decode mi_X8_readFew.2.1 1 = .ok (.invokevirtual 522, 3) := by decide +kernel
theorem dX8_readFew_4 : decode mi_X8_readFew.2.1 4 = .ok (.aload_n 0, 1) := by decide +kernel
theorem dX8_readFew_5 : decode mi_X8_readFew.2.1 5 = .ok (.bipush 40, 2) := by decide +kernel
theorem dX8_readFew_7 : decode mi_X8_readFew.2.1 7 = .ok (.invokevirtual 507, 3) := by decide +kernel
theorem dX8_readFew_10 : decode mi_X8_readFew.2.1 10 = .ok (.ifCond .ne 8, 3) := by decide +kernel
theorem dX8_readFew_13 : decode mi_X8_readFew.2.1 13 = .ok (.aload_n 0, 1) := by decide +kernel
theorem dX8_readFew_14 : decode mi_X8_readFew.2.1 14 = .ok (.invokevirtual 516, 3) := by decide +kernel
theorem dX8_readFew_17 : decode mi_X8_readFew.2.1 17 = .ok (.return_, 1) := by decide +kernel
theorem dX8_readFew_18 : decode mi_X8_readFew.2.1 18 = .ok (.aload_n 0, 1) := by decide +kernel
theorem dX8_readFew_19 : decode mi_X8_readFew.2.1 19 = .ok (.invokevirtual 522, 3) := by decide +kernel
theorem dX8_readFew_22 : decode mi_X8_readFew.2.1 22 = .ok (.aload_n 0, 1) := by decide +kernel
theorem dX8_readFew_23 : decode mi_X8_readFew.2.1 23 = .ok (.iload_n 1, 1) := by decide +kernel
theorem dX8_readFew_24 : decode mi_X8_readFew.2.1 24 = .ok (.iconst 1, 1) := by decide +kernel
theorem dX8_readFew_25 : decode mi_X8_readFew.2.1 25 = .ok (.iadd, 1) := by decide +kernel
theorem dX8_readFew_26 : decode mi_X8_readFew.2.1 26 = .ok (.invokevirtual 553, 3) := by decide +kernel
theorem dX8_readFew_29 : decode mi_X8_readFew.2.1 29 = .ok (.aload_n 0, 1) := by decide +kernel
theorem dX8_readFew_30 : decode mi_X8_readFew.2.1 30 = .ok (.getfield 453, 3) := by decide +kernel
theorem dX8_readFew_33 : decode mi_X8_readFew.2.1 33 = .ok (.ifCond .ne 16, 3) := by decide +kernel
theorem dX8_readFew_36 : decode mi_X8_readFew.2.1 36 = .ok (.aload_n 0, 1) := by decide +kernel
theorem dX8_readFew_37 : decode mi_X8_readFew.2.1 37 = .ok (.bipush 44, 2) := by decide +kernel
theorem dX8_readFew_39 : decode mi_X8_readFew.2.1 39 = .ok (.invokevirtual 507, 3) := by decide +kernel
theorem dX8_readFew_42 : decode mi_X8_readFew.2.1 42 = .ok (.ifCond .ne 7, 3) := by decide +kernel
theorem dX8_readFew_45 : decode mi_X8_readFew.2.1 45 = .ok (.aload_n 0, 1) := by decide +kernel
theorem dX8_readFew_46 : decode mi_X8_readFew.2.1 46 = .ok (.invokevirtual 516, 3) := by decide +kernel
theorem dX8_readFew_49 : decode mi_X8_readFew.2.1 49 = .ok (.aload_n 0, 1) := by decide +kernel
theorem dX8_readFew_50 : decode mi_X8_readFew.2.1 50 = .ok (.getfield 453, 3) := by decide +kernel
theorem dX8_readFew_53 : decode mi_X8_readFew.2.1 53 = .ok (.ifCond .le 4, 3) := by decide +kernel
theorem dX8_readFew_56 : decode mi_X8_readFew.2.1 56 = .ok (.return_, 1) := by decide +kernel
theorem dX8_readFew_57 : decode mi_X8_readFew.2.1 57 = .ok (.aload_n 0, 1) := by decide +kernel
theorem dX8_readFew_58 : decode mi_X8_readFew.2.1 58 = .ok (.invokevirtual 522, 3) := by decide +kernel
theorem dX8_readFew_61 : decode mi_X8_readFew.2.1 61 = .ok (.aload_n 0, 1) := by decide +kernel
theorem dX8_readFew_62 : decode mi_X8_readFew.2.1 62 = .ok (.iload_n 1, 1) := by decide +kernel
theorem dX8_readFew_63 : decode mi_X8_readFew.2.1 63 = .ok (.iconst 1, 1) := by decide +kernel
theorem dX8_readFew_64 : decode mi_X8_readFew.2.1 64 = .ok (.iadd, 1) := by decide +kernel
theorem dX8_readFew_65 : decode mi_X8_readFew.2.1 65 = .ok (.invokevirtual 553, 3) := by decide +kernel
theorem dX8_readFew_68 : decode mi_X8_readFew.2.1 68 = .ok (.aload_n 0, 1) := by decide +kernel
theorem dX8_readFew_69 : decode mi_X8_readFew.2.1 69 = .ok (.getfield 453, 3) := by decide +kernel
theorem dX8_readFew_72 : decode mi_X8_readFew.2.1 72 = .ok (.ifCond .ne 16, 3) := by decide +kernel
theorem dX8_readFew_75 : decode mi_X8_readFew.2.1 75 = .ok (.aload_n 0, 1) := by decide +kernel
theorem dX8_readFew_76 : decode mi_X8_readFew.2.1 76 = .ok (.bipush 41, 2) := by decide +kernel
theorem dX8_readFew_78 : decode mi_X8_readFew.2.1 78 = .ok (.invokevirtual 507, 3) := by decide +kernel
theorem dX8_readFew_81 : decode mi_X8_readFew.2.1 81 = .ok (.ifCond .ne 7, 3) := by decide +kernel
theorem dX8_readFew_84 : decode mi_X8_readFew.2.1 84 = .ok (.aload_n 0, 1) := by decide +kernel
theorem dX8_readFew_85 : decode mi_X8_readFew.2.1 85 = .ok (.invokevirtual 516, 3) := by decide +kernel
theorem dX8_readFew_88 : decode mi_X8_readFew.2.1 88 = .ok (.aload_n 0, 1) := by decide +kernel
theorem dX8_readFew_89 : decode mi_X8_readFew.2.1 89 = .ok (.getfield 453, 3) := by decide +kernel
theorem dX8_readFew_92 : decode mi_X8_readFew.2.1 92 = .ok (.ifCond .le 4, 3) := by decide +kernel
theorem dX8_readFew_95 : decode mi_X8_readFew.2.1 95 = .ok (.return_, 1) := by decide +kernel
theorem dX8_readFew_96 : decode mi_X8_readFew.2.1 96 = .ok (.aload_n 0, 1) := by decide +kernel
theorem dX8_readFew_97 : decode mi_X8_readFew.2.1 97 = .ok (.invokevirtual 522, 3) := by decide +kernel
theorem dX8_readFew_100 : decode mi_X8_readFew.2.1 100 = .ok (.aload_n 0, 1) := by decide +kernel
theorem dX8_readFew_101 : decode mi_X8_readFew.2.1 101 = .ok (.iload_n 2, 1) := by decide +kernel
theorem dX8_readFew_102 : decode mi_X8_readFew.2.1 102 = .ok (.iconst 0, 1) := by decide +kernel
theorem dX8_readFew_103 : decode mi_X8_readFew.2.1 103 = .ok (.invokevirtual 528, 3) := by decide +kernel
theorem dX8_readFew_106 : decode mi_X8_readFew.2.1 106 = .ok (.return_, 1) := by decide +kernel
theorem v_X8_readFew {G : ma_G} {d : Nat} {a0 : Nat} {x1 : Int32} {x2 : Int32} {h : ah_T} {Q : Option ma_V → ah_T → Prop} {E : Nat → ah_T → Prop} (La0_h : LY8 h a0) (H : MX G mi_X8_next (d + 1) 0 [some (rv a0), none] [] h (Qv fun h1 => ah_ext h h1 → (¬ (ah_I h1 a0 50) = (3 : Int32) → (¬ (ah_I h1 a0 50) = (4 : Int32) → ((ah_I h1 a0 48) ≤ 0 → ∀ h6 : ah_T, h6 = ah_wI h1 a0 48 (2 : Int32) → ah_ext h1 h6 → ∀ h7 : ah_T, h7 = ah_wI h6 a0 49 (ah_I h1 a0 51) → ah_ext h6 h7 → Q none h7) ∧ (¬ (ah_I h1 a0 48) ≤ 0 → Q none h1)) ∧ ((ah_I h1 a0 50) = (4 : Int32) → ((ah_I h1 a0 48) ≤ 0 → ∀ h9 : ah_T, h9 = ah_wI h1 a0 48 (1 : Int32) → ah_ext h1 h9 → ∀ h10 : ah_T, h10 = ah_wI h9 a0 49 (ah_I h1 a0 51) → ah_ext h9 h10 → Q none h10) ∧ (¬ (ah_I h1 a0 48) ≤ 0 → Q none h1))) ∧ ((ah_I h1 a0 50) = (3 : Int32) → (¬ (ah_I h1 a0 53) = (40 : Int32) → (¬ (ah_I h1 a0 50) = (4 : Int32) → ((ah_I h1 a0 48) ≤ 0 → ∀ h14 : ah_T, h14 = ah_wI h1 a0 48 (2 : Int32) → ah_ext h1 h14 → ∀ h15 : ah_T, h15 = ah_wI h14 a0 49 (ah_I h1 a0 51) → ah_ext h14 h15 → Q none h15) ∧ (¬ (ah_I h1 a0 48) ≤ 0 → Q none h1)) ∧ ((ah_I h1 a0 50) = (4 : Int32) → ((ah_I h1 a0 48) ≤ 0 → ∀ h17 : ah_T, h17 = ah_wI h1 a0 48 (1 : Int32) → ah_ext h1 h17 → ∀ h18 : ah_T, h18 = ah_wI h17 a0 49 (ah_I h1 a0 51) → ah_ext h17 h18 → Q none h18) ∧ (¬ (ah_I h1 a0 48) ≤ 0 → Q none h1))) ∧ ((ah_I h1 a0 53) = (40 : Int32) → MX G mi_X8_next (d + 1) 0 [some (rv a0), none] [] h1 (Qv fun h19 => ah_ext h1 h19 → MX G mi_X8_readDeeper (d + 1) 0 [some (rv a0), some (iv (x1 + (1 : Int32)))] [] h19 (Qv fun h21 => ah_ext h19 h21 → (¬ (ah_I h21 a0 48) = 0 → MX G mi_X8_readFew (d + 2) 49 [some (rv a0), some (iv x1), some (iv x2)] [] h21 Q E) ∧ ((ah_I h21 a0 48) = 0 → (¬ (ah_I h21 a0 50) = (3 : Int32) → (¬ (ah_I h21 a0 50) = (4 : Int32) → ((ah_I h21 a0 48) ≤ 0 → ∀ h27 : ah_T, h27 = ah_wI h21 a0 48 (2 : Int32) → ah_ext h21 h27 → ∀ h28 : ah_T, h28 = ah_wI h27 a0 49 (ah_I h21 a0 51) → ah_ext h27 h28 → MX G mi_X8_readFew (d + 2) 49 [some (rv a0), some (iv x1), some (iv x2)] [] h28 Q E) ∧ (¬ (ah_I h21 a0 48) ≤ 0 → MX G mi_X8_readFew (d + 2) 49 [some (rv a0), some (iv x1), some (iv x2)] [] h21 Q E)) ∧ ((ah_I h21 a0 50) = (4 : Int32) → ((ah_I h21 a0 48) ≤ 0 → ∀ h30 : ah_T, h30 = ah_wI h21 a0 48 (1 : Int32) → ah_ext h21 h30 → ∀ h31 : ah_T, h31 = ah_wI h30 a0 49 (ah_I h21 a0 51) → ah_ext h30 h31 → MX G mi_X8_readFew (d + 2) 49 [some (rv a0), some (iv x1), some (iv x2)] [] h31 Q E) ∧ (¬ (ah_I h21 a0 48) ≤ 0 → MX G mi_X8_readFew (d + 2) 49 [some (rv a0), some (iv x1), some (iv x2)] [] h21 Q E))) ∧ ((ah_I h21 a0 50) = (3 : Int32) → (¬ (ah_I h21 a0 53) = (44 : Int32) → (¬ (ah_I h21 a0 50) = (4 : Int32) → ((ah_I h21 a0 48) ≤ 0 → ∀ h35 : ah_T, h35 = ah_wI h21 a0 48 (2 : Int32) → ah_ext h21 h35 → ∀ h36 : ah_T, h36 = ah_wI h35 a0 49 (ah_I h21 a0 51) → ah_ext h35 h36 → MX G mi_X8_readFew (d + 2) 49 [some (rv a0), some (iv x1), some (iv x2)] [] h36 Q E) ∧ (¬ (ah_I h21 a0 48) ≤ 0 → MX G mi_X8_readFew (d + 2) 49 [some (rv a0), some (iv x1), some (iv x2)] [] h21 Q E)) ∧ ((ah_I h21 a0 50) = (4 : Int32) → ((ah_I h21 a0 48) ≤ 0 → ∀ h38 : ah_T, h38 = ah_wI h21 a0 48 (1 : Int32) → ah_ext h21 h38 → ∀ h39 : ah_T, h39 = ah_wI h38 a0 49 (ah_I h21 a0 51) → ah_ext h38 h39 → MX G mi_X8_readFew (d + 2) 49 [some (rv a0), some (iv x1), some (iv x2)] [] h39 Q E) ∧ (¬ (ah_I h21 a0 48) ≤ 0 → MX G mi_X8_readFew (d + 2) 49 [some (rv a0), some (iv x1), some (iv x2)] [] h21 Q E))) ∧ ((ah_I h21 a0 53) = (44 : Int32) → MX G mi_X8_readFew (d + 2) 49 [some (rv a0), some (iv x1), some (iv x2)] [] h21 Q E)))) E) E))) E) : MX G mi_X8_readFew (d + 2) 0 [some (rv a0), some (iv x1), some (iv x2)] [] h Q E := by
  refine mx_aload_n dX8_readFew_0 rfl rfl ?_
  refine mx_callV 8 (y' := mi_X8_next) (vs := []) (st := []) (al' := [some (rv a0), none]) cl_8 V_X8_next (Or.inl q2170) dX8_readFew_1 rfl rfl (Nat.le_of_ble_eq_true rfl) (Nat.le_of_ble_eq_true rfl) (ly8_k La0_h) ?_
  refine ma_kv H (fun h1 Xh1 H => ?_) (fun x1 h1 X1 H => mt_out rfl H)
  have H := H Xh1
  have La0_h1 := La0_h.ext Xh1
  refine mx_aload_n dX8_readFew_4 rfl rfl ?_
  refine mx_bipush dX8_readFew_5 ib_40 ?_
  refine mx_callV 8 (y' := mi_X8_isSign) (vs := [iv (40 : Int32)]) (st := []) (al' := [some (rv a0), some (iv (40 : Int32))]) cl_8 V_X8_isSign (Or.inl q2251) dX8_readFew_7 rfl rfl (Nat.le_of_ble_eq_true rfl) (Nat.le_of_ble_eq_true rfl) (ly8_k La0_h1) ?_
  refine mx_aload_n dX8_isSign_0 rfl rfl ?_
  refine mx_get 8 50 (ref := "PrairiePoolModel") cl_8 (Nat.le_of_ble_eq_true rfl) (Or.inl q1677) (Or.inl rfl) dX8_isSign_1 (fv_8_50 _ _) (ly8_k La0_h1) ?_
  refine mx_iconst dX8_isSign_4 ic_3 ?_
  refine mx_icmp_ne (tgt := 20) dX8_isSign_5 rfl (fun c3 => ?_) (fun c3 => ?_)
  · have H := H.1 c3
    refine mx_iconst dX8_isSign_20 ic_0 ?_
    refine mx_zretK rfl dX8_isSign_21 (Or.inl rfl) ?_
    refine mx_if_ne (tgt := 18) dX8_readFew_10 rfl (fun _ => absurd ‹_› (by decide)) (fun _ => ?_)
    refine mx_aload_n dX8_readFew_13 rfl rfl ?_
    refine mx_callV 8 (y' := mi_X8_wrong) (vs := []) (st := []) (al' := [some (rv a0)]) cl_8 V_X8_wrong (Or.inl q2239) dX8_readFew_14 rfl rfl (Nat.le_of_ble_eq_true rfl) (Nat.le_of_ble_eq_true rfl) (ly8_k La0_h1) ?_
    refine mx_aload_n dX8_wrong_0 rfl rfl ?_
    refine mx_aload_n dX8_wrong_1 rfl rfl ?_
    refine mx_get 8 50 (ref := "PrairiePoolModel") cl_8 (Nat.le_of_ble_eq_true rfl) (Or.inl q1677) (Or.inl rfl) dX8_wrong_2 (fv_8_50 _ _) (ly8_k La0_h1) ?_
    refine mx_iconst dX8_wrong_5 ic_4 ?_
    refine mx_icmp_ne (tgt := 13) dX8_wrong_6 rfl (fun c4 => ?_) (fun c4 => ?_)
    · have H := H.1 c4
      refine mx_iconst dX8_wrong_13 ic_2 ?_
      refine mx_aload_n dX8_wrong_14 rfl rfl ?_
      refine mx_get 8 51 (ref := "PrairiePoolModel") cl_8 (Nat.le_of_ble_eq_true rfl) (Or.inl q1678) (Or.inl rfl) dX8_wrong_15 (fv_8_51 _ _) (ly8_k La0_h1) ?_
      refine mx_callV 8 (y' := mi_X8_fail) (vs := [iv (2 : Int32), iv (ah_I h1 a0 51)]) (st := []) (al' := [some (rv a0), some (iv (2 : Int32)), some (iv (ah_I h1 a0 51))]) cl_8 V_X8_fail (Or.inl q2243) dX8_wrong_18 rfl rfl (Nat.le_of_ble_eq_true rfl) (Nat.le_of_ble_eq_true rfl) (ly8_k La0_h1) ?_
      refine mx_aload_n dX8_fail_0 rfl rfl ?_
      refine mx_get 8 48 (ref := "PrairiePoolModel") cl_8 (Nat.le_of_ble_eq_true rfl) (Or.inl q1675) (Or.inl rfl) dX8_fail_1 (fv_8_48 _ _) (ly8_k La0_h1) ?_
      refine mx_if_le (tgt := 8) dX8_fail_4 rfl (fun c5 => ?_) (fun c5 => ?_)
      · have H := H.1 c5
        refine mx_aload_n dX8_fail_8 rfl rfl ?_
        refine mx_iload_n dX8_fail_9 rfl rfl ?_
        refine mx_putI 8 48 (ref := "PrairiePoolModel") cl_8 (Nat.le_of_ble_eq_true rfl) (Or.inl q1675) (Or.inl rfl) dX8_fail_10 (Or.inl rfl) rfl (ly8_k La0_h1) ?_
        refine mx_nmI  (fun h6 eh6 Xh6 Kh6 Lh6 => ?_)
        have H := H h6 eh6 Xh6
        have La0_h6 := La0_h1.ext Xh6
        refine mx_aload_n dX8_fail_13 rfl rfl ?_
        refine mx_iload_n dX8_fail_14 rfl rfl ?_
        refine mx_putI 8 49 (ref := "PrairiePoolModel") cl_8 (Nat.le_of_ble_eq_true rfl) (Or.inl q1676) (Or.inl rfl) dX8_fail_15 (Or.inl rfl) rfl (ly8_k La0_h6) ?_
        refine mx_nmI  (fun h7 eh7 Xh7 Kh7 Lh7 => ?_)
        have H := H h7 eh7 Xh7
        have Kh7 := Kh7.trans Kh6
        have Lh7 := Lh7.trans Lh6
        have La0_h7 := La0_h6.ext Xh7
        refine mx_vretK rfl dX8_fail_18 ?_
        refine mx_vretK rfl dX8_wrong_21 ?_
        exact mx_vret rfl dX8_readFew_17 H
      · have H := H.2 c5
        refine mx_vretK rfl dX8_fail_7 ?_
        refine mx_vretK rfl dX8_wrong_21 ?_
        exact mx_vret rfl dX8_readFew_17 H
    · have H := H.2 c4
      refine mx_iconst dX8_wrong_9 ic_1 ?_
      refine mx_goto (tgt := 14) dX8_wrong_10 rfl ?_
      refine mx_aload_n dX8_wrong_14 rfl rfl ?_
      refine mx_get 8 51 (ref := "PrairiePoolModel") cl_8 (Nat.le_of_ble_eq_true rfl) (Or.inl q1678) (Or.inl rfl) dX8_wrong_15 (fv_8_51 _ _) (ly8_k La0_h1) ?_
      refine mx_callV 8 (y' := mi_X8_fail) (vs := [iv (1 : Int32), iv (ah_I h1 a0 51)]) (st := []) (al' := [some (rv a0), some (iv (1 : Int32)), some (iv (ah_I h1 a0 51))]) cl_8 V_X8_fail (Or.inl q2243) dX8_wrong_18 rfl rfl (Nat.le_of_ble_eq_true rfl) (Nat.le_of_ble_eq_true rfl) (ly8_k La0_h1) ?_
      refine mx_aload_n dX8_fail_0 rfl rfl ?_
      refine mx_get 8 48 (ref := "PrairiePoolModel") cl_8 (Nat.le_of_ble_eq_true rfl) (Or.inl q1675) (Or.inl rfl) dX8_fail_1 (fv_8_48 _ _) (ly8_k La0_h1) ?_
      refine mx_if_le (tgt := 8) dX8_fail_4 rfl (fun c8 => ?_) (fun c8 => ?_)
      · have H := H.1 c8
        refine mx_aload_n dX8_fail_8 rfl rfl ?_
        refine mx_iload_n dX8_fail_9 rfl rfl ?_
        refine mx_putI 8 48 (ref := "PrairiePoolModel") cl_8 (Nat.le_of_ble_eq_true rfl) (Or.inl q1675) (Or.inl rfl) dX8_fail_10 (Or.inl rfl) rfl (ly8_k La0_h1) ?_
        refine mx_nmI  (fun h9 eh9 Xh9 Kh9 Lh9 => ?_)
        have H := H h9 eh9 Xh9
        have La0_h9 := La0_h1.ext Xh9
        refine mx_aload_n dX8_fail_13 rfl rfl ?_
        refine mx_iload_n dX8_fail_14 rfl rfl ?_
        refine mx_putI 8 49 (ref := "PrairiePoolModel") cl_8 (Nat.le_of_ble_eq_true rfl) (Or.inl q1676) (Or.inl rfl) dX8_fail_15 (Or.inl rfl) rfl (ly8_k La0_h9) ?_
        refine mx_nmI  (fun h10 eh10 Xh10 Kh10 Lh10 => ?_)
        have H := H h10 eh10 Xh10
        have Kh10 := Kh10.trans Kh9
        have Lh10 := Lh10.trans Lh9
        have La0_h10 := La0_h9.ext Xh10
        refine mx_vretK rfl dX8_fail_18 ?_
        refine mx_vretK rfl dX8_wrong_21 ?_
        exact mx_vret rfl dX8_readFew_17 H
      · have H := H.2 c8
        refine mx_vretK rfl dX8_fail_7 ?_
        refine mx_vretK rfl dX8_wrong_21 ?_
        exact mx_vret rfl dX8_readFew_17 H
  · have H := H.2 c3
    refine mx_aload_n dX8_isSign_8 rfl rfl ?_
    refine mx_get 8 53 (ref := "PrairiePoolModel") cl_8 (Nat.le_of_ble_eq_true rfl) (Or.inl q1680) (Or.inl rfl) dX8_isSign_9 (fv_8_53 _ _) (ly8_k La0_h1) ?_
    refine mx_iload_n dX8_isSign_12 rfl rfl ?_
    refine mx_icmp_ne (tgt := 20) dX8_isSign_13 rfl (fun c11 => ?_) (fun c11 => ?_)
    · have H := H.1 c11
      refine mx_iconst dX8_isSign_20 ic_0 ?_
      refine mx_zretK rfl dX8_isSign_21 (Or.inl rfl) ?_
      refine mx_if_ne (tgt := 18) dX8_readFew_10 rfl (fun _ => absurd ‹_› (by decide)) (fun _ => ?_)
      refine mx_aload_n dX8_readFew_13 rfl rfl ?_
      refine mx_callV 8 (y' := mi_X8_wrong) (vs := []) (st := []) (al' := [some (rv a0)]) cl_8 V_X8_wrong (Or.inl q2239) dX8_readFew_14 rfl rfl (Nat.le_of_ble_eq_true rfl) (Nat.le_of_ble_eq_true rfl) (ly8_k La0_h1) ?_
      refine mx_aload_n dX8_wrong_0 rfl rfl ?_
      refine mx_aload_n dX8_wrong_1 rfl rfl ?_
      refine mx_get 8 50 (ref := "PrairiePoolModel") cl_8 (Nat.le_of_ble_eq_true rfl) (Or.inl q1677) (Or.inl rfl) dX8_wrong_2 (fv_8_50 _ _) (ly8_k La0_h1) ?_
      refine mx_iconst dX8_wrong_5 ic_4 ?_
      refine mx_icmp_ne (tgt := 13) dX8_wrong_6 rfl (fun c12 => ?_) (fun c12 => ?_)
      · have H := H.1 c12
        refine mx_iconst dX8_wrong_13 ic_2 ?_
        refine mx_aload_n dX8_wrong_14 rfl rfl ?_
        refine mx_get 8 51 (ref := "PrairiePoolModel") cl_8 (Nat.le_of_ble_eq_true rfl) (Or.inl q1678) (Or.inl rfl) dX8_wrong_15 (fv_8_51 _ _) (ly8_k La0_h1) ?_
        refine mx_callV 8 (y' := mi_X8_fail) (vs := [iv (2 : Int32), iv (ah_I h1 a0 51)]) (st := []) (al' := [some (rv a0), some (iv (2 : Int32)), some (iv (ah_I h1 a0 51))]) cl_8 V_X8_fail (Or.inl q2243) dX8_wrong_18 rfl rfl (Nat.le_of_ble_eq_true rfl) (Nat.le_of_ble_eq_true rfl) (ly8_k La0_h1) ?_
        refine mx_aload_n dX8_fail_0 rfl rfl ?_
        refine mx_get 8 48 (ref := "PrairiePoolModel") cl_8 (Nat.le_of_ble_eq_true rfl) (Or.inl q1675) (Or.inl rfl) dX8_fail_1 (fv_8_48 _ _) (ly8_k La0_h1) ?_
        refine mx_if_le (tgt := 8) dX8_fail_4 rfl (fun c13 => ?_) (fun c13 => ?_)
        · have H := H.1 c13
          refine mx_aload_n dX8_fail_8 rfl rfl ?_
          refine mx_iload_n dX8_fail_9 rfl rfl ?_
          refine mx_putI 8 48 (ref := "PrairiePoolModel") cl_8 (Nat.le_of_ble_eq_true rfl) (Or.inl q1675) (Or.inl rfl) dX8_fail_10 (Or.inl rfl) rfl (ly8_k La0_h1) ?_
          refine mx_nmI  (fun h14 eh14 Xh14 Kh14 Lh14 => ?_)
          have H := H h14 eh14 Xh14
          have La0_h14 := La0_h1.ext Xh14
          refine mx_aload_n dX8_fail_13 rfl rfl ?_
          refine mx_iload_n dX8_fail_14 rfl rfl ?_
          refine mx_putI 8 49 (ref := "PrairiePoolModel") cl_8 (Nat.le_of_ble_eq_true rfl) (Or.inl q1676) (Or.inl rfl) dX8_fail_15 (Or.inl rfl) rfl (ly8_k La0_h14) ?_
          refine mx_nmI  (fun h15 eh15 Xh15 Kh15 Lh15 => ?_)
          have H := H h15 eh15 Xh15
          have Kh15 := Kh15.trans Kh14
          have Lh15 := Lh15.trans Lh14
          have La0_h15 := La0_h14.ext Xh15
          refine mx_vretK rfl dX8_fail_18 ?_
          refine mx_vretK rfl dX8_wrong_21 ?_
          exact mx_vret rfl dX8_readFew_17 H
        · have H := H.2 c13
          refine mx_vretK rfl dX8_fail_7 ?_
          refine mx_vretK rfl dX8_wrong_21 ?_
          exact mx_vret rfl dX8_readFew_17 H
      · have H := H.2 c12
        refine mx_iconst dX8_wrong_9 ic_1 ?_
        refine mx_goto (tgt := 14) dX8_wrong_10 rfl ?_
        refine mx_aload_n dX8_wrong_14 rfl rfl ?_
        refine mx_get 8 51 (ref := "PrairiePoolModel") cl_8 (Nat.le_of_ble_eq_true rfl) (Or.inl q1678) (Or.inl rfl) dX8_wrong_15 (fv_8_51 _ _) (ly8_k La0_h1) ?_
        refine mx_callV 8 (y' := mi_X8_fail) (vs := [iv (1 : Int32), iv (ah_I h1 a0 51)]) (st := []) (al' := [some (rv a0), some (iv (1 : Int32)), some (iv (ah_I h1 a0 51))]) cl_8 V_X8_fail (Or.inl q2243) dX8_wrong_18 rfl rfl (Nat.le_of_ble_eq_true rfl) (Nat.le_of_ble_eq_true rfl) (ly8_k La0_h1) ?_
        refine mx_aload_n dX8_fail_0 rfl rfl ?_
        refine mx_get 8 48 (ref := "PrairiePoolModel") cl_8 (Nat.le_of_ble_eq_true rfl) (Or.inl q1675) (Or.inl rfl) dX8_fail_1 (fv_8_48 _ _) (ly8_k La0_h1) ?_
        refine mx_if_le (tgt := 8) dX8_fail_4 rfl (fun c16 => ?_) (fun c16 => ?_)
        · have H := H.1 c16
          refine mx_aload_n dX8_fail_8 rfl rfl ?_
          refine mx_iload_n dX8_fail_9 rfl rfl ?_
          refine mx_putI 8 48 (ref := "PrairiePoolModel") cl_8 (Nat.le_of_ble_eq_true rfl) (Or.inl q1675) (Or.inl rfl) dX8_fail_10 (Or.inl rfl) rfl (ly8_k La0_h1) ?_
          refine mx_nmI  (fun h17 eh17 Xh17 Kh17 Lh17 => ?_)
          have H := H h17 eh17 Xh17
          have La0_h17 := La0_h1.ext Xh17
          refine mx_aload_n dX8_fail_13 rfl rfl ?_
          refine mx_iload_n dX8_fail_14 rfl rfl ?_
          refine mx_putI 8 49 (ref := "PrairiePoolModel") cl_8 (Nat.le_of_ble_eq_true rfl) (Or.inl q1676) (Or.inl rfl) dX8_fail_15 (Or.inl rfl) rfl (ly8_k La0_h17) ?_
          refine mx_nmI  (fun h18 eh18 Xh18 Kh18 Lh18 => ?_)
          have H := H h18 eh18 Xh18
          have Kh18 := Kh18.trans Kh17
          have Lh18 := Lh18.trans Lh17
          have La0_h18 := La0_h17.ext Xh18
          refine mx_vretK rfl dX8_fail_18 ?_
          refine mx_vretK rfl dX8_wrong_21 ?_
          exact mx_vret rfl dX8_readFew_17 H
        · have H := H.2 c16
          refine mx_vretK rfl dX8_fail_7 ?_
          refine mx_vretK rfl dX8_wrong_21 ?_
          exact mx_vret rfl dX8_readFew_17 H
    · have H := H.2 c11
      refine mx_iconst dX8_isSign_16 ic_1 ?_
      refine mx_goto (tgt := 21) dX8_isSign_17 rfl ?_
      refine mx_zretK rfl dX8_isSign_21 (Or.inr rfl) ?_
      refine mx_if_ne (tgt := 18) dX8_readFew_10 rfl (fun _ => ?_) (fun _ => absurd ‹_› (by decide))
      refine mx_aload_n dX8_readFew_18 rfl rfl ?_
      refine mx_callV 8 (y' := mi_X8_next) (vs := []) (st := []) (al' := [some (rv a0), none]) cl_8 V_X8_next (Or.inl q2170) dX8_readFew_19 rfl rfl (Nat.le_of_ble_eq_true rfl) (Nat.le_of_ble_eq_true rfl) (ly8_k La0_h1) ?_
      refine ma_kv H (fun h19 Xh19 H => ?_) (fun x1 h1 X1 H => mt_out rfl H)
      have H := H Xh19
      have La0_h19 := La0_h1.ext Xh19
      refine mx_aload_n dX8_readFew_22 rfl rfl ?_
      refine mx_iload_n dX8_readFew_23 rfl rfl ?_
      refine mx_iconst dX8_readFew_24 ic_1 ?_
      refine mx_iadd dX8_readFew_25 ?_
      refine mx_callV 8 (y' := mi_X8_readDeeper) (vs := [iv (x1 + (1 : Int32))]) (st := []) (al' := [some (rv a0), some (iv (x1 + (1 : Int32)))]) cl_8 V_X8_readDeeper (Or.inl q2287) dX8_readFew_26 rfl rfl (Nat.le_of_ble_eq_true rfl) (Nat.le_of_ble_eq_true rfl) (ly8_k La0_h19) ?_
      refine ma_kv H (fun h21 Xh21 H => ?_) (fun x1 h1 X1 H => mt_out rfl H)
      have H := H Xh21
      have La0_h21 := La0_h19.ext Xh21
      refine mx_aload_n dX8_readFew_29 rfl rfl ?_
      refine mx_get 8 48 (ref := "PrairiePoolModel") cl_8 (Nat.le_of_ble_eq_true rfl) (Or.inl q1675) (Or.inl rfl) dX8_readFew_30 (fv_8_48 _ _) (ly8_k La0_h21) ?_
      refine mx_if_ne (tgt := 49) dX8_readFew_33 rfl (fun c23 => ?_) (fun c23 => ?_)
      · have H := H.1 c23
        exact mx_weak (al' := [some (rv a0), some (iv x1), some (iv x2)]) ⟨rfl, ⟨rfl, ⟨rfl, trivial⟩⟩⟩ H
      · have H := H.2 c23
        refine mx_aload_n dX8_readFew_36 rfl rfl ?_
        refine mx_bipush dX8_readFew_37 ib_44 ?_
        refine mx_callV 8 (y' := mi_X8_isSign) (vs := [iv (44 : Int32)]) (st := []) (al' := [some (rv a0), some (iv (44 : Int32))]) cl_8 V_X8_isSign (Or.inl q2251) dX8_readFew_39 rfl rfl (Nat.le_of_ble_eq_true rfl) (Nat.le_of_ble_eq_true rfl) (ly8_k La0_h21) ?_
        refine mx_aload_n dX8_isSign_0 rfl rfl ?_
        refine mx_get 8 50 (ref := "PrairiePoolModel") cl_8 (Nat.le_of_ble_eq_true rfl) (Or.inl q1677) (Or.inl rfl) dX8_isSign_1 (fv_8_50 _ _) (ly8_k La0_h21) ?_
        refine mx_iconst dX8_isSign_4 ic_3 ?_
        refine mx_icmp_ne (tgt := 20) dX8_isSign_5 rfl (fun c24 => ?_) (fun c24 => ?_)
        · have H := H.1 c24
          refine mx_iconst dX8_isSign_20 ic_0 ?_
          refine mx_zretK rfl dX8_isSign_21 (Or.inl rfl) ?_
          refine mx_if_ne (tgt := 49) dX8_readFew_42 rfl (fun _ => absurd ‹_› (by decide)) (fun _ => ?_)
          refine mx_aload_n dX8_readFew_45 rfl rfl ?_
          refine mx_callV 8 (y' := mi_X8_wrong) (vs := []) (st := []) (al' := [some (rv a0)]) cl_8 V_X8_wrong (Or.inl q2239) dX8_readFew_46 rfl rfl (Nat.le_of_ble_eq_true rfl) (Nat.le_of_ble_eq_true rfl) (ly8_k La0_h21) ?_
          refine mx_aload_n dX8_wrong_0 rfl rfl ?_
          refine mx_aload_n dX8_wrong_1 rfl rfl ?_
          refine mx_get 8 50 (ref := "PrairiePoolModel") cl_8 (Nat.le_of_ble_eq_true rfl) (Or.inl q1677) (Or.inl rfl) dX8_wrong_2 (fv_8_50 _ _) (ly8_k La0_h21) ?_
          refine mx_iconst dX8_wrong_5 ic_4 ?_
          refine mx_icmp_ne (tgt := 13) dX8_wrong_6 rfl (fun c25 => ?_) (fun c25 => ?_)
          · have H := H.1 c25
            refine mx_iconst dX8_wrong_13 ic_2 ?_
            refine mx_aload_n dX8_wrong_14 rfl rfl ?_
            refine mx_get 8 51 (ref := "PrairiePoolModel") cl_8 (Nat.le_of_ble_eq_true rfl) (Or.inl q1678) (Or.inl rfl) dX8_wrong_15 (fv_8_51 _ _) (ly8_k La0_h21) ?_
            refine mx_callV 8 (y' := mi_X8_fail) (vs := [iv (2 : Int32), iv (ah_I h21 a0 51)]) (st := []) (al' := [some (rv a0), some (iv (2 : Int32)), some (iv (ah_I h21 a0 51))]) cl_8 V_X8_fail (Or.inl q2243) dX8_wrong_18 rfl rfl (Nat.le_of_ble_eq_true rfl) (Nat.le_of_ble_eq_true rfl) (ly8_k La0_h21) ?_
            refine mx_aload_n dX8_fail_0 rfl rfl ?_
            refine mx_get 8 48 (ref := "PrairiePoolModel") cl_8 (Nat.le_of_ble_eq_true rfl) (Or.inl q1675) (Or.inl rfl) dX8_fail_1 (fv_8_48 _ _) (ly8_k La0_h21) ?_
            refine mx_if_le (tgt := 8) dX8_fail_4 rfl (fun c26 => ?_) (fun c26 => ?_)
            · have H := H.1 c26
              refine mx_aload_n dX8_fail_8 rfl rfl ?_
              refine mx_iload_n dX8_fail_9 rfl rfl ?_
              refine mx_putI 8 48 (ref := "PrairiePoolModel") cl_8 (Nat.le_of_ble_eq_true rfl) (Or.inl q1675) (Or.inl rfl) dX8_fail_10 (Or.inl rfl) rfl (ly8_k La0_h21) ?_
              refine mx_nmI  (fun h27 eh27 Xh27 Kh27 Lh27 => ?_)
              have H := H h27 eh27 Xh27
              have La0_h27 := La0_h21.ext Xh27
              refine mx_aload_n dX8_fail_13 rfl rfl ?_
              refine mx_iload_n dX8_fail_14 rfl rfl ?_
              refine mx_putI 8 49 (ref := "PrairiePoolModel") cl_8 (Nat.le_of_ble_eq_true rfl) (Or.inl q1676) (Or.inl rfl) dX8_fail_15 (Or.inl rfl) rfl (ly8_k La0_h27) ?_
              refine mx_nmI  (fun h28 eh28 Xh28 Kh28 Lh28 => ?_)
              have H := H h28 eh28 Xh28
              have Kh28 := Kh28.trans Kh27
              have Lh28 := Lh28.trans Lh27
              have La0_h28 := La0_h27.ext Xh28
              refine mx_vretK rfl dX8_fail_18 ?_
              refine mx_vretK rfl dX8_wrong_21 ?_
              exact mx_weak (al' := [some (rv a0), some (iv x1), some (iv x2)]) ⟨rfl, ⟨rfl, ⟨rfl, trivial⟩⟩⟩ H
            · have H := H.2 c26
              refine mx_vretK rfl dX8_fail_7 ?_
              refine mx_vretK rfl dX8_wrong_21 ?_
              exact mx_weak (al' := [some (rv a0), some (iv x1), some (iv x2)]) ⟨rfl, ⟨rfl, ⟨rfl, trivial⟩⟩⟩ H
          · have H := H.2 c25
            refine mx_iconst dX8_wrong_9 ic_1 ?_
            refine mx_goto (tgt := 14) dX8_wrong_10 rfl ?_
            refine mx_aload_n dX8_wrong_14 rfl rfl ?_
            refine mx_get 8 51 (ref := "PrairiePoolModel") cl_8 (Nat.le_of_ble_eq_true rfl) (Or.inl q1678) (Or.inl rfl) dX8_wrong_15 (fv_8_51 _ _) (ly8_k La0_h21) ?_
            refine mx_callV 8 (y' := mi_X8_fail) (vs := [iv (1 : Int32), iv (ah_I h21 a0 51)]) (st := []) (al' := [some (rv a0), some (iv (1 : Int32)), some (iv (ah_I h21 a0 51))]) cl_8 V_X8_fail (Or.inl q2243) dX8_wrong_18 rfl rfl (Nat.le_of_ble_eq_true rfl) (Nat.le_of_ble_eq_true rfl) (ly8_k La0_h21) ?_
            refine mx_aload_n dX8_fail_0 rfl rfl ?_
            refine mx_get 8 48 (ref := "PrairiePoolModel") cl_8 (Nat.le_of_ble_eq_true rfl) (Or.inl q1675) (Or.inl rfl) dX8_fail_1 (fv_8_48 _ _) (ly8_k La0_h21) ?_
            refine mx_if_le (tgt := 8) dX8_fail_4 rfl (fun c29 => ?_) (fun c29 => ?_)
            · have H := H.1 c29
              refine mx_aload_n dX8_fail_8 rfl rfl ?_
              refine mx_iload_n dX8_fail_9 rfl rfl ?_
              refine mx_putI 8 48 (ref := "PrairiePoolModel") cl_8 (Nat.le_of_ble_eq_true rfl) (Or.inl q1675) (Or.inl rfl) dX8_fail_10 (Or.inl rfl) rfl (ly8_k La0_h21) ?_
              refine mx_nmI  (fun h30 eh30 Xh30 Kh30 Lh30 => ?_)
              have H := H h30 eh30 Xh30
              have La0_h30 := La0_h21.ext Xh30
              refine mx_aload_n dX8_fail_13 rfl rfl ?_
              refine mx_iload_n dX8_fail_14 rfl rfl ?_
              refine mx_putI 8 49 (ref := "PrairiePoolModel") cl_8 (Nat.le_of_ble_eq_true rfl) (Or.inl q1676) (Or.inl rfl) dX8_fail_15 (Or.inl rfl) rfl (ly8_k La0_h30) ?_
              refine mx_nmI  (fun h31 eh31 Xh31 Kh31 Lh31 => ?_)
              have H := H h31 eh31 Xh31
              have Kh31 := Kh31.trans Kh30
              have Lh31 := Lh31.trans Lh30
              have La0_h31 := La0_h30.ext Xh31
              refine mx_vretK rfl dX8_fail_18 ?_
              refine mx_vretK rfl dX8_wrong_21 ?_
              exact mx_weak (al' := [some (rv a0), some (iv x1), some (iv x2)]) ⟨rfl, ⟨rfl, ⟨rfl, trivial⟩⟩⟩ H
            · have H := H.2 c29
              refine mx_vretK rfl dX8_fail_7 ?_
              refine mx_vretK rfl dX8_wrong_21 ?_
              exact mx_weak (al' := [some (rv a0), some (iv x1), some (iv x2)]) ⟨rfl, ⟨rfl, ⟨rfl, trivial⟩⟩⟩ H
        · have H := H.2 c24
          refine mx_aload_n dX8_isSign_8 rfl rfl ?_
          refine mx_get 8 53 (ref := "PrairiePoolModel") cl_8 (Nat.le_of_ble_eq_true rfl) (Or.inl q1680) (Or.inl rfl) dX8_isSign_9 (fv_8_53 _ _) (ly8_k La0_h21) ?_
          refine mx_iload_n dX8_isSign_12 rfl rfl ?_
          refine mx_icmp_ne (tgt := 20) dX8_isSign_13 rfl (fun c32 => ?_) (fun c32 => ?_)
          · have H := H.1 c32
            refine mx_iconst dX8_isSign_20 ic_0 ?_
            refine mx_zretK rfl dX8_isSign_21 (Or.inl rfl) ?_
            refine mx_if_ne (tgt := 49) dX8_readFew_42 rfl (fun _ => absurd ‹_› (by decide)) (fun _ => ?_)
            refine mx_aload_n dX8_readFew_45 rfl rfl ?_
            refine mx_callV 8 (y' := mi_X8_wrong) (vs := []) (st := []) (al' := [some (rv a0)]) cl_8 V_X8_wrong (Or.inl q2239) dX8_readFew_46 rfl rfl (Nat.le_of_ble_eq_true rfl) (Nat.le_of_ble_eq_true rfl) (ly8_k La0_h21) ?_
            refine mx_aload_n dX8_wrong_0 rfl rfl ?_
            refine mx_aload_n dX8_wrong_1 rfl rfl ?_
            refine mx_get 8 50 (ref := "PrairiePoolModel") cl_8 (Nat.le_of_ble_eq_true rfl) (Or.inl q1677) (Or.inl rfl) dX8_wrong_2 (fv_8_50 _ _) (ly8_k La0_h21) ?_
            refine mx_iconst dX8_wrong_5 ic_4 ?_
            refine mx_icmp_ne (tgt := 13) dX8_wrong_6 rfl (fun c33 => ?_) (fun c33 => ?_)
            · have H := H.1 c33
              refine mx_iconst dX8_wrong_13 ic_2 ?_
              refine mx_aload_n dX8_wrong_14 rfl rfl ?_
              refine mx_get 8 51 (ref := "PrairiePoolModel") cl_8 (Nat.le_of_ble_eq_true rfl) (Or.inl q1678) (Or.inl rfl) dX8_wrong_15 (fv_8_51 _ _) (ly8_k La0_h21) ?_
              refine mx_callV 8 (y' := mi_X8_fail) (vs := [iv (2 : Int32), iv (ah_I h21 a0 51)]) (st := []) (al' := [some (rv a0), some (iv (2 : Int32)), some (iv (ah_I h21 a0 51))]) cl_8 V_X8_fail (Or.inl q2243) dX8_wrong_18 rfl rfl (Nat.le_of_ble_eq_true rfl) (Nat.le_of_ble_eq_true rfl) (ly8_k La0_h21) ?_
              refine mx_aload_n dX8_fail_0 rfl rfl ?_
              refine mx_get 8 48 (ref := "PrairiePoolModel") cl_8 (Nat.le_of_ble_eq_true rfl) (Or.inl q1675) (Or.inl rfl) dX8_fail_1 (fv_8_48 _ _) (ly8_k La0_h21) ?_
              refine mx_if_le (tgt := 8) dX8_fail_4 rfl (fun c34 => ?_) (fun c34 => ?_)
              · have H := H.1 c34
                refine mx_aload_n dX8_fail_8 rfl rfl ?_
                refine mx_iload_n dX8_fail_9 rfl rfl ?_
                refine mx_putI 8 48 (ref := "PrairiePoolModel") cl_8 (Nat.le_of_ble_eq_true rfl) (Or.inl q1675) (Or.inl rfl) dX8_fail_10 (Or.inl rfl) rfl (ly8_k La0_h21) ?_
                refine mx_nmI  (fun h35 eh35 Xh35 Kh35 Lh35 => ?_)
                have H := H h35 eh35 Xh35
                have La0_h35 := La0_h21.ext Xh35
                refine mx_aload_n dX8_fail_13 rfl rfl ?_
                refine mx_iload_n dX8_fail_14 rfl rfl ?_
                refine mx_putI 8 49 (ref := "PrairiePoolModel") cl_8 (Nat.le_of_ble_eq_true rfl) (Or.inl q1676) (Or.inl rfl) dX8_fail_15 (Or.inl rfl) rfl (ly8_k La0_h35) ?_
                refine mx_nmI  (fun h36 eh36 Xh36 Kh36 Lh36 => ?_)
                have H := H h36 eh36 Xh36
                have Kh36 := Kh36.trans Kh35
                have Lh36 := Lh36.trans Lh35
                have La0_h36 := La0_h35.ext Xh36
                refine mx_vretK rfl dX8_fail_18 ?_
                refine mx_vretK rfl dX8_wrong_21 ?_
                exact mx_weak (al' := [some (rv a0), some (iv x1), some (iv x2)]) ⟨rfl, ⟨rfl, ⟨rfl, trivial⟩⟩⟩ H
              · have H := H.2 c34
                refine mx_vretK rfl dX8_fail_7 ?_
                refine mx_vretK rfl dX8_wrong_21 ?_
                exact mx_weak (al' := [some (rv a0), some (iv x1), some (iv x2)]) ⟨rfl, ⟨rfl, ⟨rfl, trivial⟩⟩⟩ H
            · have H := H.2 c33
              refine mx_iconst dX8_wrong_9 ic_1 ?_
              refine mx_goto (tgt := 14) dX8_wrong_10 rfl ?_
              refine mx_aload_n dX8_wrong_14 rfl rfl ?_
              refine mx_get 8 51 (ref := "PrairiePoolModel") cl_8 (Nat.le_of_ble_eq_true rfl) (Or.inl q1678) (Or.inl rfl) dX8_wrong_15 (fv_8_51 _ _) (ly8_k La0_h21) ?_
              refine mx_callV 8 (y' := mi_X8_fail) (vs := [iv (1 : Int32), iv (ah_I h21 a0 51)]) (st := []) (al' := [some (rv a0), some (iv (1 : Int32)), some (iv (ah_I h21 a0 51))]) cl_8 V_X8_fail (Or.inl q2243) dX8_wrong_18 rfl rfl (Nat.le_of_ble_eq_true rfl) (Nat.le_of_ble_eq_true rfl) (ly8_k La0_h21) ?_
              refine mx_aload_n dX8_fail_0 rfl rfl ?_
              refine mx_get 8 48 (ref := "PrairiePoolModel") cl_8 (Nat.le_of_ble_eq_true rfl) (Or.inl q1675) (Or.inl rfl) dX8_fail_1 (fv_8_48 _ _) (ly8_k La0_h21) ?_
              refine mx_if_le (tgt := 8) dX8_fail_4 rfl (fun c37 => ?_) (fun c37 => ?_)
              · have H := H.1 c37
                refine mx_aload_n dX8_fail_8 rfl rfl ?_
                refine mx_iload_n dX8_fail_9 rfl rfl ?_
                refine mx_putI 8 48 (ref := "PrairiePoolModel") cl_8 (Nat.le_of_ble_eq_true rfl) (Or.inl q1675) (Or.inl rfl) dX8_fail_10 (Or.inl rfl) rfl (ly8_k La0_h21) ?_
                refine mx_nmI  (fun h38 eh38 Xh38 Kh38 Lh38 => ?_)
                have H := H h38 eh38 Xh38
                have La0_h38 := La0_h21.ext Xh38
                refine mx_aload_n dX8_fail_13 rfl rfl ?_
                refine mx_iload_n dX8_fail_14 rfl rfl ?_
                refine mx_putI 8 49 (ref := "PrairiePoolModel") cl_8 (Nat.le_of_ble_eq_true rfl) (Or.inl q1676) (Or.inl rfl) dX8_fail_15 (Or.inl rfl) rfl (ly8_k La0_h38) ?_
                refine mx_nmI  (fun h39 eh39 Xh39 Kh39 Lh39 => ?_)
                have H := H h39 eh39 Xh39
                have Kh39 := Kh39.trans Kh38
                have Lh39 := Lh39.trans Lh38
                have La0_h39 := La0_h38.ext Xh39
                refine mx_vretK rfl dX8_fail_18 ?_
                refine mx_vretK rfl dX8_wrong_21 ?_
                exact mx_weak (al' := [some (rv a0), some (iv x1), some (iv x2)]) ⟨rfl, ⟨rfl, ⟨rfl, trivial⟩⟩⟩ H
              · have H := H.2 c37
                refine mx_vretK rfl dX8_fail_7 ?_
                refine mx_vretK rfl dX8_wrong_21 ?_
                exact mx_weak (al' := [some (rv a0), some (iv x1), some (iv x2)]) ⟨rfl, ⟨rfl, ⟨rfl, trivial⟩⟩⟩ H
          · have H := H.2 c32
            refine mx_iconst dX8_isSign_16 ic_1 ?_
            refine mx_goto (tgt := 21) dX8_isSign_17 rfl ?_
            refine mx_zretK rfl dX8_isSign_21 (Or.inr rfl) ?_
            refine mx_if_ne (tgt := 49) dX8_readFew_42 rfl (fun _ => ?_) (fun _ => absurd ‹_› (by decide))
            exact mx_weak (al' := [some (rv a0), some (iv x1), some (iv x2)]) ⟨rfl, ⟨rfl, ⟨rfl, trivial⟩⟩⟩ H
theorem v_X8_readFew_49 {G : ma_G} {d : Nat} {a0 : Nat} {x1 : Int32} {x2 : Int32} {h : ah_T} {Q : Option ma_V → ah_T → Prop} {E : Nat → ah_T → Prop} (La0_h : LY8 h a0) (H : ((ah_I h a0 48) ≤ 0 → MX G mi_X8_next (d + 1) 0 [some (rv a0), none] [] h (Qv fun h2 => ah_ext h h2 → MX G mi_X8_readDeeper (d + 1) 0 [some (rv a0), some (iv (x1 + (1 : Int32)))] [] h2 (Qv fun h4 => ah_ext h2 h4 → (¬ (ah_I h4 a0 48) = 0 → ((ah_I h4 a0 48) ≤ 0 → MX G mi_X8_next (d + 1) 0 [some (rv a0), none] [] h4 (Qv fun h8 => ah_ext h4 h8 → vp_in (ah_I h8 a0 58) 1100 ∧ ∀ h11 : ah_T, h11 = ah_wI h8 (a0 + 41) (ah_I h8 a0 58).toNatClampNeg (((1048576 : Int32) * x2) + (0 : Int32)) → ah_ext h8 h11 → ∀ h12 : ah_T, h12 = ah_wI h11 a0 58 ((ah_I h8 a0 58) + (1 : Int32)) → ah_ext h11 h12 → Q none h12) E) ∧ (¬ (ah_I h4 a0 48) ≤ 0 → Q none h4)) ∧ ((ah_I h4 a0 48) = 0 → (¬ (ah_I h4 a0 50) = (3 : Int32) → (¬ (ah_I h4 a0 50) = (4 : Int32) → ((ah_I h4 a0 48) ≤ 0 → ∀ h16 : ah_T, h16 = ah_wI h4 a0 48 (2 : Int32) → ah_ext h4 h16 → ∀ h17 : ah_T, h17 = ah_wI h16 a0 49 (ah_I h4 a0 51) → ah_ext h16 h17 → Q none h17) ∧ (¬ (ah_I h4 a0 48) ≤ 0 → Q none h4)) ∧ ((ah_I h4 a0 50) = (4 : Int32) → ((ah_I h4 a0 48) ≤ 0 → ∀ h19 : ah_T, h19 = ah_wI h4 a0 48 (1 : Int32) → ah_ext h4 h19 → ∀ h20 : ah_T, h20 = ah_wI h19 a0 49 (ah_I h4 a0 51) → ah_ext h19 h20 → Q none h20) ∧ (¬ (ah_I h4 a0 48) ≤ 0 → Q none h4))) ∧ ((ah_I h4 a0 50) = (3 : Int32) → (¬ (ah_I h4 a0 53) = (41 : Int32) → (¬ (ah_I h4 a0 50) = (4 : Int32) → ((ah_I h4 a0 48) ≤ 0 → ∀ h24 : ah_T, h24 = ah_wI h4 a0 48 (2 : Int32) → ah_ext h4 h24 → ∀ h25 : ah_T, h25 = ah_wI h24 a0 49 (ah_I h4 a0 51) → ah_ext h24 h25 → Q none h25) ∧ (¬ (ah_I h4 a0 48) ≤ 0 → Q none h4)) ∧ ((ah_I h4 a0 50) = (4 : Int32) → ((ah_I h4 a0 48) ≤ 0 → ∀ h27 : ah_T, h27 = ah_wI h4 a0 48 (1 : Int32) → ah_ext h4 h27 → ∀ h28 : ah_T, h28 = ah_wI h27 a0 49 (ah_I h4 a0 51) → ah_ext h27 h28 → Q none h28) ∧ (¬ (ah_I h4 a0 48) ≤ 0 → Q none h4))) ∧ ((ah_I h4 a0 53) = (41 : Int32) → ((ah_I h4 a0 48) ≤ 0 → MX G mi_X8_next (d + 1) 0 [some (rv a0), none] [] h4 (Qv fun h30 => ah_ext h4 h30 → vp_in (ah_I h30 a0 58) 1100 ∧ ∀ h33 : ah_T, h33 = ah_wI h30 (a0 + 41) (ah_I h30 a0 58).toNatClampNeg (((1048576 : Int32) * x2) + (0 : Int32)) → ah_ext h30 h33 → ∀ h34 : ah_T, h34 = ah_wI h33 a0 58 ((ah_I h30 a0 58) + (1 : Int32)) → ah_ext h33 h34 → Q none h34) E) ∧ (¬ (ah_I h4 a0 48) ≤ 0 → Q none h4))))) E) E) ∧ (¬ (ah_I h a0 48) ≤ 0 → Q none h)) : MX G mi_X8_readFew (d + 2) 49 [some (rv a0), some (iv x1), some (iv x2)] [] h Q E := by
  refine mx_aload_n dX8_readFew_49 rfl rfl ?_
  refine mx_get 8 48 (ref := "PrairiePoolModel") cl_8 (Nat.le_of_ble_eq_true rfl) (Or.inl q1675) (Or.inl rfl) dX8_readFew_50 (fv_8_48 _ _) (ly8_k La0_h) ?_
  refine mx_if_le (tgt := 57) dX8_readFew_53 rfl (fun c1 => ?_) (fun c1 => ?_)
  · have H := H.1 c1
    refine mx_aload_n dX8_readFew_57 rfl rfl ?_
    refine mx_callV 8 (y' := mi_X8_next) (vs := []) (st := []) (al' := [some (rv a0), none]) cl_8 V_X8_next (Or.inl q2170) dX8_readFew_58 rfl rfl (Nat.le_of_ble_eq_true rfl) (Nat.le_of_ble_eq_true rfl) (ly8_k La0_h) ?_
    refine ma_kv H (fun h2 Xh2 H => ?_) (fun x1 h1 X1 H => mt_out rfl H)
    have H := H Xh2
    have La0_h2 := La0_h.ext Xh2
    refine mx_aload_n dX8_readFew_61 rfl rfl ?_
    refine mx_iload_n dX8_readFew_62 rfl rfl ?_
    refine mx_iconst dX8_readFew_63 ic_1 ?_
    refine mx_iadd dX8_readFew_64 ?_
    refine mx_callV 8 (y' := mi_X8_readDeeper) (vs := [iv (x1 + (1 : Int32))]) (st := []) (al' := [some (rv a0), some (iv (x1 + (1 : Int32)))]) cl_8 V_X8_readDeeper (Or.inl q2287) dX8_readFew_65 rfl rfl (Nat.le_of_ble_eq_true rfl) (Nat.le_of_ble_eq_true rfl) (ly8_k La0_h2) ?_
    refine ma_kv H (fun h4 Xh4 H => ?_) (fun x1 h1 X1 H => mt_out rfl H)
    have H := H Xh4
    have La0_h4 := La0_h2.ext Xh4
    refine mx_aload_n dX8_readFew_68 rfl rfl ?_
    refine mx_get 8 48 (ref := "PrairiePoolModel") cl_8 (Nat.le_of_ble_eq_true rfl) (Or.inl q1675) (Or.inl rfl) dX8_readFew_69 (fv_8_48 _ _) (ly8_k La0_h4) ?_
    refine mx_if_ne (tgt := 88) dX8_readFew_72 rfl (fun c6 => ?_) (fun c6 => ?_)
    · have H := H.1 c6
      refine mx_aload_n dX8_readFew_88 rfl rfl ?_
      refine mx_get 8 48 (ref := "PrairiePoolModel") cl_8 (Nat.le_of_ble_eq_true rfl) (Or.inl q1675) (Or.inl rfl) dX8_readFew_89 (fv_8_48 _ _) (ly8_k La0_h4) ?_
      refine mx_if_le (tgt := 96) dX8_readFew_92 rfl (fun c7 => ?_) (fun c7 => ?_)
      · have H := H.1 c7
        refine mx_aload_n dX8_readFew_96 rfl rfl ?_
        refine mx_callV 8 (y' := mi_X8_next) (vs := []) (st := []) (al' := [some (rv a0), none]) cl_8 V_X8_next (Or.inl q2170) dX8_readFew_97 rfl rfl (Nat.le_of_ble_eq_true rfl) (Nat.le_of_ble_eq_true rfl) (ly8_k La0_h4) ?_
        refine ma_kv H (fun h8 Xh8 H => ?_) (fun x1 h1 X1 H => mt_out rfl H)
        have H := H Xh8
        have La0_h8 := La0_h4.ext Xh8
        refine mx_aload_n dX8_readFew_100 rfl rfl ?_
        refine mx_iload_n dX8_readFew_101 rfl rfl ?_
        refine mx_iconst dX8_readFew_102 ic_0 ?_
        refine mx_callV 8 (y' := mi_X8_mark) (vs := [iv x2, iv (0 : Int32)]) (st := []) (al' := [some (rv a0), some (iv x2), some (iv (0 : Int32))]) cl_8 V_X8_mark (Or.inl q2279) dX8_readFew_103 rfl rfl (Nat.le_of_ble_eq_true rfl) (Nat.le_of_ble_eq_true rfl) (ly8_k La0_h8) ?_
        refine mx_aload_n dX8_mark_0 rfl rfl ?_
        refine mx_get 8 64 (ref := "PrairiePoolModel") cl_8 (Nat.le_of_ble_eq_true rfl) (Or.inl q1691) (Or.inl rfl) dX8_mark_1 (fv_8_64 _ _) (ly8_k La0_h8) ?_
        refine mx_tr (ly8_R_0_64 La0_h8) ?_
        refine mx_aload_n dX8_mark_4 rfl rfl ?_
        refine mx_get 8 58 (ref := "PrairiePoolModel") cl_8 (Nat.le_of_ble_eq_true rfl) (Or.inl q1685) (Or.inl rfl) dX8_mark_5 (fv_8_58 _ _) (ly8_k La0_h8) ?_
        refine mx_ldcw q2096 dX8_mark_8 ?_
        refine mx_iload_n dX8_mark_11 rfl rfl ?_
        refine mx_imul dX8_mark_12 ?_
        refine mx_iload_n dX8_mark_13 rfl rfl ?_
        refine mx_iadd dX8_mark_14 ?_
        obtain ⟨k10, H⟩ := H
        refine my_iast dX8_mark_15 rfl (ly8_A_41 La0_h8 k10) ?_
        refine mx_nmI  (fun h11 eh11 Xh11 Kh11 Lh11 => ?_)
        have H := H h11 eh11 Xh11
        have La0_h11 := La0_h8.ext Xh11
        refine mx_aload_n dX8_mark_16 rfl rfl ?_
        refine mx_dup_r dX8_mark_17 ?_
        refine mx_get 8 58 (ref := "PrairiePoolModel") cl_8 (Nat.le_of_ble_eq_true rfl) (Or.inl q1685) (Or.inl rfl) dX8_mark_18 (fv_8_58 _ _) (ly8_k La0_h11) ?_
        refine mx_ti (ah_skIA eh11 (by omega)) ?_
        refine mx_iconst dX8_mark_21 ic_1 ?_
        refine mx_iadd dX8_mark_22 ?_
        refine mx_putI 8 58 (ref := "PrairiePoolModel") cl_8 (Nat.le_of_ble_eq_true rfl) (Or.inl q1685) (Or.inl rfl) dX8_mark_23 (Or.inl rfl) rfl (ly8_k La0_h11) ?_
        refine mx_nmI  (fun h12 eh12 Xh12 Kh12 Lh12 => ?_)
        have H := H h12 eh12 Xh12
        have Kh12 := Kh12.trans Kh11
        have Lh12 := Lh12.trans Lh11
        have La0_h12 := La0_h11.ext Xh12
        refine mx_vretK rfl dX8_mark_26 ?_
        exact mx_vret rfl dX8_readFew_106 H
      · have H := H.2 c7
        exact mx_vret rfl dX8_readFew_95 H
    · have H := H.2 c6
      refine mx_aload_n dX8_readFew_75 rfl rfl ?_
      refine mx_bipush dX8_readFew_76 ib_41 ?_
      refine mx_callV 8 (y' := mi_X8_isSign) (vs := [iv (41 : Int32)]) (st := []) (al' := [some (rv a0), some (iv (41 : Int32))]) cl_8 V_X8_isSign (Or.inl q2251) dX8_readFew_78 rfl rfl (Nat.le_of_ble_eq_true rfl) (Nat.le_of_ble_eq_true rfl) (ly8_k La0_h4) ?_
      refine mx_aload_n dX8_isSign_0 rfl rfl ?_
      refine mx_get 8 50 (ref := "PrairiePoolModel") cl_8 (Nat.le_of_ble_eq_true rfl) (Or.inl q1677) (Or.inl rfl) dX8_isSign_1 (fv_8_50 _ _) (ly8_k La0_h4) ?_
      refine mx_iconst dX8_isSign_4 ic_3 ?_
      refine mx_icmp_ne (tgt := 20) dX8_isSign_5 rfl (fun c13 => ?_) (fun c13 => ?_)
      · have H := H.1 c13
        refine mx_iconst dX8_isSign_20 ic_0 ?_
        refine mx_zretK rfl dX8_isSign_21 (Or.inl rfl) ?_
        refine mx_if_ne (tgt := 88) dX8_readFew_81 rfl (fun _ => absurd ‹_› (by decide)) (fun _ => ?_)
        refine mx_aload_n dX8_readFew_84 rfl rfl ?_
        refine mx_callV 8 (y' := mi_X8_wrong) (vs := []) (st := []) (al' := [some (rv a0)]) cl_8 V_X8_wrong (Or.inl q2239) dX8_readFew_85 rfl rfl (Nat.le_of_ble_eq_true rfl) (Nat.le_of_ble_eq_true rfl) (ly8_k La0_h4) ?_
        refine mx_aload_n dX8_wrong_0 rfl rfl ?_
        refine mx_aload_n dX8_wrong_1 rfl rfl ?_
        refine mx_get 8 50 (ref := "PrairiePoolModel") cl_8 (Nat.le_of_ble_eq_true rfl) (Or.inl q1677) (Or.inl rfl) dX8_wrong_2 (fv_8_50 _ _) (ly8_k La0_h4) ?_
        refine mx_iconst dX8_wrong_5 ic_4 ?_
        refine mx_icmp_ne (tgt := 13) dX8_wrong_6 rfl (fun c14 => ?_) (fun c14 => ?_)
        · have H := H.1 c14
          refine mx_iconst dX8_wrong_13 ic_2 ?_
          refine mx_aload_n dX8_wrong_14 rfl rfl ?_
          refine mx_get 8 51 (ref := "PrairiePoolModel") cl_8 (Nat.le_of_ble_eq_true rfl) (Or.inl q1678) (Or.inl rfl) dX8_wrong_15 (fv_8_51 _ _) (ly8_k La0_h4) ?_
          refine mx_callV 8 (y' := mi_X8_fail) (vs := [iv (2 : Int32), iv (ah_I h4 a0 51)]) (st := []) (al' := [some (rv a0), some (iv (2 : Int32)), some (iv (ah_I h4 a0 51))]) cl_8 V_X8_fail (Or.inl q2243) dX8_wrong_18 rfl rfl (Nat.le_of_ble_eq_true rfl) (Nat.le_of_ble_eq_true rfl) (ly8_k La0_h4) ?_
          refine mx_aload_n dX8_fail_0 rfl rfl ?_
          refine mx_get 8 48 (ref := "PrairiePoolModel") cl_8 (Nat.le_of_ble_eq_true rfl) (Or.inl q1675) (Or.inl rfl) dX8_fail_1 (fv_8_48 _ _) (ly8_k La0_h4) ?_
          refine mx_if_le (tgt := 8) dX8_fail_4 rfl (fun c15 => ?_) (fun c15 => ?_)
          · have H := H.1 c15
            refine mx_aload_n dX8_fail_8 rfl rfl ?_
            refine mx_iload_n dX8_fail_9 rfl rfl ?_
            refine mx_putI 8 48 (ref := "PrairiePoolModel") cl_8 (Nat.le_of_ble_eq_true rfl) (Or.inl q1675) (Or.inl rfl) dX8_fail_10 (Or.inl rfl) rfl (ly8_k La0_h4) ?_
            refine mx_nmI  (fun h16 eh16 Xh16 Kh16 Lh16 => ?_)
            have H := H h16 eh16 Xh16
            have La0_h16 := La0_h4.ext Xh16
            refine mx_aload_n dX8_fail_13 rfl rfl ?_
            refine mx_iload_n dX8_fail_14 rfl rfl ?_
            refine mx_putI 8 49 (ref := "PrairiePoolModel") cl_8 (Nat.le_of_ble_eq_true rfl) (Or.inl q1676) (Or.inl rfl) dX8_fail_15 (Or.inl rfl) rfl (ly8_k La0_h16) ?_
            refine mx_nmI  (fun h17 eh17 Xh17 Kh17 Lh17 => ?_)
            have H := H h17 eh17 Xh17
            have Kh17 := Kh17.trans Kh16
            have Lh17 := Lh17.trans Lh16
            have La0_h17 := La0_h16.ext Xh17
            refine mx_vretK rfl dX8_fail_18 ?_
            refine mx_vretK rfl dX8_wrong_21 ?_
            refine mx_aload_n dX8_readFew_88 rfl rfl ?_
            refine mx_get 8 48 (ref := "PrairiePoolModel") cl_8 (Nat.le_of_ble_eq_true rfl) (Or.inl q1675) (Or.inl rfl) dX8_readFew_89 (fv_8_48 _ _) (ly8_k La0_h17) ?_
            refine mx_ti ((ah_skIK eh17 (by decide)).trans (ah_hitI eh16)) ?_
            refine mx_if_le (tgt := 96) dX8_readFew_92 rfl (fun _ => absurd ‹_› (by decide)) (fun _ => ?_)
            exact mx_vret rfl dX8_readFew_95 H
          · have H := H.2 c15
            refine mx_vretK rfl dX8_fail_7 ?_
            refine mx_vretK rfl dX8_wrong_21 ?_
            refine mx_aload_n dX8_readFew_88 rfl rfl ?_
            refine mx_get 8 48 (ref := "PrairiePoolModel") cl_8 (Nat.le_of_ble_eq_true rfl) (Or.inl q1675) (Or.inl rfl) dX8_readFew_89 (fv_8_48 _ _) (ly8_k La0_h4) ?_
            refine mx_if_le (tgt := 96) dX8_readFew_92 rfl (fun q_ => absurd q_ c15) (fun _ => ?_)
            exact mx_vret rfl dX8_readFew_95 H
        · have H := H.2 c14
          refine mx_iconst dX8_wrong_9 ic_1 ?_
          refine mx_goto (tgt := 14) dX8_wrong_10 rfl ?_
          refine mx_aload_n dX8_wrong_14 rfl rfl ?_
          refine mx_get 8 51 (ref := "PrairiePoolModel") cl_8 (Nat.le_of_ble_eq_true rfl) (Or.inl q1678) (Or.inl rfl) dX8_wrong_15 (fv_8_51 _ _) (ly8_k La0_h4) ?_
          refine mx_callV 8 (y' := mi_X8_fail) (vs := [iv (1 : Int32), iv (ah_I h4 a0 51)]) (st := []) (al' := [some (rv a0), some (iv (1 : Int32)), some (iv (ah_I h4 a0 51))]) cl_8 V_X8_fail (Or.inl q2243) dX8_wrong_18 rfl rfl (Nat.le_of_ble_eq_true rfl) (Nat.le_of_ble_eq_true rfl) (ly8_k La0_h4) ?_
          refine mx_aload_n dX8_fail_0 rfl rfl ?_
          refine mx_get 8 48 (ref := "PrairiePoolModel") cl_8 (Nat.le_of_ble_eq_true rfl) (Or.inl q1675) (Or.inl rfl) dX8_fail_1 (fv_8_48 _ _) (ly8_k La0_h4) ?_
          refine mx_if_le (tgt := 8) dX8_fail_4 rfl (fun c18 => ?_) (fun c18 => ?_)
          · have H := H.1 c18
            refine mx_aload_n dX8_fail_8 rfl rfl ?_
            refine mx_iload_n dX8_fail_9 rfl rfl ?_
            refine mx_putI 8 48 (ref := "PrairiePoolModel") cl_8 (Nat.le_of_ble_eq_true rfl) (Or.inl q1675) (Or.inl rfl) dX8_fail_10 (Or.inl rfl) rfl (ly8_k La0_h4) ?_
            refine mx_nmI  (fun h19 eh19 Xh19 Kh19 Lh19 => ?_)
            have H := H h19 eh19 Xh19
            have La0_h19 := La0_h4.ext Xh19
            refine mx_aload_n dX8_fail_13 rfl rfl ?_
            refine mx_iload_n dX8_fail_14 rfl rfl ?_
            refine mx_putI 8 49 (ref := "PrairiePoolModel") cl_8 (Nat.le_of_ble_eq_true rfl) (Or.inl q1676) (Or.inl rfl) dX8_fail_15 (Or.inl rfl) rfl (ly8_k La0_h19) ?_
            refine mx_nmI  (fun h20 eh20 Xh20 Kh20 Lh20 => ?_)
            have H := H h20 eh20 Xh20
            have Kh20 := Kh20.trans Kh19
            have Lh20 := Lh20.trans Lh19
            have La0_h20 := La0_h19.ext Xh20
            refine mx_vretK rfl dX8_fail_18 ?_
            refine mx_vretK rfl dX8_wrong_21 ?_
            refine mx_aload_n dX8_readFew_88 rfl rfl ?_
            refine mx_get 8 48 (ref := "PrairiePoolModel") cl_8 (Nat.le_of_ble_eq_true rfl) (Or.inl q1675) (Or.inl rfl) dX8_readFew_89 (fv_8_48 _ _) (ly8_k La0_h20) ?_
            refine mx_ti ((ah_skIK eh20 (by decide)).trans (ah_hitI eh19)) ?_
            refine mx_if_le (tgt := 96) dX8_readFew_92 rfl (fun _ => absurd ‹_› (by decide)) (fun _ => ?_)
            exact mx_vret rfl dX8_readFew_95 H
          · have H := H.2 c18
            refine mx_vretK rfl dX8_fail_7 ?_
            refine mx_vretK rfl dX8_wrong_21 ?_
            refine mx_aload_n dX8_readFew_88 rfl rfl ?_
            refine mx_get 8 48 (ref := "PrairiePoolModel") cl_8 (Nat.le_of_ble_eq_true rfl) (Or.inl q1675) (Or.inl rfl) dX8_readFew_89 (fv_8_48 _ _) (ly8_k La0_h4) ?_
            refine mx_if_le (tgt := 96) dX8_readFew_92 rfl (fun q_ => absurd q_ c18) (fun _ => ?_)
            exact mx_vret rfl dX8_readFew_95 H
      · have H := H.2 c13
        refine mx_aload_n dX8_isSign_8 rfl rfl ?_
        refine mx_get 8 53 (ref := "PrairiePoolModel") cl_8 (Nat.le_of_ble_eq_true rfl) (Or.inl q1680) (Or.inl rfl) dX8_isSign_9 (fv_8_53 _ _) (ly8_k La0_h4) ?_
        refine mx_iload_n dX8_isSign_12 rfl rfl ?_
        refine mx_icmp_ne (tgt := 20) dX8_isSign_13 rfl (fun c21 => ?_) (fun c21 => ?_)
        · have H := H.1 c21
          refine mx_iconst dX8_isSign_20 ic_0 ?_
          refine mx_zretK rfl dX8_isSign_21 (Or.inl rfl) ?_
          refine mx_if_ne (tgt := 88) dX8_readFew_81 rfl (fun _ => absurd ‹_› (by decide)) (fun _ => ?_)
          refine mx_aload_n dX8_readFew_84 rfl rfl ?_
          refine mx_callV 8 (y' := mi_X8_wrong) (vs := []) (st := []) (al' := [some (rv a0)]) cl_8 V_X8_wrong (Or.inl q2239) dX8_readFew_85 rfl rfl (Nat.le_of_ble_eq_true rfl) (Nat.le_of_ble_eq_true rfl) (ly8_k La0_h4) ?_
          refine mx_aload_n dX8_wrong_0 rfl rfl ?_
          refine mx_aload_n dX8_wrong_1 rfl rfl ?_
          refine mx_get 8 50 (ref := "PrairiePoolModel") cl_8 (Nat.le_of_ble_eq_true rfl) (Or.inl q1677) (Or.inl rfl) dX8_wrong_2 (fv_8_50 _ _) (ly8_k La0_h4) ?_
          refine mx_iconst dX8_wrong_5 ic_4 ?_
          refine mx_icmp_ne (tgt := 13) dX8_wrong_6 rfl (fun c22 => ?_) (fun c22 => ?_)
          · have H := H.1 c22
            refine mx_iconst dX8_wrong_13 ic_2 ?_
            refine mx_aload_n dX8_wrong_14 rfl rfl ?_
            refine mx_get 8 51 (ref := "PrairiePoolModel") cl_8 (Nat.le_of_ble_eq_true rfl) (Or.inl q1678) (Or.inl rfl) dX8_wrong_15 (fv_8_51 _ _) (ly8_k La0_h4) ?_
            refine mx_callV 8 (y' := mi_X8_fail) (vs := [iv (2 : Int32), iv (ah_I h4 a0 51)]) (st := []) (al' := [some (rv a0), some (iv (2 : Int32)), some (iv (ah_I h4 a0 51))]) cl_8 V_X8_fail (Or.inl q2243) dX8_wrong_18 rfl rfl (Nat.le_of_ble_eq_true rfl) (Nat.le_of_ble_eq_true rfl) (ly8_k La0_h4) ?_
            refine mx_aload_n dX8_fail_0 rfl rfl ?_
            refine mx_get 8 48 (ref := "PrairiePoolModel") cl_8 (Nat.le_of_ble_eq_true rfl) (Or.inl q1675) (Or.inl rfl) dX8_fail_1 (fv_8_48 _ _) (ly8_k La0_h4) ?_
            refine mx_if_le (tgt := 8) dX8_fail_4 rfl (fun c23 => ?_) (fun c23 => ?_)
            · have H := H.1 c23
              refine mx_aload_n dX8_fail_8 rfl rfl ?_
              refine mx_iload_n dX8_fail_9 rfl rfl ?_
              refine mx_putI 8 48 (ref := "PrairiePoolModel") cl_8 (Nat.le_of_ble_eq_true rfl) (Or.inl q1675) (Or.inl rfl) dX8_fail_10 (Or.inl rfl) rfl (ly8_k La0_h4) ?_
              refine mx_nmI  (fun h24 eh24 Xh24 Kh24 Lh24 => ?_)
              have H := H h24 eh24 Xh24
              have La0_h24 := La0_h4.ext Xh24
              refine mx_aload_n dX8_fail_13 rfl rfl ?_
              refine mx_iload_n dX8_fail_14 rfl rfl ?_
              refine mx_putI 8 49 (ref := "PrairiePoolModel") cl_8 (Nat.le_of_ble_eq_true rfl) (Or.inl q1676) (Or.inl rfl) dX8_fail_15 (Or.inl rfl) rfl (ly8_k La0_h24) ?_
              refine mx_nmI  (fun h25 eh25 Xh25 Kh25 Lh25 => ?_)
              have H := H h25 eh25 Xh25
              have Kh25 := Kh25.trans Kh24
              have Lh25 := Lh25.trans Lh24
              have La0_h25 := La0_h24.ext Xh25
              refine mx_vretK rfl dX8_fail_18 ?_
              refine mx_vretK rfl dX8_wrong_21 ?_
              refine mx_aload_n dX8_readFew_88 rfl rfl ?_
              refine mx_get 8 48 (ref := "PrairiePoolModel") cl_8 (Nat.le_of_ble_eq_true rfl) (Or.inl q1675) (Or.inl rfl) dX8_readFew_89 (fv_8_48 _ _) (ly8_k La0_h25) ?_
              refine mx_ti ((ah_skIK eh25 (by decide)).trans (ah_hitI eh24)) ?_
              refine mx_if_le (tgt := 96) dX8_readFew_92 rfl (fun _ => absurd ‹_› (by decide)) (fun _ => ?_)
              exact mx_vret rfl dX8_readFew_95 H
            · have H := H.2 c23
              refine mx_vretK rfl dX8_fail_7 ?_
              refine mx_vretK rfl dX8_wrong_21 ?_
              refine mx_aload_n dX8_readFew_88 rfl rfl ?_
              refine mx_get 8 48 (ref := "PrairiePoolModel") cl_8 (Nat.le_of_ble_eq_true rfl) (Or.inl q1675) (Or.inl rfl) dX8_readFew_89 (fv_8_48 _ _) (ly8_k La0_h4) ?_
              refine mx_if_le (tgt := 96) dX8_readFew_92 rfl (fun q_ => absurd q_ c23) (fun _ => ?_)
              exact mx_vret rfl dX8_readFew_95 H
          · have H := H.2 c22
            refine mx_iconst dX8_wrong_9 ic_1 ?_
            refine mx_goto (tgt := 14) dX8_wrong_10 rfl ?_
            refine mx_aload_n dX8_wrong_14 rfl rfl ?_
            refine mx_get 8 51 (ref := "PrairiePoolModel") cl_8 (Nat.le_of_ble_eq_true rfl) (Or.inl q1678) (Or.inl rfl) dX8_wrong_15 (fv_8_51 _ _) (ly8_k La0_h4) ?_
            refine mx_callV 8 (y' := mi_X8_fail) (vs := [iv (1 : Int32), iv (ah_I h4 a0 51)]) (st := []) (al' := [some (rv a0), some (iv (1 : Int32)), some (iv (ah_I h4 a0 51))]) cl_8 V_X8_fail (Or.inl q2243) dX8_wrong_18 rfl rfl (Nat.le_of_ble_eq_true rfl) (Nat.le_of_ble_eq_true rfl) (ly8_k La0_h4) ?_
            refine mx_aload_n dX8_fail_0 rfl rfl ?_
            refine mx_get 8 48 (ref := "PrairiePoolModel") cl_8 (Nat.le_of_ble_eq_true rfl) (Or.inl q1675) (Or.inl rfl) dX8_fail_1 (fv_8_48 _ _) (ly8_k La0_h4) ?_
            refine mx_if_le (tgt := 8) dX8_fail_4 rfl (fun c26 => ?_) (fun c26 => ?_)
            · have H := H.1 c26
              refine mx_aload_n dX8_fail_8 rfl rfl ?_
              refine mx_iload_n dX8_fail_9 rfl rfl ?_
              refine mx_putI 8 48 (ref := "PrairiePoolModel") cl_8 (Nat.le_of_ble_eq_true rfl) (Or.inl q1675) (Or.inl rfl) dX8_fail_10 (Or.inl rfl) rfl (ly8_k La0_h4) ?_
              refine mx_nmI  (fun h27 eh27 Xh27 Kh27 Lh27 => ?_)
              have H := H h27 eh27 Xh27
              have La0_h27 := La0_h4.ext Xh27
              refine mx_aload_n dX8_fail_13 rfl rfl ?_
              refine mx_iload_n dX8_fail_14 rfl rfl ?_
              refine mx_putI 8 49 (ref := "PrairiePoolModel") cl_8 (Nat.le_of_ble_eq_true rfl) (Or.inl q1676) (Or.inl rfl) dX8_fail_15 (Or.inl rfl) rfl (ly8_k La0_h27) ?_
              refine mx_nmI  (fun h28 eh28 Xh28 Kh28 Lh28 => ?_)
              have H := H h28 eh28 Xh28
              have Kh28 := Kh28.trans Kh27
              have Lh28 := Lh28.trans Lh27
              have La0_h28 := La0_h27.ext Xh28
              refine mx_vretK rfl dX8_fail_18 ?_
              refine mx_vretK rfl dX8_wrong_21 ?_
              refine mx_aload_n dX8_readFew_88 rfl rfl ?_
              refine mx_get 8 48 (ref := "PrairiePoolModel") cl_8 (Nat.le_of_ble_eq_true rfl) (Or.inl q1675) (Or.inl rfl) dX8_readFew_89 (fv_8_48 _ _) (ly8_k La0_h28) ?_
              refine mx_ti ((ah_skIK eh28 (by decide)).trans (ah_hitI eh27)) ?_
              refine mx_if_le (tgt := 96) dX8_readFew_92 rfl (fun _ => absurd ‹_› (by decide)) (fun _ => ?_)
              exact mx_vret rfl dX8_readFew_95 H
            · have H := H.2 c26
              refine mx_vretK rfl dX8_fail_7 ?_
              refine mx_vretK rfl dX8_wrong_21 ?_
              refine mx_aload_n dX8_readFew_88 rfl rfl ?_
              refine mx_get 8 48 (ref := "PrairiePoolModel") cl_8 (Nat.le_of_ble_eq_true rfl) (Or.inl q1675) (Or.inl rfl) dX8_readFew_89 (fv_8_48 _ _) (ly8_k La0_h4) ?_
              refine mx_if_le (tgt := 96) dX8_readFew_92 rfl (fun q_ => absurd q_ c26) (fun _ => ?_)
              exact mx_vret rfl dX8_readFew_95 H
        · have H := H.2 c21
          refine mx_iconst dX8_isSign_16 ic_1 ?_
          refine mx_goto (tgt := 21) dX8_isSign_17 rfl ?_
          refine mx_zretK rfl dX8_isSign_21 (Or.inr rfl) ?_
          refine mx_if_ne (tgt := 88) dX8_readFew_81 rfl (fun _ => ?_) (fun _ => absurd ‹_› (by decide))
          refine mx_aload_n dX8_readFew_88 rfl rfl ?_
          refine mx_get 8 48 (ref := "PrairiePoolModel") cl_8 (Nat.le_of_ble_eq_true rfl) (Or.inl q1675) (Or.inl rfl) dX8_readFew_89 (fv_8_48 _ _) (ly8_k La0_h4) ?_
          refine mx_if_le (tgt := 96) dX8_readFew_92 rfl (fun c29 => ?_) (fun c29 => ?_)
          · have H := H.1 c29
            refine mx_aload_n dX8_readFew_96 rfl rfl ?_
            refine mx_callV 8 (y' := mi_X8_next) (vs := []) (st := []) (al' := [some (rv a0), none]) cl_8 V_X8_next (Or.inl q2170) dX8_readFew_97 rfl rfl (Nat.le_of_ble_eq_true rfl) (Nat.le_of_ble_eq_true rfl) (ly8_k La0_h4) ?_
            refine ma_kv H (fun h30 Xh30 H => ?_) (fun x1 h1 X1 H => mt_out rfl H)
            have H := H Xh30
            have La0_h30 := La0_h4.ext Xh30
            refine mx_aload_n dX8_readFew_100 rfl rfl ?_
            refine mx_iload_n dX8_readFew_101 rfl rfl ?_
            refine mx_iconst dX8_readFew_102 ic_0 ?_
            refine mx_callV 8 (y' := mi_X8_mark) (vs := [iv x2, iv (0 : Int32)]) (st := []) (al' := [some (rv a0), some (iv x2), some (iv (0 : Int32))]) cl_8 V_X8_mark (Or.inl q2279) dX8_readFew_103 rfl rfl (Nat.le_of_ble_eq_true rfl) (Nat.le_of_ble_eq_true rfl) (ly8_k La0_h30) ?_
            refine mx_aload_n dX8_mark_0 rfl rfl ?_
            refine mx_get 8 64 (ref := "PrairiePoolModel") cl_8 (Nat.le_of_ble_eq_true rfl) (Or.inl q1691) (Or.inl rfl) dX8_mark_1 (fv_8_64 _ _) (ly8_k La0_h30) ?_
            refine mx_tr (ly8_R_0_64 La0_h30) ?_
            refine mx_aload_n dX8_mark_4 rfl rfl ?_
            refine mx_get 8 58 (ref := "PrairiePoolModel") cl_8 (Nat.le_of_ble_eq_true rfl) (Or.inl q1685) (Or.inl rfl) dX8_mark_5 (fv_8_58 _ _) (ly8_k La0_h30) ?_
            refine mx_ldcw q2096 dX8_mark_8 ?_
            refine mx_iload_n dX8_mark_11 rfl rfl ?_
            refine mx_imul dX8_mark_12 ?_
            refine mx_iload_n dX8_mark_13 rfl rfl ?_
            refine mx_iadd dX8_mark_14 ?_
            obtain ⟨k32, H⟩ := H
            refine my_iast dX8_mark_15 rfl (ly8_A_41 La0_h30 k32) ?_
            refine mx_nmI  (fun h33 eh33 Xh33 Kh33 Lh33 => ?_)
            have H := H h33 eh33 Xh33
            have La0_h33 := La0_h30.ext Xh33
            refine mx_aload_n dX8_mark_16 rfl rfl ?_
            refine mx_dup_r dX8_mark_17 ?_
            refine mx_get 8 58 (ref := "PrairiePoolModel") cl_8 (Nat.le_of_ble_eq_true rfl) (Or.inl q1685) (Or.inl rfl) dX8_mark_18 (fv_8_58 _ _) (ly8_k La0_h33) ?_
            refine mx_ti (ah_skIA eh33 (by omega)) ?_
            refine mx_iconst dX8_mark_21 ic_1 ?_
            refine mx_iadd dX8_mark_22 ?_
            refine mx_putI 8 58 (ref := "PrairiePoolModel") cl_8 (Nat.le_of_ble_eq_true rfl) (Or.inl q1685) (Or.inl rfl) dX8_mark_23 (Or.inl rfl) rfl (ly8_k La0_h33) ?_
            refine mx_nmI  (fun h34 eh34 Xh34 Kh34 Lh34 => ?_)
            have H := H h34 eh34 Xh34
            have Kh34 := Kh34.trans Kh33
            have Lh34 := Lh34.trans Lh33
            have La0_h34 := La0_h33.ext Xh34
            refine mx_vretK rfl dX8_mark_26 ?_
            exact mx_vret rfl dX8_readFew_106 H
          · have H := H.2 c29
            exact mx_vret rfl dX8_readFew_95 H
  · have H := H.2 c1
    exact mx_vret rfl dX8_readFew_56 H
theorem dX8_readDeeper_0 : decode mi_X8_readDeeper.2.1 0 = .ok (.aload_n 0, 1) := by decide +kernel
theorem dX8_readDeeper_1 : decode mi_X8_readDeeper.2.1 1 = .ok (.invokevirtual 504, 3) := by decide +kernel
theorem dX8_readDeeper_4 : decode mi_X8_readDeeper.2.1 4 = .ok (.ifCond .ne 7, 3) := by decide +kernel
theorem dX8_readDeeper_7 : decode mi_X8_readDeeper.2.1 7 = .ok (.aload_n 0, 1) := by decide +kernel
theorem dX8_readDeeper_8 : decode mi_X8_readDeeper.2.1 8 = .ok (.invokevirtual 516, 3) := by decide +kernel
theorem dX8_readDeeper_11 : decode mi_X8_readDeeper.2.1 11 = .ok (.iload_n 1, 1) := by decide +kernel
theorem dX8_readDeeper_12 : decode mi_X8_readDeeper.2.1 12 = .ok (.bipush 8, 2) := by decide +kernel
theorem dX8_readDeeper_14 : decode mi_X8_readDeeper.2.1 14 = .ok (.if_icmp .le 12, 3) := by decide +kernel
theorem dX8_readDeeper_17 : decode mi_X8_readDeeper.2.1 17 = .ok (.aload_n 0, 1) := by decide +kernel
theorem dX8_readDeeper_18 : decode mi_X8_readDeeper.2.1 18 = .ok (.iconst 5, 1) := by decide +kernel
theorem dX8_readDeeper_19 : decode mi_X8_readDeeper.2.1 19 = .ok (.aload_n 0, 1) := by decide +kernel
theorem dX8_readDeeper_20 : decode mi_X8_readDeeper.2.1 20 = .ok (.getfield 416, 3) := by decide +kernel
theorem dX8_readDeeper_23 : decode mi_X8_readDeeper.2.1 23 = .ok (.invokevirtual 459, 3) := by decide +kernel
theorem dX8_readDeeper_26 : decode mi_X8_readDeeper.2.1 26 = .ok (.aload_n 0, 1) := by decide +kernel
theorem dX8_readDeeper_27 : decode mi_X8_readDeeper.2.1 27 = .ok (.getfield 453, 3) := by decide +kernel
theorem dX8_readDeeper_30 : decode mi_X8_readDeeper.2.1 30 = .ok (.ifCond .ne 8, 3) := by decide +kernel
theorem dX8_readDeeper_33 : decode mi_X8_readDeeper.2.1 33 = .ok (.aload_n 0, 1) := by decide +kernel
theorem dX8_readDeeper_34 : decode mi_X8_readDeeper.2.1 34 = .ok (.iload_n 1, 1) := by decide +kernel
theorem dX8_readDeeper_35 : decode mi_X8_readDeeper.2.1 35 = .ok (.invokevirtual 519, 3) := by decide +kernel
theorem dX8_readDeeper_38 : decode mi_X8_readDeeper.2.1 38 = .ok (.return_, 1) := by decide +kernel
theorem v_X8_readDeeper {G : ma_G} {d : Nat} {a0 : Nat} {x1 : Int32} {h : ah_T} {Q : Option ma_V → ah_T → Prop} {E : Nat → ah_T → Prop} (La0_h : LY8 h a0) (H : MX G mi_X8_canBeginSum (d + 1) 0 [some (rv a0)] [] h (Qi fun r2 h1 => ah_ext h h1 → (¬ r2 = 0 → MX G mi_X8_readDeeper (d + 2) 11 [some (rv a0), some (iv x1)] [] h1 Q E) ∧ (r2 = 0 → (¬ (ah_I h1 a0 50) = (4 : Int32) → ((ah_I h1 a0 48) ≤ 0 → ∀ h6 : ah_T, h6 = ah_wI h1 a0 48 (2 : Int32) → ah_ext h1 h6 → ∀ h7 : ah_T, h7 = ah_wI h6 a0 49 (ah_I h1 a0 51) → ah_ext h6 h7 → MX G mi_X8_readDeeper (d + 2) 11 [some (rv a0), some (iv x1)] [] h7 Q E) ∧ (¬ (ah_I h1 a0 48) ≤ 0 → MX G mi_X8_readDeeper (d + 2) 11 [some (rv a0), some (iv x1)] [] h1 Q E)) ∧ ((ah_I h1 a0 50) = (4 : Int32) → ((ah_I h1 a0 48) ≤ 0 → ∀ h9 : ah_T, h9 = ah_wI h1 a0 48 (1 : Int32) → ah_ext h1 h9 → ∀ h10 : ah_T, h10 = ah_wI h9 a0 49 (ah_I h1 a0 51) → ah_ext h9 h10 → MX G mi_X8_readDeeper (d + 2) 11 [some (rv a0), some (iv x1)] [] h10 Q E) ∧ (¬ (ah_I h1 a0 48) ≤ 0 → MX G mi_X8_readDeeper (d + 2) 11 [some (rv a0), some (iv x1)] [] h1 Q E)))) E) : MX G mi_X8_readDeeper (d + 2) 0 [some (rv a0), some (iv x1)] [] h Q E := by
  refine mx_aload_n dX8_readDeeper_0 rfl rfl ?_
  refine mx_callV 8 (y' := mi_X8_canBeginSum) (vs := []) (st := []) (al' := [some (rv a0)]) cl_8 V_X8_canBeginSum (Or.inl q2263) dX8_readDeeper_1 rfl rfl (Nat.le_of_ble_eq_true rfl) (Nat.le_of_ble_eq_true rfl) (ly8_k La0_h) ?_
  refine ma_ki H (fun r2 h1 Xh1 H => ?_) (fun x1 h1 X1 H => mt_out rfl H)
  have H := H Xh1
  have La0_h1 := La0_h.ext Xh1
  refine mx_if_ne (tgt := 11) dX8_readDeeper_4 rfl (fun c3 => ?_) (fun c3 => ?_)
  · have H := H.1 c3
    exact mx_weak (al' := [some (rv a0), some (iv x1)]) ⟨rfl, ⟨rfl, trivial⟩⟩ H
  · have H := H.2 c3
    refine mx_aload_n dX8_readDeeper_7 rfl rfl ?_
    refine mx_callV 8 (y' := mi_X8_wrong) (vs := []) (st := []) (al' := [some (rv a0)]) cl_8 V_X8_wrong (Or.inl q2239) dX8_readDeeper_8 rfl rfl (Nat.le_of_ble_eq_true rfl) (Nat.le_of_ble_eq_true rfl) (ly8_k La0_h1) ?_
    refine mx_aload_n dX8_wrong_0 rfl rfl ?_
    refine mx_aload_n dX8_wrong_1 rfl rfl ?_
    refine mx_get 8 50 (ref := "PrairiePoolModel") cl_8 (Nat.le_of_ble_eq_true rfl) (Or.inl q1677) (Or.inl rfl) dX8_wrong_2 (fv_8_50 _ _) (ly8_k La0_h1) ?_
    refine mx_iconst dX8_wrong_5 ic_4 ?_
    refine mx_icmp_ne (tgt := 13) dX8_wrong_6 rfl (fun c4 => ?_) (fun c4 => ?_)
    · have H := H.1 c4
      refine mx_iconst dX8_wrong_13 ic_2 ?_
      refine mx_aload_n dX8_wrong_14 rfl rfl ?_
      refine mx_get 8 51 (ref := "PrairiePoolModel") cl_8 (Nat.le_of_ble_eq_true rfl) (Or.inl q1678) (Or.inl rfl) dX8_wrong_15 (fv_8_51 _ _) (ly8_k La0_h1) ?_
      refine mx_callV 8 (y' := mi_X8_fail) (vs := [iv (2 : Int32), iv (ah_I h1 a0 51)]) (st := []) (al' := [some (rv a0), some (iv (2 : Int32)), some (iv (ah_I h1 a0 51))]) cl_8 V_X8_fail (Or.inl q2243) dX8_wrong_18 rfl rfl (Nat.le_of_ble_eq_true rfl) (Nat.le_of_ble_eq_true rfl) (ly8_k La0_h1) ?_
      refine mx_aload_n dX8_fail_0 rfl rfl ?_
      refine mx_get 8 48 (ref := "PrairiePoolModel") cl_8 (Nat.le_of_ble_eq_true rfl) (Or.inl q1675) (Or.inl rfl) dX8_fail_1 (fv_8_48 _ _) (ly8_k La0_h1) ?_
      refine mx_if_le (tgt := 8) dX8_fail_4 rfl (fun c5 => ?_) (fun c5 => ?_)
      · have H := H.1 c5
        refine mx_aload_n dX8_fail_8 rfl rfl ?_
        refine mx_iload_n dX8_fail_9 rfl rfl ?_
        refine mx_putI 8 48 (ref := "PrairiePoolModel") cl_8 (Nat.le_of_ble_eq_true rfl) (Or.inl q1675) (Or.inl rfl) dX8_fail_10 (Or.inl rfl) rfl (ly8_k La0_h1) ?_
        refine mx_nmI  (fun h6 eh6 Xh6 Kh6 Lh6 => ?_)
        have H := H h6 eh6 Xh6
        have La0_h6 := La0_h1.ext Xh6
        refine mx_aload_n dX8_fail_13 rfl rfl ?_
        refine mx_iload_n dX8_fail_14 rfl rfl ?_
        refine mx_putI 8 49 (ref := "PrairiePoolModel") cl_8 (Nat.le_of_ble_eq_true rfl) (Or.inl q1676) (Or.inl rfl) dX8_fail_15 (Or.inl rfl) rfl (ly8_k La0_h6) ?_
        refine mx_nmI  (fun h7 eh7 Xh7 Kh7 Lh7 => ?_)
        have H := H h7 eh7 Xh7
        have Kh7 := Kh7.trans Kh6
        have Lh7 := Lh7.trans Lh6
        have La0_h7 := La0_h6.ext Xh7
        refine mx_vretK rfl dX8_fail_18 ?_
        refine mx_vretK rfl dX8_wrong_21 ?_
        exact mx_weak (al' := [some (rv a0), some (iv x1)]) ⟨rfl, ⟨rfl, trivial⟩⟩ H
      · have H := H.2 c5
        refine mx_vretK rfl dX8_fail_7 ?_
        refine mx_vretK rfl dX8_wrong_21 ?_
        exact mx_weak (al' := [some (rv a0), some (iv x1)]) ⟨rfl, ⟨rfl, trivial⟩⟩ H
    · have H := H.2 c4
      refine mx_iconst dX8_wrong_9 ic_1 ?_
      refine mx_goto (tgt := 14) dX8_wrong_10 rfl ?_
      refine mx_aload_n dX8_wrong_14 rfl rfl ?_
      refine mx_get 8 51 (ref := "PrairiePoolModel") cl_8 (Nat.le_of_ble_eq_true rfl) (Or.inl q1678) (Or.inl rfl) dX8_wrong_15 (fv_8_51 _ _) (ly8_k La0_h1) ?_
      refine mx_callV 8 (y' := mi_X8_fail) (vs := [iv (1 : Int32), iv (ah_I h1 a0 51)]) (st := []) (al' := [some (rv a0), some (iv (1 : Int32)), some (iv (ah_I h1 a0 51))]) cl_8 V_X8_fail (Or.inl q2243) dX8_wrong_18 rfl rfl (Nat.le_of_ble_eq_true rfl) (Nat.le_of_ble_eq_true rfl) (ly8_k La0_h1) ?_
      refine mx_aload_n dX8_fail_0 rfl rfl ?_
      refine mx_get 8 48 (ref := "PrairiePoolModel") cl_8 (Nat.le_of_ble_eq_true rfl) (Or.inl q1675) (Or.inl rfl) dX8_fail_1 (fv_8_48 _ _) (ly8_k La0_h1) ?_
      refine mx_if_le (tgt := 8) dX8_fail_4 rfl (fun c8 => ?_) (fun c8 => ?_)
      · have H := H.1 c8
        refine mx_aload_n dX8_fail_8 rfl rfl ?_
        refine mx_iload_n dX8_fail_9 rfl rfl ?_
        refine mx_putI 8 48 (ref := "PrairiePoolModel") cl_8 (Nat.le_of_ble_eq_true rfl) (Or.inl q1675) (Or.inl rfl) dX8_fail_10 (Or.inl rfl) rfl (ly8_k La0_h1) ?_
        refine mx_nmI  (fun h9 eh9 Xh9 Kh9 Lh9 => ?_)
        have H := H h9 eh9 Xh9
        have La0_h9 := La0_h1.ext Xh9
        refine mx_aload_n dX8_fail_13 rfl rfl ?_
        refine mx_iload_n dX8_fail_14 rfl rfl ?_
        refine mx_putI 8 49 (ref := "PrairiePoolModel") cl_8 (Nat.le_of_ble_eq_true rfl) (Or.inl q1676) (Or.inl rfl) dX8_fail_15 (Or.inl rfl) rfl (ly8_k La0_h9) ?_
        refine mx_nmI  (fun h10 eh10 Xh10 Kh10 Lh10 => ?_)
        have H := H h10 eh10 Xh10
        have Kh10 := Kh10.trans Kh9
        have Lh10 := Lh10.trans Lh9
        have La0_h10 := La0_h9.ext Xh10
        refine mx_vretK rfl dX8_fail_18 ?_
        refine mx_vretK rfl dX8_wrong_21 ?_
        exact mx_weak (al' := [some (rv a0), some (iv x1)]) ⟨rfl, ⟨rfl, trivial⟩⟩ H
      · have H := H.2 c8
        refine mx_vretK rfl dX8_fail_7 ?_
        refine mx_vretK rfl dX8_wrong_21 ?_
        exact mx_weak (al' := [some (rv a0), some (iv x1)]) ⟨rfl, ⟨rfl, trivial⟩⟩ H
theorem v_X8_readDeeper_11 {G : ma_G} {d : Nat} {a0 : Nat} {x1 : Int32} {h : ah_T} {Q : Option ma_V → ah_T → Prop} {E : Nat → ah_T → Prop} (La0_h : LY8 h a0) (H : (x1 ≤ (8 : Int32) → (¬ (ah_I h a0 48) = 0 → Q none h) ∧ ((ah_I h a0 48) = 0 → MX G mi_X8_readSum (d + 1) 0 [some (rv a0), some (iv x1), none] [] h (Qv fun h3 => ah_ext h h3 → Q none h3) E)) ∧ (¬ x1 ≤ (8 : Int32) → ((ah_I h a0 48) ≤ 0 → ∀ h6 : ah_T, h6 = ah_wI h a0 48 (5 : Int32) → ah_ext h h6 → ∀ h7 : ah_T, h7 = ah_wI h6 a0 49 (ah_I h a0 51) → ah_ext h6 h7 → Q none h7) ∧ (¬ (ah_I h a0 48) ≤ 0 → (¬ (ah_I h a0 48) = 0 → Q none h) ∧ ((ah_I h a0 48) = 0 → MX G mi_X8_readSum (d + 1) 0 [some (rv a0), some (iv x1), none] [] h (Qv fun h9 => ah_ext h h9 → Q none h9) E)))) : MX G mi_X8_readDeeper (d + 2) 11 [some (rv a0), some (iv x1)] [] h Q E := by
  refine mx_iload_n dX8_readDeeper_11 rfl rfl ?_
  refine mx_bipush dX8_readDeeper_12 ib_8 ?_
  refine mx_icmp_le (tgt := 26) dX8_readDeeper_14 rfl (fun c1 => ?_) (fun c1 => ?_)
  · have H := H.1 c1
    refine mx_aload_n dX8_readDeeper_26 rfl rfl ?_
    refine mx_get 8 48 (ref := "PrairiePoolModel") cl_8 (Nat.le_of_ble_eq_true rfl) (Or.inl q1675) (Or.inl rfl) dX8_readDeeper_27 (fv_8_48 _ _) (ly8_k La0_h) ?_
    refine mx_if_ne (tgt := 38) dX8_readDeeper_30 rfl (fun c2 => ?_) (fun c2 => ?_)
    · have H := H.1 c2
      exact mx_vret rfl dX8_readDeeper_38 H
    · have H := H.2 c2
      refine mx_aload_n dX8_readDeeper_33 rfl rfl ?_
      refine mx_iload_n dX8_readDeeper_34 rfl rfl ?_
      refine mx_callV 8 (y' := mi_X8_readSum) (vs := [iv x1]) (st := []) (al' := [some (rv a0), some (iv x1), none]) cl_8 V_X8_readSum (Or.inl q2267) dX8_readDeeper_35 rfl rfl (Nat.le_of_ble_eq_true rfl) (Nat.le_of_ble_eq_true rfl) (ly8_k La0_h) ?_
      refine ma_kv H (fun h3 Xh3 H => ?_) (fun x1 h1 X1 H => mt_out rfl H)
      have H := H Xh3
      have La0_h3 := La0_h.ext Xh3
      exact mx_vret rfl dX8_readDeeper_38 H
  · have H := H.2 c1
    refine mx_aload_n dX8_readDeeper_17 rfl rfl ?_
    refine mx_iconst dX8_readDeeper_18 ic_5 ?_
    refine mx_aload_n dX8_readDeeper_19 rfl rfl ?_
    refine mx_get 8 51 (ref := "PrairiePoolModel") cl_8 (Nat.le_of_ble_eq_true rfl) (Or.inl q1678) (Or.inl rfl) dX8_readDeeper_20 (fv_8_51 _ _) (ly8_k La0_h) ?_
    refine mx_callV 8 (y' := mi_X8_fail) (vs := [iv (5 : Int32), iv (ah_I h a0 51)]) (st := []) (al' := [some (rv a0), some (iv (5 : Int32)), some (iv (ah_I h a0 51))]) cl_8 V_X8_fail (Or.inl q2243) dX8_readDeeper_23 rfl rfl (Nat.le_of_ble_eq_true rfl) (Nat.le_of_ble_eq_true rfl) (ly8_k La0_h) ?_
    refine mx_aload_n dX8_fail_0 rfl rfl ?_
    refine mx_get 8 48 (ref := "PrairiePoolModel") cl_8 (Nat.le_of_ble_eq_true rfl) (Or.inl q1675) (Or.inl rfl) dX8_fail_1 (fv_8_48 _ _) (ly8_k La0_h) ?_
    refine mx_if_le (tgt := 8) dX8_fail_4 rfl (fun c5 => ?_) (fun c5 => ?_)
    · have H := H.1 c5
      refine mx_aload_n dX8_fail_8 rfl rfl ?_
      refine mx_iload_n dX8_fail_9 rfl rfl ?_
      refine mx_putI 8 48 (ref := "PrairiePoolModel") cl_8 (Nat.le_of_ble_eq_true rfl) (Or.inl q1675) (Or.inl rfl) dX8_fail_10 (Or.inl rfl) rfl (ly8_k La0_h) ?_
      refine mx_nmI  (fun h6 eh6 Xh6 Kh6 Lh6 => ?_)
      have H := H h6 eh6 Xh6
      have La0_h6 := La0_h.ext Xh6
      refine mx_aload_n dX8_fail_13 rfl rfl ?_
      refine mx_iload_n dX8_fail_14 rfl rfl ?_
      refine mx_putI 8 49 (ref := "PrairiePoolModel") cl_8 (Nat.le_of_ble_eq_true rfl) (Or.inl q1676) (Or.inl rfl) dX8_fail_15 (Or.inl rfl) rfl (ly8_k La0_h6) ?_
      refine mx_nmI  (fun h7 eh7 Xh7 Kh7 Lh7 => ?_)
      have H := H h7 eh7 Xh7
      have Kh7 := Kh7.trans Kh6
      have Lh7 := Lh7.trans Lh6
      have La0_h7 := La0_h6.ext Xh7
      refine mx_vretK rfl dX8_fail_18 ?_
      refine mx_aload_n dX8_readDeeper_26 rfl rfl ?_
      refine mx_get 8 48 (ref := "PrairiePoolModel") cl_8 (Nat.le_of_ble_eq_true rfl) (Or.inl q1675) (Or.inl rfl) dX8_readDeeper_27 (fv_8_48 _ _) (ly8_k La0_h7) ?_
      refine mx_ti ((ah_skIK eh7 (by decide)).trans (ah_hitI eh6)) ?_
      refine mx_if_ne (tgt := 38) dX8_readDeeper_30 rfl (fun _ => ?_) (fun _ => absurd ‹_› (by decide))
      exact mx_vret rfl dX8_readDeeper_38 H
    · have H := H.2 c5
      refine mx_vretK rfl dX8_fail_7 ?_
      refine mx_aload_n dX8_readDeeper_26 rfl rfl ?_
      refine mx_get 8 48 (ref := "PrairiePoolModel") cl_8 (Nat.le_of_ble_eq_true rfl) (Or.inl q1675) (Or.inl rfl) dX8_readDeeper_27 (fv_8_48 _ _) (ly8_k La0_h) ?_
      refine mx_if_ne (tgt := 38) dX8_readDeeper_30 rfl (fun c8 => ?_) (fun c8 => ?_)
      · have H := H.1 c8
        exact mx_vret rfl dX8_readDeeper_38 H
      · have H := H.2 c8
        refine mx_aload_n dX8_readDeeper_33 rfl rfl ?_
        refine mx_iload_n dX8_readDeeper_34 rfl rfl ?_
        refine mx_callV 8 (y' := mi_X8_readSum) (vs := [iv x1]) (st := []) (al' := [some (rv a0), some (iv x1), none]) cl_8 V_X8_readSum (Or.inl q2267) dX8_readDeeper_35 rfl rfl (Nat.le_of_ble_eq_true rfl) (Nat.le_of_ble_eq_true rfl) (ly8_k La0_h) ?_
        refine ma_kv H (fun h9 Xh9 H => ?_) (fun x1 h1 X1 H => mt_out rfl H)
        have H := H Xh9
        have La0_h9 := La0_h.ext Xh9
        exact mx_vret rfl dX8_readDeeper_38 H
theorem dX8_readTest_0 : decode mi_X8_readTest.2.1 0 = .ok (.aload_n 0, 1) := by decide +kernel
theorem dX8_readTest_1 : decode mi_X8_readTest.2.1 1 = .ok (.iload_n 1, 1) := by decide +kernel
theorem dX8_readTest_2 : decode mi_X8_readTest.2.1 2 = .ok (.invokevirtual 534, 3) := by decide +kernel
theorem dX8_readTest_5 : decode mi_X8_readTest.2.1 5 = .ok (.aload_n 0, 1) := by decide +kernel
theorem dX8_readTest_6 : decode mi_X8_readTest.2.1 6 = .ok (.getfield 453, 3) := by decide +kernel
theorem dX8_readTest_9 : decode mi_X8_readTest.2.1 9 = .ok (.ifCond .le 4, 3) := by decide +kernel
theorem dX8_readTest_12 : decode mi_X8_readTest.2.1 12 = .ok (.return_, 1) := by decide +kernel
theorem dX8_readTest_13 : decode mi_X8_readTest.2.1 13 = .ok (.aload_n 0, 1) := by decide +kernel
theorem dX8_readTest_14 : decode mi_X8_readTest.2.1 14 = .ok (.invokevirtual 482, 3) := by decide +kernel
theorem dX8_readTest_17 : decode mi_X8_readTest.2.1 17 = .ok (.istore_n 2, 1) := by decide +kernel
theorem dX8_readTest_18 : decode mi_X8_readTest.2.1 18 = .ok (.aload_n 0, 1) := by decide +kernel
theorem dX8_readTest_19 : decode mi_X8_readTest.2.1 19 = .ok (.getfield 453, 3) := by decide +kernel
theorem dX8_readTest_22 : decode mi_X8_readTest.2.1 22 = .ok (.ifCond .ne 52, 3) := by decide +kernel
theorem dX8_readTest_25 : decode mi_X8_readTest.2.1 25 = .ok (.iload_n 2, 1) := by decide +kernel
theorem dX8_readTest_26 : decode mi_X8_readTest.2.1 26 = .ok (.ifCond .eq 13, 3) := by decide +kernel
theorem dX8_readTest_29 : decode mi_X8_readTest.2.1 29 = .ok (.aload_n 0, 1) := by decide +kernel
theorem dX8_readTest_30 : decode mi_X8_readTest.2.1 30 = .ok (.invokevirtual 482, 3) := by decide +kernel
theorem dX8_readTest_33 : decode mi_X8_readTest.2.1 33 = .ok (.ifCond .eq 41, 3) := by decide +kernel
theorem dX8_readTest_36 : decode mi_X8_readTest.2.1 36 = .ok (.goto 10, 3) := by decide +kernel
theorem dX8_readTest_39 : decode mi_X8_readTest.2.1 39 = .ok (.aload_n 0, 1) := by decide +kernel
theorem dX8_readTest_40 : decode mi_X8_readTest.2.1 40 = .ok (.invokevirtual 485, 3) := by decide +kernel
theorem dX8_readTest_43 : decode mi_X8_readTest.2.1 43 = .ok (.ifCond .eq 31, 3) := by decide +kernel
theorem dX8_readTest_46 : decode mi_X8_readTest.2.1 46 = .ok (.aload_n 0, 1) := by decide +kernel
theorem dX8_readTest_47 : decode mi_X8_readTest.2.1 47 = .ok (.invokevirtual 522, 3) := by decide +kernel
theorem dX8_readTest_50 : decode mi_X8_readTest.2.1 50 = .ok (.aload_n 0, 1) := by decide +kernel
theorem dX8_readTest_51 : decode mi_X8_readTest.2.1 51 = .ok (.iload_n 1, 1) := by decide +kernel
theorem dX8_readTest_52 : decode mi_X8_readTest.2.1 52 = .ok (.invokevirtual 534, 3) := by decide +kernel
theorem dX8_readTest_55 : decode mi_X8_readTest.2.1 55 = .ok (.aload_n 0, 1) := by decide +kernel
theorem dX8_readTest_56 : decode mi_X8_readTest.2.1 56 = .ok (.iload_n 2, 1) := by decide +kernel
theorem dX8_readTest_57 : decode mi_X8_readTest.2.1 57 = .ok (.ifCond .eq 8, 3) := by decide +kernel
theorem dX8_readTest_60 : decode mi_X8_readTest.2.1 60 = .ok (.bipush 13, 2) := by decide +kernel
theorem dX8_readTest_62 : decode mi_X8_readTest.2.1 62 = .ok (.goto 5, 3) := by decide +kernel
theorem dX8_readTest_65 : decode mi_X8_readTest.2.1 65 = .ok (.bipush 14, 2) := by decide +kernel
theorem dX8_readTest_67 : decode mi_X8_readTest.2.1 67 = .ok (.iconst 0, 1) := by decide +kernel
theorem dX8_readTest_68 : decode mi_X8_readTest.2.1 68 = .ok (.invokevirtual 528, 3) := by decide +kernel
theorem dX8_readTest_71 : decode mi_X8_readTest.2.1 71 = .ok (.goto (-53), 3) := by decide +kernel
theorem dX8_readTest_74 : decode mi_X8_readTest.2.1 74 = .ok (.return_, 1) := by decide +kernel
theorem v_X8_readTest {G : ma_G} {d : Nat} {a0 : Nat} {x1 : Int32} {h : ah_T} {Q : Option ma_V → ah_T → Prop} {E : Nat → ah_T → Prop} (La0_h : LY8 h a0) (H : MX G mi_X8_readOne (d + 1) 0 [some (rv a0), some (iv x1), none, none] [] h (Qv fun h1 => ah_ext h h1 → ((ah_I h1 a0 48) ≤ 0 → (¬ (ah_I h1 a0 50) = (1 : Int32) → MX G mi_X8_readTest (d + 2) 18 [some (rv a0), some (iv x1), some (iv (0 : Int32))] [] h1 Q E) ∧ ((ah_I h1 a0 50) = (1 : Int32) → (¬ (ah_J h1 a0 55) = (1476 : Int64) → MX G mi_X8_readTest (d + 2) 18 [some (rv a0), some (iv x1), some (iv (0 : Int32))] [] h1 Q E) ∧ ((ah_J h1 a0 55) = (1476 : Int64) → MX G mi_X8_readTest (d + 2) 18 [some (rv a0), some (iv x1), some (iv (1 : Int32))] [] h1 Q E))) ∧ (¬ (ah_I h1 a0 48) ≤ 0 → Q none h1)) E) : MX G mi_X8_readTest (d + 2) 0 [some (rv a0), some (iv x1), none] [] h Q E := by
  refine mx_aload_n dX8_readTest_0 rfl rfl ?_
  refine mx_iload_n dX8_readTest_1 rfl rfl ?_
  refine mx_callV 8 (y' := mi_X8_readOne) (vs := [iv x1]) (st := []) (al' := [some (rv a0), some (iv x1), none, none]) cl_8 V_X8_readOne (Or.inl q2295) dX8_readTest_2 rfl rfl (Nat.le_of_ble_eq_true rfl) (Nat.le_of_ble_eq_true rfl) (ly8_k La0_h) ?_
  refine ma_kv H (fun h1 Xh1 H => ?_) (fun x1 h1 X1 H => mt_out rfl H)
  have H := H Xh1
  have La0_h1 := La0_h.ext Xh1
  refine mx_aload_n dX8_readTest_5 rfl rfl ?_
  refine mx_get 8 48 (ref := "PrairiePoolModel") cl_8 (Nat.le_of_ble_eq_true rfl) (Or.inl q1675) (Or.inl rfl) dX8_readTest_6 (fv_8_48 _ _) (ly8_k La0_h1) ?_
  refine mx_if_le (tgt := 13) dX8_readTest_9 rfl (fun c3 => ?_) (fun c3 => ?_)
  · have H := H.1 c3
    refine mx_aload_n dX8_readTest_13 rfl rfl ?_
    refine mx_callV 8 (y' := mi_X8_isAnd) (vs := []) (st := []) (al' := [some (rv a0)]) cl_8 V_X8_isAnd (Or.inl q2219) dX8_readTest_14 rfl rfl (Nat.le_of_ble_eq_true rfl) (Nat.le_of_ble_eq_true rfl) (ly8_k La0_h1) ?_
    refine mx_aload_n dX8_isAnd_0 rfl rfl ?_
    refine mx_bipush dX8_isAnd_1 ib_97 ?_
    refine mx_bipush dX8_isAnd_3 ib_110 ?_
    refine mx_bipush dX8_isAnd_5 ib_100 ?_
    refine mx_iconst dX8_isAnd_7 ic_0 ?_
    refine mx_iconst dX8_isAnd_8 ic_0 ?_
    refine mx_iconst dX8_isAnd_9 ic_0 ?_
    refine mx_callS (y' := mi_X8_spelled) (vs := [iv (97 : Int32), iv (110 : Int32), iv (100 : Int32), iv (0 : Int32), iv (0 : Int32), iv (0 : Int32)]) (st := [rv a0]) (al' := [some (iv (97 : Int32)), some (iv (110 : Int32)), some (iv (100 : Int32)), some (iv (0 : Int32)), some (iv (0 : Int32)), some (iv (0 : Int32)), none, none]) S_X8_spelled q2075 dX8_isAnd_10 rfl rfl (Nat.le_of_ble_eq_true rfl) (Nat.le_of_ble_eq_true rfl) ?_
    refine mx_iload_n dX8_spelled_0 rfl rfl ?_
    refine mx_i2l dX8_spelled_1 ?_
    refine mx_ldc2 q2078 dX8_spelled_2 ?_
    refine mx_lsub dX8_spelled_5 ?_
    refine mx_lstore (al' := [some (iv (97 : Int32)), some (iv (110 : Int32)), some (iv (100 : Int32)), some (iv (0 : Int32)), some (iv (0 : Int32)), some (iv (0 : Int32)), some (jv ((97 : Int32).toInt64 - (96 : Int64))), none]) dX8_spelled_6 (Nat.le_of_ble_eq_true rfl) rfl ?_
    refine mx_lload dX8_spelled_8 rfl ?_
    refine mx_ldc2 q2079 dX8_spelled_10 ?_
    refine mx_lmul dX8_spelled_13 ?_
    refine mx_iload_n dX8_spelled_14 rfl rfl ?_
    refine mx_i2l dX8_spelled_15 ?_
    refine mx_ladd dX8_spelled_16 ?_
    refine mx_ldc2 q2078 dX8_spelled_17 ?_
    refine mx_lsub dX8_spelled_20 ?_
    refine mx_lstore (al' := [some (iv (97 : Int32)), some (iv (110 : Int32)), some (iv (100 : Int32)), some (iv (0 : Int32)), some (iv (0 : Int32)), some (iv (0 : Int32)), some (jv (((((97 : Int32).toInt64 - (96 : Int64)) * (32 : Int64)) + (110 : Int32).toInt64) - (96 : Int64))), none]) dX8_spelled_21 (Nat.le_of_ble_eq_true rfl) rfl ?_
    refine mx_iload_n dX8_spelled_23 rfl rfl ?_
    refine mx_if_le (tgt := 43) dX8_spelled_24 rfl (fun _ => absurd ‹_› (by decide)) (fun _ => ?_)
    refine mx_lload dX8_spelled_27 rfl ?_
    refine mx_ldc2 q2079 dX8_spelled_29 ?_
    refine mx_lmul dX8_spelled_32 ?_
    refine mx_iload_n dX8_spelled_33 rfl rfl ?_
    refine mx_i2l dX8_spelled_34 ?_
    refine mx_ladd dX8_spelled_35 ?_
    refine mx_ldc2 q2078 dX8_spelled_36 ?_
    refine mx_lsub dX8_spelled_39 ?_
    refine mx_goto (tgt := 45) dX8_spelled_40 rfl ?_
    refine mx_lstore (al' := [some (iv (97 : Int32)), some (iv (110 : Int32)), some (iv (100 : Int32)), some (iv (0 : Int32)), some (iv (0 : Int32)), some (iv (0 : Int32)), some (jv ((((((((97 : Int32).toInt64 - (96 : Int64)) * (32 : Int64)) + (110 : Int32).toInt64) - (96 : Int64)) * (32 : Int64)) + (100 : Int32).toInt64) - (96 : Int64))), none]) dX8_spelled_45 (Nat.le_of_ble_eq_true rfl) rfl ?_
    refine mx_iload_n dX8_spelled_47 rfl rfl ?_
    refine mx_if_le (tgt := 67) dX8_spelled_48 rfl (fun _ => ?_) (fun _ => absurd ‹_› (by decide))
    refine mx_lload dX8_spelled_67 rfl ?_
    refine mx_lstore (al' := [some (iv (97 : Int32)), some (iv (110 : Int32)), some (iv (100 : Int32)), some (iv (0 : Int32)), some (iv (0 : Int32)), some (iv (0 : Int32)), some (jv ((((((((97 : Int32).toInt64 - (96 : Int64)) * (32 : Int64)) + (110 : Int32).toInt64) - (96 : Int64)) * (32 : Int64)) + (100 : Int32).toInt64) - (96 : Int64))), none]) dX8_spelled_69 (Nat.le_of_ble_eq_true rfl) rfl ?_
    refine mx_iload dX8_spelled_71 rfl ?_
    refine mx_if_le (tgt := 93) dX8_spelled_73 rfl (fun _ => ?_) (fun _ => absurd ‹_› (by decide))
    refine mx_lload dX8_spelled_93 rfl ?_
    refine mx_lstore (al' := [some (iv (97 : Int32)), some (iv (110 : Int32)), some (iv (100 : Int32)), some (iv (0 : Int32)), some (iv (0 : Int32)), some (iv (0 : Int32)), some (jv ((((((((97 : Int32).toInt64 - (96 : Int64)) * (32 : Int64)) + (110 : Int32).toInt64) - (96 : Int64)) * (32 : Int64)) + (100 : Int32).toInt64) - (96 : Int64))), none]) dX8_spelled_95 (Nat.le_of_ble_eq_true rfl) rfl ?_
    refine mx_iload dX8_spelled_97 rfl ?_
    refine mx_if_le (tgt := 119) dX8_spelled_99 rfl (fun _ => ?_) (fun _ => absurd ‹_› (by decide))
    refine mx_lload dX8_spelled_119 rfl ?_
    refine mx_lretK rfl dX8_spelled_121 ?_
    refine mx_tj (show ((((((((97 : Int32).toInt64 - (96 : Int64)) * (32 : Int64)) + (110 : Int32).toInt64) - (96 : Int64)) * (32 : Int64)) + (100 : Int32).toInt64) - (96 : Int64)) = (1476 : Int64) by decide) ?_
    refine mx_callV 8 (y' := mi_X8_isWord) (vs := [jv (1476 : Int64)]) (st := []) (al' := [some (rv a0), some (jv (1476 : Int64)), none]) cl_8 V_X8_isWord (Or.inl q2196) dX8_isAnd_13 rfl rfl (Nat.le_of_ble_eq_true rfl) (Nat.le_of_ble_eq_true rfl) (ly8_k La0_h1) ?_
    refine mx_aload_n dX8_isWord_0 rfl rfl ?_
    refine mx_get 8 50 (ref := "PrairiePoolModel") cl_8 (Nat.le_of_ble_eq_true rfl) (Or.inl q1677) (Or.inl rfl) dX8_isWord_1 (fv_8_50 _ _) (ly8_k La0_h1) ?_
    refine mx_iconst dX8_isWord_4 ic_1 ?_
    refine mx_icmp_ne (tgt := 21) dX8_isWord_5 rfl (fun c4 => ?_) (fun c4 => ?_)
    · have H := H.1 c4
      refine mx_iconst dX8_isWord_21 ic_0 ?_
      refine mx_zretK rfl dX8_isWord_22 (Or.inl rfl) ?_
      refine mx_zretK rfl dX8_isAnd_16 (Or.inl rfl) ?_
      refine mx_istore_n (al' := [some (rv a0), some (iv x1), some (iv (0 : Int32))]) dX8_readTest_17 rfl (Nat.le_of_ble_eq_true rfl) rfl ?_
      exact mx_weak (al' := [some (rv a0), some (iv x1), some (iv (0 : Int32))]) ⟨rfl, ⟨rfl, ⟨rfl, trivial⟩⟩⟩ H
    · have H := H.2 c4
      refine mx_aload_n dX8_isWord_8 rfl rfl ?_
      refine mx_get 8 55 (ref := "PrairiePoolModel") cl_8 (Nat.le_of_ble_eq_true rfl) (Or.inl q1682) (Or.inl rfl) dX8_isWord_9 (fv_8_55 _ _) (ly8_k La0_h1) ?_
      refine mx_lload_n dX8_isWord_12 rfl rfl ?_
      refine mx_lif_ne (tgt := 21) dX8_isWord_13 dX8_isWord_14 rfl (fun c5 => ?_) (fun c5 => ?_)
      · have H := H.1 c5
        refine mx_iconst dX8_isWord_21 ic_0 ?_
        refine mx_zretK rfl dX8_isWord_22 (Or.inl rfl) ?_
        refine mx_zretK rfl dX8_isAnd_16 (Or.inl rfl) ?_
        refine mx_istore_n (al' := [some (rv a0), some (iv x1), some (iv (0 : Int32))]) dX8_readTest_17 rfl (Nat.le_of_ble_eq_true rfl) rfl ?_
        exact mx_weak (al' := [some (rv a0), some (iv x1), some (iv (0 : Int32))]) ⟨rfl, ⟨rfl, ⟨rfl, trivial⟩⟩⟩ H
      · have H := H.2 c5
        refine mx_iconst dX8_isWord_17 ic_1 ?_
        refine mx_goto (tgt := 22) dX8_isWord_18 rfl ?_
        refine mx_zretK rfl dX8_isWord_22 (Or.inr rfl) ?_
        refine mx_zretK rfl dX8_isAnd_16 (Or.inr rfl) ?_
        refine mx_istore_n (al' := [some (rv a0), some (iv x1), some (iv (1 : Int32))]) dX8_readTest_17 rfl (Nat.le_of_ble_eq_true rfl) rfl ?_
        exact mx_weak (al' := [some (rv a0), some (iv x1), some (iv (1 : Int32))]) ⟨rfl, ⟨rfl, ⟨rfl, trivial⟩⟩⟩ H
  · have H := H.2 c3
    exact mx_vret rfl dX8_readTest_12 H
theorem v_X8_readTest_18 {G : ma_G} {d : Nat} {a0 : Nat} {x1 : Int32} {x2 : Int32} {h : ah_T} {Q : Option ma_V → ah_T → Prop} {E : Nat → ah_T → Prop} (La0_h : LY8 h a0) (H : (¬ (ah_I h a0 48) = 0 → Q none h) ∧ ((ah_I h a0 48) = 0 → (x2 = 0 → (¬ (ah_I h a0 50) = (1 : Int32) → Q none h) ∧ ((ah_I h a0 50) = (1 : Int32) → (¬ (ah_J h a0 55) = (498 : Int64) → Q none h) ∧ ((ah_J h a0 55) = (498 : Int64) → MX G mi_X8_readTest (d + 2) 46 [some (rv a0), some (iv x1), some (iv x2)] [] h Q E))) ∧ (¬ x2 = 0 → (¬ (ah_I h a0 50) = (1 : Int32) → Q none h) ∧ ((ah_I h a0 50) = (1 : Int32) → (¬ (ah_J h a0 55) = (1476 : Int64) → Q none h) ∧ ((ah_J h a0 55) = (1476 : Int64) → MX G mi_X8_readTest (d + 2) 46 [some (rv a0), some (iv x1), some (iv x2)] [] h Q E))))) : MX G mi_X8_readTest (d + 2) 18 [some (rv a0), some (iv x1), some (iv x2)] [] h Q E := by
  refine mx_aload_n dX8_readTest_18 rfl rfl ?_
  refine mx_get 8 48 (ref := "PrairiePoolModel") cl_8 (Nat.le_of_ble_eq_true rfl) (Or.inl q1675) (Or.inl rfl) dX8_readTest_19 (fv_8_48 _ _) (ly8_k La0_h) ?_
  refine mx_if_ne (tgt := 74) dX8_readTest_22 rfl (fun c1 => ?_) (fun c1 => ?_)
  · have H := H.1 c1
    exact mx_vret rfl dX8_readTest_74 H
  · have H := H.2 c1
    refine mx_iload_n dX8_readTest_25 rfl rfl ?_
    refine mx_if_eq (tgt := 39) dX8_readTest_26 rfl (fun c2 => ?_) (fun c2 => ?_)
    · have H := H.1 c2
      refine mx_aload_n dX8_readTest_39 rfl rfl ?_
      refine mx_callV 8 (y' := mi_X8_isOr) (vs := []) (st := []) (al' := [some (rv a0)]) cl_8 V_X8_isOr (Or.inl q2223) dX8_readTest_40 rfl rfl (Nat.le_of_ble_eq_true rfl) (Nat.le_of_ble_eq_true rfl) (ly8_k La0_h) ?_
      refine mx_aload_n dX8_isOr_0 rfl rfl ?_
      refine mx_bipush dX8_isOr_1 ib_111 ?_
      refine mx_bipush dX8_isOr_3 ib_114 ?_
      refine mx_iconst dX8_isOr_5 ic_0 ?_
      refine mx_iconst dX8_isOr_6 ic_0 ?_
      refine mx_iconst dX8_isOr_7 ic_0 ?_
      refine mx_iconst dX8_isOr_8 ic_0 ?_
      refine mx_callS (y' := mi_X8_spelled) (vs := [iv (111 : Int32), iv (114 : Int32), iv (0 : Int32), iv (0 : Int32), iv (0 : Int32), iv (0 : Int32)]) (st := [rv a0]) (al' := [some (iv (111 : Int32)), some (iv (114 : Int32)), some (iv (0 : Int32)), some (iv (0 : Int32)), some (iv (0 : Int32)), some (iv (0 : Int32)), none, none]) S_X8_spelled q2075 dX8_isOr_9 rfl rfl (Nat.le_of_ble_eq_true rfl) (Nat.le_of_ble_eq_true rfl) ?_
      refine mx_iload_n dX8_spelled_0 rfl rfl ?_
      refine mx_i2l dX8_spelled_1 ?_
      refine mx_ldc2 q2078 dX8_spelled_2 ?_
      refine mx_lsub dX8_spelled_5 ?_
      refine mx_lstore (al' := [some (iv (111 : Int32)), some (iv (114 : Int32)), some (iv (0 : Int32)), some (iv (0 : Int32)), some (iv (0 : Int32)), some (iv (0 : Int32)), some (jv ((111 : Int32).toInt64 - (96 : Int64))), none]) dX8_spelled_6 (Nat.le_of_ble_eq_true rfl) rfl ?_
      refine mx_lload dX8_spelled_8 rfl ?_
      refine mx_ldc2 q2079 dX8_spelled_10 ?_
      refine mx_lmul dX8_spelled_13 ?_
      refine mx_iload_n dX8_spelled_14 rfl rfl ?_
      refine mx_i2l dX8_spelled_15 ?_
      refine mx_ladd dX8_spelled_16 ?_
      refine mx_ldc2 q2078 dX8_spelled_17 ?_
      refine mx_lsub dX8_spelled_20 ?_
      refine mx_lstore (al' := [some (iv (111 : Int32)), some (iv (114 : Int32)), some (iv (0 : Int32)), some (iv (0 : Int32)), some (iv (0 : Int32)), some (iv (0 : Int32)), some (jv (((((111 : Int32).toInt64 - (96 : Int64)) * (32 : Int64)) + (114 : Int32).toInt64) - (96 : Int64))), none]) dX8_spelled_21 (Nat.le_of_ble_eq_true rfl) rfl ?_
      refine mx_iload_n dX8_spelled_23 rfl rfl ?_
      refine mx_if_le (tgt := 43) dX8_spelled_24 rfl (fun _ => ?_) (fun _ => absurd ‹_› (by decide))
      refine mx_lload dX8_spelled_43 rfl ?_
      refine mx_lstore (al' := [some (iv (111 : Int32)), some (iv (114 : Int32)), some (iv (0 : Int32)), some (iv (0 : Int32)), some (iv (0 : Int32)), some (iv (0 : Int32)), some (jv (((((111 : Int32).toInt64 - (96 : Int64)) * (32 : Int64)) + (114 : Int32).toInt64) - (96 : Int64))), none]) dX8_spelled_45 (Nat.le_of_ble_eq_true rfl) rfl ?_
      refine mx_iload_n dX8_spelled_47 rfl rfl ?_
      refine mx_if_le (tgt := 67) dX8_spelled_48 rfl (fun _ => ?_) (fun _ => absurd ‹_› (by decide))
      refine mx_lload dX8_spelled_67 rfl ?_
      refine mx_lstore (al' := [some (iv (111 : Int32)), some (iv (114 : Int32)), some (iv (0 : Int32)), some (iv (0 : Int32)), some (iv (0 : Int32)), some (iv (0 : Int32)), some (jv (((((111 : Int32).toInt64 - (96 : Int64)) * (32 : Int64)) + (114 : Int32).toInt64) - (96 : Int64))), none]) dX8_spelled_69 (Nat.le_of_ble_eq_true rfl) rfl ?_
      refine mx_iload dX8_spelled_71 rfl ?_
      refine mx_if_le (tgt := 93) dX8_spelled_73 rfl (fun _ => ?_) (fun _ => absurd ‹_› (by decide))
      refine mx_lload dX8_spelled_93 rfl ?_
      refine mx_lstore (al' := [some (iv (111 : Int32)), some (iv (114 : Int32)), some (iv (0 : Int32)), some (iv (0 : Int32)), some (iv (0 : Int32)), some (iv (0 : Int32)), some (jv (((((111 : Int32).toInt64 - (96 : Int64)) * (32 : Int64)) + (114 : Int32).toInt64) - (96 : Int64))), none]) dX8_spelled_95 (Nat.le_of_ble_eq_true rfl) rfl ?_
      refine mx_iload dX8_spelled_97 rfl ?_
      refine mx_if_le (tgt := 119) dX8_spelled_99 rfl (fun _ => ?_) (fun _ => absurd ‹_› (by decide))
      refine mx_lload dX8_spelled_119 rfl ?_
      refine mx_lretK rfl dX8_spelled_121 ?_
      refine mx_tj (show (((((111 : Int32).toInt64 - (96 : Int64)) * (32 : Int64)) + (114 : Int32).toInt64) - (96 : Int64)) = (498 : Int64) by decide) ?_
      refine mx_callV 8 (y' := mi_X8_isWord) (vs := [jv (498 : Int64)]) (st := []) (al' := [some (rv a0), some (jv (498 : Int64)), none]) cl_8 V_X8_isWord (Or.inl q2196) dX8_isOr_12 rfl rfl (Nat.le_of_ble_eq_true rfl) (Nat.le_of_ble_eq_true rfl) (ly8_k La0_h) ?_
      refine mx_aload_n dX8_isWord_0 rfl rfl ?_
      refine mx_get 8 50 (ref := "PrairiePoolModel") cl_8 (Nat.le_of_ble_eq_true rfl) (Or.inl q1677) (Or.inl rfl) dX8_isWord_1 (fv_8_50 _ _) (ly8_k La0_h) ?_
      refine mx_iconst dX8_isWord_4 ic_1 ?_
      refine mx_icmp_ne (tgt := 21) dX8_isWord_5 rfl (fun c3 => ?_) (fun c3 => ?_)
      · have H := H.1 c3
        refine mx_iconst dX8_isWord_21 ic_0 ?_
        refine mx_zretK rfl dX8_isWord_22 (Or.inl rfl) ?_
        refine mx_zretK rfl dX8_isOr_15 (Or.inl rfl) ?_
        refine mx_if_eq (tgt := 74) dX8_readTest_43 rfl (fun _ => ?_) (fun _ => absurd ‹_› (by decide))
        exact mx_vret rfl dX8_readTest_74 H
      · have H := H.2 c3
        refine mx_aload_n dX8_isWord_8 rfl rfl ?_
        refine mx_get 8 55 (ref := "PrairiePoolModel") cl_8 (Nat.le_of_ble_eq_true rfl) (Or.inl q1682) (Or.inl rfl) dX8_isWord_9 (fv_8_55 _ _) (ly8_k La0_h) ?_
        refine mx_lload_n dX8_isWord_12 rfl rfl ?_
        refine mx_lif_ne (tgt := 21) dX8_isWord_13 dX8_isWord_14 rfl (fun c4 => ?_) (fun c4 => ?_)
        · have H := H.1 c4
          refine mx_iconst dX8_isWord_21 ic_0 ?_
          refine mx_zretK rfl dX8_isWord_22 (Or.inl rfl) ?_
          refine mx_zretK rfl dX8_isOr_15 (Or.inl rfl) ?_
          refine mx_if_eq (tgt := 74) dX8_readTest_43 rfl (fun _ => ?_) (fun _ => absurd ‹_› (by decide))
          exact mx_vret rfl dX8_readTest_74 H
        · have H := H.2 c4
          refine mx_iconst dX8_isWord_17 ic_1 ?_
          refine mx_goto (tgt := 22) dX8_isWord_18 rfl ?_
          refine mx_zretK rfl dX8_isWord_22 (Or.inr rfl) ?_
          refine mx_zretK rfl dX8_isOr_15 (Or.inr rfl) ?_
          refine mx_if_eq (tgt := 74) dX8_readTest_43 rfl (fun _ => absurd ‹_› (by decide)) (fun _ => ?_)
          exact mx_weak (al' := [some (rv a0), some (iv x1), some (iv x2)]) ⟨rfl, ⟨rfl, ⟨rfl, trivial⟩⟩⟩ H
    · have H := H.2 c2
      refine mx_aload_n dX8_readTest_29 rfl rfl ?_
      refine mx_callV 8 (y' := mi_X8_isAnd) (vs := []) (st := []) (al' := [some (rv a0)]) cl_8 V_X8_isAnd (Or.inl q2219) dX8_readTest_30 rfl rfl (Nat.le_of_ble_eq_true rfl) (Nat.le_of_ble_eq_true rfl) (ly8_k La0_h) ?_
      refine mx_aload_n dX8_isAnd_0 rfl rfl ?_
      refine mx_bipush dX8_isAnd_1 ib_97 ?_
      refine mx_bipush dX8_isAnd_3 ib_110 ?_
      refine mx_bipush dX8_isAnd_5 ib_100 ?_
      refine mx_iconst dX8_isAnd_7 ic_0 ?_
      refine mx_iconst dX8_isAnd_8 ic_0 ?_
      refine mx_iconst dX8_isAnd_9 ic_0 ?_
      refine mx_callS (y' := mi_X8_spelled) (vs := [iv (97 : Int32), iv (110 : Int32), iv (100 : Int32), iv (0 : Int32), iv (0 : Int32), iv (0 : Int32)]) (st := [rv a0]) (al' := [some (iv (97 : Int32)), some (iv (110 : Int32)), some (iv (100 : Int32)), some (iv (0 : Int32)), some (iv (0 : Int32)), some (iv (0 : Int32)), none, none]) S_X8_spelled q2075 dX8_isAnd_10 rfl rfl (Nat.le_of_ble_eq_true rfl) (Nat.le_of_ble_eq_true rfl) ?_
      refine mx_iload_n dX8_spelled_0 rfl rfl ?_
      refine mx_i2l dX8_spelled_1 ?_
      refine mx_ldc2 q2078 dX8_spelled_2 ?_
      refine mx_lsub dX8_spelled_5 ?_
      refine mx_lstore (al' := [some (iv (97 : Int32)), some (iv (110 : Int32)), some (iv (100 : Int32)), some (iv (0 : Int32)), some (iv (0 : Int32)), some (iv (0 : Int32)), some (jv ((97 : Int32).toInt64 - (96 : Int64))), none]) dX8_spelled_6 (Nat.le_of_ble_eq_true rfl) rfl ?_
      refine mx_lload dX8_spelled_8 rfl ?_
      refine mx_ldc2 q2079 dX8_spelled_10 ?_
      refine mx_lmul dX8_spelled_13 ?_
      refine mx_iload_n dX8_spelled_14 rfl rfl ?_
      refine mx_i2l dX8_spelled_15 ?_
      refine mx_ladd dX8_spelled_16 ?_
      refine mx_ldc2 q2078 dX8_spelled_17 ?_
      refine mx_lsub dX8_spelled_20 ?_
      refine mx_lstore (al' := [some (iv (97 : Int32)), some (iv (110 : Int32)), some (iv (100 : Int32)), some (iv (0 : Int32)), some (iv (0 : Int32)), some (iv (0 : Int32)), some (jv (((((97 : Int32).toInt64 - (96 : Int64)) * (32 : Int64)) + (110 : Int32).toInt64) - (96 : Int64))), none]) dX8_spelled_21 (Nat.le_of_ble_eq_true rfl) rfl ?_
      refine mx_iload_n dX8_spelled_23 rfl rfl ?_
      refine mx_if_le (tgt := 43) dX8_spelled_24 rfl (fun _ => absurd ‹_› (by decide)) (fun _ => ?_)
      refine mx_lload dX8_spelled_27 rfl ?_
      refine mx_ldc2 q2079 dX8_spelled_29 ?_
      refine mx_lmul dX8_spelled_32 ?_
      refine mx_iload_n dX8_spelled_33 rfl rfl ?_
      refine mx_i2l dX8_spelled_34 ?_
      refine mx_ladd dX8_spelled_35 ?_
      refine mx_ldc2 q2078 dX8_spelled_36 ?_
      refine mx_lsub dX8_spelled_39 ?_
      refine mx_goto (tgt := 45) dX8_spelled_40 rfl ?_
      refine mx_lstore (al' := [some (iv (97 : Int32)), some (iv (110 : Int32)), some (iv (100 : Int32)), some (iv (0 : Int32)), some (iv (0 : Int32)), some (iv (0 : Int32)), some (jv ((((((((97 : Int32).toInt64 - (96 : Int64)) * (32 : Int64)) + (110 : Int32).toInt64) - (96 : Int64)) * (32 : Int64)) + (100 : Int32).toInt64) - (96 : Int64))), none]) dX8_spelled_45 (Nat.le_of_ble_eq_true rfl) rfl ?_
      refine mx_iload_n dX8_spelled_47 rfl rfl ?_
      refine mx_if_le (tgt := 67) dX8_spelled_48 rfl (fun _ => ?_) (fun _ => absurd ‹_› (by decide))
      refine mx_lload dX8_spelled_67 rfl ?_
      refine mx_lstore (al' := [some (iv (97 : Int32)), some (iv (110 : Int32)), some (iv (100 : Int32)), some (iv (0 : Int32)), some (iv (0 : Int32)), some (iv (0 : Int32)), some (jv ((((((((97 : Int32).toInt64 - (96 : Int64)) * (32 : Int64)) + (110 : Int32).toInt64) - (96 : Int64)) * (32 : Int64)) + (100 : Int32).toInt64) - (96 : Int64))), none]) dX8_spelled_69 (Nat.le_of_ble_eq_true rfl) rfl ?_
      refine mx_iload dX8_spelled_71 rfl ?_
      refine mx_if_le (tgt := 93) dX8_spelled_73 rfl (fun _ => ?_) (fun _ => absurd ‹_› (by decide))
      refine mx_lload dX8_spelled_93 rfl ?_
      refine mx_lstore (al' := [some (iv (97 : Int32)), some (iv (110 : Int32)), some (iv (100 : Int32)), some (iv (0 : Int32)), some (iv (0 : Int32)), some (iv (0 : Int32)), some (jv ((((((((97 : Int32).toInt64 - (96 : Int64)) * (32 : Int64)) + (110 : Int32).toInt64) - (96 : Int64)) * (32 : Int64)) + (100 : Int32).toInt64) - (96 : Int64))), none]) dX8_spelled_95 (Nat.le_of_ble_eq_true rfl) rfl ?_
      refine mx_iload dX8_spelled_97 rfl ?_
      refine mx_if_le (tgt := 119) dX8_spelled_99 rfl (fun _ => ?_) (fun _ => absurd ‹_› (by decide))
      refine mx_lload dX8_spelled_119 rfl ?_
      refine mx_lretK rfl dX8_spelled_121 ?_
      refine mx_tj (show ((((((((97 : Int32).toInt64 - (96 : Int64)) * (32 : Int64)) + (110 : Int32).toInt64) - (96 : Int64)) * (32 : Int64)) + (100 : Int32).toInt64) - (96 : Int64)) = (1476 : Int64) by decide) ?_
      refine mx_callV 8 (y' := mi_X8_isWord) (vs := [jv (1476 : Int64)]) (st := []) (al' := [some (rv a0), some (jv (1476 : Int64)), none]) cl_8 V_X8_isWord (Or.inl q2196) dX8_isAnd_13 rfl rfl (Nat.le_of_ble_eq_true rfl) (Nat.le_of_ble_eq_true rfl) (ly8_k La0_h) ?_
      refine mx_aload_n dX8_isWord_0 rfl rfl ?_
      refine mx_get 8 50 (ref := "PrairiePoolModel") cl_8 (Nat.le_of_ble_eq_true rfl) (Or.inl q1677) (Or.inl rfl) dX8_isWord_1 (fv_8_50 _ _) (ly8_k La0_h) ?_
      refine mx_iconst dX8_isWord_4 ic_1 ?_
      refine mx_icmp_ne (tgt := 21) dX8_isWord_5 rfl (fun c5 => ?_) (fun c5 => ?_)
      · have H := H.1 c5
        refine mx_iconst dX8_isWord_21 ic_0 ?_
        refine mx_zretK rfl dX8_isWord_22 (Or.inl rfl) ?_
        refine mx_zretK rfl dX8_isAnd_16 (Or.inl rfl) ?_
        refine mx_if_eq (tgt := 74) dX8_readTest_33 rfl (fun _ => ?_) (fun _ => absurd ‹_› (by decide))
        exact mx_vret rfl dX8_readTest_74 H
      · have H := H.2 c5
        refine mx_aload_n dX8_isWord_8 rfl rfl ?_
        refine mx_get 8 55 (ref := "PrairiePoolModel") cl_8 (Nat.le_of_ble_eq_true rfl) (Or.inl q1682) (Or.inl rfl) dX8_isWord_9 (fv_8_55 _ _) (ly8_k La0_h) ?_
        refine mx_lload_n dX8_isWord_12 rfl rfl ?_
        refine mx_lif_ne (tgt := 21) dX8_isWord_13 dX8_isWord_14 rfl (fun c6 => ?_) (fun c6 => ?_)
        · have H := H.1 c6
          refine mx_iconst dX8_isWord_21 ic_0 ?_
          refine mx_zretK rfl dX8_isWord_22 (Or.inl rfl) ?_
          refine mx_zretK rfl dX8_isAnd_16 (Or.inl rfl) ?_
          refine mx_if_eq (tgt := 74) dX8_readTest_33 rfl (fun _ => ?_) (fun _ => absurd ‹_› (by decide))
          exact mx_vret rfl dX8_readTest_74 H
        · have H := H.2 c6
          refine mx_iconst dX8_isWord_17 ic_1 ?_
          refine mx_goto (tgt := 22) dX8_isWord_18 rfl ?_
          refine mx_zretK rfl dX8_isWord_22 (Or.inr rfl) ?_
          refine mx_zretK rfl dX8_isAnd_16 (Or.inr rfl) ?_
          refine mx_if_eq (tgt := 74) dX8_readTest_33 rfl (fun _ => absurd ‹_› (by decide)) (fun _ => ?_)
          refine mx_goto (tgt := 46) dX8_readTest_36 rfl ?_
          exact mx_weak (al' := [some (rv a0), some (iv x1), some (iv x2)]) ⟨rfl, ⟨rfl, ⟨rfl, trivial⟩⟩⟩ H
theorem v_X8_readTest_46 {G : ma_G} {d : Nat} {a0 : Nat} {x1 : Int32} {x2 : Int32} {h : ah_T} {Q : Option ma_V → ah_T → Prop} {E : Nat → ah_T → Prop} (La0_h : LY8 h a0) (H : MX G mi_X8_next (d + 1) 0 [some (rv a0), none] [] h (Qv fun h1 => ah_ext h h1 → MX G mi_X8_readOne (d + 1) 0 [some (rv a0), some (iv x1), none, none] [] h1 (Qv fun h3 => ah_ext h1 h3 → (x2 = 0 → vp_in (ah_I h3 a0 58) 1100 ∧ ∀ h7 : ah_T, h7 = ah_wI h3 (a0 + 41) (ah_I h3 a0 58).toNatClampNeg (((1048576 : Int32) * (14 : Int32)) + (0 : Int32)) → ah_ext h3 h7 → ∀ h8 : ah_T, h8 = ah_wI h7 a0 58 ((ah_I h3 a0 58) + (1 : Int32)) → ah_ext h7 h8 → MX G mi_X8_readTest (d + 2) 18 [some (rv a0), some (iv x1), some (iv x2)] [] h8 Q E) ∧ (¬ x2 = 0 → vp_in (ah_I h3 a0 58) 1100 ∧ ∀ h10 : ah_T, h10 = ah_wI h3 (a0 + 41) (ah_I h3 a0 58).toNatClampNeg (((1048576 : Int32) * (13 : Int32)) + (0 : Int32)) → ah_ext h3 h10 → ∀ h11 : ah_T, h11 = ah_wI h10 a0 58 ((ah_I h3 a0 58) + (1 : Int32)) → ah_ext h10 h11 → MX G mi_X8_readTest (d + 2) 18 [some (rv a0), some (iv x1), some (iv x2)] [] h11 Q E)) E) E) : MX G mi_X8_readTest (d + 2) 46 [some (rv a0), some (iv x1), some (iv x2)] [] h Q E := by
  refine mx_aload_n dX8_readTest_46 rfl rfl ?_
  refine mx_callV 8 (y' := mi_X8_next) (vs := []) (st := []) (al' := [some (rv a0), none]) cl_8 V_X8_next (Or.inl q2170) dX8_readTest_47 rfl rfl (Nat.le_of_ble_eq_true rfl) (Nat.le_of_ble_eq_true rfl) (ly8_k La0_h) ?_
  refine ma_kv H (fun h1 Xh1 H => ?_) (fun x1 h1 X1 H => mt_out rfl H)
  have H := H Xh1
  have La0_h1 := La0_h.ext Xh1
  refine mx_aload_n dX8_readTest_50 rfl rfl ?_
  refine mx_iload_n dX8_readTest_51 rfl rfl ?_
  refine mx_callV 8 (y' := mi_X8_readOne) (vs := [iv x1]) (st := []) (al' := [some (rv a0), some (iv x1), none, none]) cl_8 V_X8_readOne (Or.inl q2295) dX8_readTest_52 rfl rfl (Nat.le_of_ble_eq_true rfl) (Nat.le_of_ble_eq_true rfl) (ly8_k La0_h1) ?_
  refine ma_kv H (fun h3 Xh3 H => ?_) (fun x1 h1 X1 H => mt_out rfl H)
  have H := H Xh3
  have La0_h3 := La0_h1.ext Xh3
  refine mx_aload_n dX8_readTest_55 rfl rfl ?_
  refine mx_iload_n dX8_readTest_56 rfl rfl ?_
  refine mx_if_eq (tgt := 65) dX8_readTest_57 rfl (fun c5 => ?_) (fun c5 => ?_)
  · have H := H.1 c5
    refine mx_bipush dX8_readTest_65 ib_14 ?_
    refine mx_iconst dX8_readTest_67 ic_0 ?_
    refine mx_callV 8 (y' := mi_X8_mark) (vs := [iv (14 : Int32), iv (0 : Int32)]) (st := []) (al' := [some (rv a0), some (iv (14 : Int32)), some (iv (0 : Int32))]) cl_8 V_X8_mark (Or.inl q2279) dX8_readTest_68 rfl rfl (Nat.le_of_ble_eq_true rfl) (Nat.le_of_ble_eq_true rfl) (ly8_k La0_h3) ?_
    refine mx_aload_n dX8_mark_0 rfl rfl ?_
    refine mx_get 8 64 (ref := "PrairiePoolModel") cl_8 (Nat.le_of_ble_eq_true rfl) (Or.inl q1691) (Or.inl rfl) dX8_mark_1 (fv_8_64 _ _) (ly8_k La0_h3) ?_
    refine mx_tr (ly8_R_0_64 La0_h3) ?_
    refine mx_aload_n dX8_mark_4 rfl rfl ?_
    refine mx_get 8 58 (ref := "PrairiePoolModel") cl_8 (Nat.le_of_ble_eq_true rfl) (Or.inl q1685) (Or.inl rfl) dX8_mark_5 (fv_8_58 _ _) (ly8_k La0_h3) ?_
    refine mx_ldcw q2096 dX8_mark_8 ?_
    refine mx_iload_n dX8_mark_11 rfl rfl ?_
    refine mx_imul dX8_mark_12 ?_
    refine mx_iload_n dX8_mark_13 rfl rfl ?_
    refine mx_iadd dX8_mark_14 ?_
    obtain ⟨k6, H⟩ := H
    refine my_iast dX8_mark_15 rfl (ly8_A_41 La0_h3 k6) ?_
    refine mx_nmI  (fun h7 eh7 Xh7 Kh7 Lh7 => ?_)
    have H := H h7 eh7 Xh7
    have La0_h7 := La0_h3.ext Xh7
    refine mx_aload_n dX8_mark_16 rfl rfl ?_
    refine mx_dup_r dX8_mark_17 ?_
    refine mx_get 8 58 (ref := "PrairiePoolModel") cl_8 (Nat.le_of_ble_eq_true rfl) (Or.inl q1685) (Or.inl rfl) dX8_mark_18 (fv_8_58 _ _) (ly8_k La0_h7) ?_
    refine mx_ti (ah_skIA eh7 (by omega)) ?_
    refine mx_iconst dX8_mark_21 ic_1 ?_
    refine mx_iadd dX8_mark_22 ?_
    refine mx_putI 8 58 (ref := "PrairiePoolModel") cl_8 (Nat.le_of_ble_eq_true rfl) (Or.inl q1685) (Or.inl rfl) dX8_mark_23 (Or.inl rfl) rfl (ly8_k La0_h7) ?_
    refine mx_nmI  (fun h8 eh8 Xh8 Kh8 Lh8 => ?_)
    have H := H h8 eh8 Xh8
    have Kh8 := Kh8.trans Kh7
    have Lh8 := Lh8.trans Lh7
    have La0_h8 := La0_h7.ext Xh8
    refine mx_vretK rfl dX8_mark_26 ?_
    refine mx_goto (tgt := 18) dX8_readTest_71 rfl ?_
    exact mx_weak (al' := [some (rv a0), some (iv x1), some (iv x2)]) ⟨rfl, ⟨rfl, ⟨rfl, trivial⟩⟩⟩ H
  · have H := H.2 c5
    refine mx_bipush dX8_readTest_60 ib_13 ?_
    refine mx_goto (tgt := 67) dX8_readTest_62 rfl ?_
    refine mx_iconst dX8_readTest_67 ic_0 ?_
    refine mx_callV 8 (y' := mi_X8_mark) (vs := [iv (13 : Int32), iv (0 : Int32)]) (st := []) (al' := [some (rv a0), some (iv (13 : Int32)), some (iv (0 : Int32))]) cl_8 V_X8_mark (Or.inl q2279) dX8_readTest_68 rfl rfl (Nat.le_of_ble_eq_true rfl) (Nat.le_of_ble_eq_true rfl) (ly8_k La0_h3) ?_
    refine mx_aload_n dX8_mark_0 rfl rfl ?_
    refine mx_get 8 64 (ref := "PrairiePoolModel") cl_8 (Nat.le_of_ble_eq_true rfl) (Or.inl q1691) (Or.inl rfl) dX8_mark_1 (fv_8_64 _ _) (ly8_k La0_h3) ?_
    refine mx_tr (ly8_R_0_64 La0_h3) ?_
    refine mx_aload_n dX8_mark_4 rfl rfl ?_
    refine mx_get 8 58 (ref := "PrairiePoolModel") cl_8 (Nat.le_of_ble_eq_true rfl) (Or.inl q1685) (Or.inl rfl) dX8_mark_5 (fv_8_58 _ _) (ly8_k La0_h3) ?_
    refine mx_ldcw q2096 dX8_mark_8 ?_
    refine mx_iload_n dX8_mark_11 rfl rfl ?_
    refine mx_imul dX8_mark_12 ?_
    refine mx_iload_n dX8_mark_13 rfl rfl ?_
    refine mx_iadd dX8_mark_14 ?_
    obtain ⟨k9, H⟩ := H
    refine my_iast dX8_mark_15 rfl (ly8_A_41 La0_h3 k9) ?_
    refine mx_nmI  (fun h10 eh10 Xh10 Kh10 Lh10 => ?_)
    have H := H h10 eh10 Xh10
    have La0_h10 := La0_h3.ext Xh10
    refine mx_aload_n dX8_mark_16 rfl rfl ?_
    refine mx_dup_r dX8_mark_17 ?_
    refine mx_get 8 58 (ref := "PrairiePoolModel") cl_8 (Nat.le_of_ble_eq_true rfl) (Or.inl q1685) (Or.inl rfl) dX8_mark_18 (fv_8_58 _ _) (ly8_k La0_h10) ?_
    refine mx_ti (ah_skIA eh10 (by omega)) ?_
    refine mx_iconst dX8_mark_21 ic_1 ?_
    refine mx_iadd dX8_mark_22 ?_
    refine mx_putI 8 58 (ref := "PrairiePoolModel") cl_8 (Nat.le_of_ble_eq_true rfl) (Or.inl q1685) (Or.inl rfl) dX8_mark_23 (Or.inl rfl) rfl (ly8_k La0_h10) ?_
    refine mx_nmI  (fun h11 eh11 Xh11 Kh11 Lh11 => ?_)
    have H := H h11 eh11 Xh11
    have Kh11 := Kh11.trans Kh10
    have Lh11 := Lh11.trans Lh10
    have La0_h11 := La0_h10.ext Xh11
    refine mx_vretK rfl dX8_mark_26 ?_
    refine mx_goto (tgt := 18) dX8_readTest_71 rfl ?_
    exact mx_weak (al' := [some (rv a0), some (iv x1), some (iv x2)]) ⟨rfl, ⟨rfl, ⟨rfl, trivial⟩⟩⟩ H
theorem dX8_readOne_0 : decode mi_X8_readOne.2.1 0 = .ok (.aload_n 0, 1) := by decide +kernel
theorem dX8_readOne_1 : decode mi_X8_readOne.2.1 1 = .ok (.invokevirtual 488, 3) := by decide +kernel
theorem dX8_readOne_4 : decode mi_X8_readOne.2.1 4 = .ok (.istore_n 2, 1) := by decide +kernel
theorem dX8_readOne_5 : decode mi_X8_readOne.2.1 5 = .ok (.iload_n 2, 1) := by decide +kernel
theorem dX8_readOne_6 : decode mi_X8_readOne.2.1 6 = .ok (.ifCond .eq 7, 3) := by decide +kernel
theorem dX8_readOne_9 : decode mi_X8_readOne.2.1 9 = .ok (.aload_n 0, 1) := by decide +kernel
theorem dX8_readOne_10 : decode mi_X8_readOne.2.1 10 = .ok (.invokevirtual 522, 3) := by decide +kernel
theorem dX8_readOne_13 : decode mi_X8_readOne.2.1 13 = .ok (.aload_n 0, 1) := by decide +kernel
theorem dX8_readOne_14 : decode mi_X8_readOne.2.1 14 = .ok (.iload_n 1, 1) := by decide +kernel
theorem dX8_readOne_15 : decode mi_X8_readOne.2.1 15 = .ok (.invokevirtual 519, 3) := by decide +kernel
theorem dX8_readOne_18 : decode mi_X8_readOne.2.1 18 = .ok (.aload_n 0, 1) := by decide +kernel
theorem dX8_readOne_19 : decode mi_X8_readOne.2.1 19 = .ok (.bipush 60, 2) := by decide +kernel
theorem dX8_readOne_21 : decode mi_X8_readOne.2.1 21 = .ok (.invokevirtual 507, 3) := by decide +kernel
theorem dX8_readOne_24 : decode mi_X8_readOne.2.1 24 = .ok (.ifCond .eq 8, 3) := by decide +kernel
theorem dX8_readOne_27 : decode mi_X8_readOne.2.1 27 = .ok (.bipush 10, 2) := by decide +kernel
theorem dX8_readOne_29 : decode mi_X8_readOne.2.1 29 = .ok (.goto 32, 3) := by decide +kernel
theorem dX8_readOne_32 : decode mi_X8_readOne.2.1 32 = .ok (.aload_n 0, 1) := by decide +kernel
theorem dX8_readOne_33 : decode mi_X8_readOne.2.1 33 = .ok (.bipush 62, 2) := by decide +kernel
theorem dX8_readOne_35 : decode mi_X8_readOne.2.1 35 = .ok (.invokevirtual 507, 3) := by decide +kernel
theorem dX8_readOne_38 : decode mi_X8_readOne.2.1 38 = .ok (.ifCond .eq 8, 3) := by decide +kernel
theorem dX8_readOne_41 : decode mi_X8_readOne.2.1 41 = .ok (.bipush 11, 2) := by decide +kernel
theorem dX8_readOne_43 : decode mi_X8_readOne.2.1 43 = .ok (.goto 18, 3) := by decide +kernel
theorem dX8_readOne_46 : decode mi_X8_readOne.2.1 46 = .ok (.aload_n 0, 1) := by decide +kernel
theorem dX8_readOne_47 : decode mi_X8_readOne.2.1 47 = .ok (.bipush 61, 2) := by decide +kernel
theorem dX8_readOne_49 : decode mi_X8_readOne.2.1 49 = .ok (.invokevirtual 507, 3) := by decide +kernel
theorem dX8_readOne_52 : decode mi_X8_readOne.2.1 52 = .ok (.ifCond .eq 8, 3) := by decide +kernel
theorem dX8_readOne_55 : decode mi_X8_readOne.2.1 55 = .ok (.bipush 12, 2) := by decide +kernel
theorem dX8_readOne_57 : decode mi_X8_readOne.2.1 57 = .ok (.goto 4, 3) := by decide +kernel
theorem dX8_readOne_60 : decode mi_X8_readOne.2.1 60 = .ok (.iconst (-1), 1) := by decide +kernel
theorem dX8_readOne_61 : decode mi_X8_readOne.2.1 61 = .ok (.istore_n 3, 1) := by decide +kernel
theorem dX8_readOne_62 : decode mi_X8_readOne.2.1 62 = .ok (.aload_n 0, 1) := by decide +kernel
theorem dX8_readOne_63 : decode mi_X8_readOne.2.1 63 = .ok (.getfield 453, 3) := by decide +kernel
theorem dX8_readOne_66 : decode mi_X8_readOne.2.1 66 = .ok (.ifCond .ne 11, 3) := by decide +kernel
theorem dX8_readOne_69 : decode mi_X8_readOne.2.1 69 = .ok (.iload_n 3, 1) := by decide +kernel
theorem dX8_readOne_70 : decode mi_X8_readOne.2.1 70 = .ok (.ifCond .ge 7, 3) := by decide +kernel
theorem dX8_readOne_73 : decode mi_X8_readOne.2.1 73 = .ok (.aload_n 0, 1) := by decide +kernel
theorem dX8_readOne_74 : decode mi_X8_readOne.2.1 74 = .ok (.invokevirtual 516, 3) := by decide +kernel
theorem dX8_readOne_77 : decode mi_X8_readOne.2.1 77 = .ok (.aload_n 0, 1) := by decide +kernel
theorem dX8_readOne_78 : decode mi_X8_readOne.2.1 78 = .ok (.getfield 453, 3) := by decide +kernel
theorem dX8_readOne_81 : decode mi_X8_readOne.2.1 81 = .ok (.ifCond .le 4, 3) := by decide +kernel
theorem dX8_readOne_84 : decode mi_X8_readOne.2.1 84 = .ok (.return_, 1) := by decide +kernel
theorem dX8_readOne_85 : decode mi_X8_readOne.2.1 85 = .ok (.aload_n 0, 1) := by decide +kernel
theorem dX8_readOne_86 : decode mi_X8_readOne.2.1 86 = .ok (.invokevirtual 522, 3) := by decide +kernel
theorem dX8_readOne_89 : decode mi_X8_readOne.2.1 89 = .ok (.aload_n 0, 1) := by decide +kernel
theorem dX8_readOne_90 : decode mi_X8_readOne.2.1 90 = .ok (.iload_n 1, 1) := by decide +kernel
theorem dX8_readOne_91 : decode mi_X8_readOne.2.1 91 = .ok (.invokevirtual 519, 3) := by decide +kernel
theorem dX8_readOne_94 : decode mi_X8_readOne.2.1 94 = .ok (.aload_n 0, 1) := by decide +kernel
theorem dX8_readOne_95 : decode mi_X8_readOne.2.1 95 = .ok (.iload_n 3, 1) := by decide +kernel
theorem dX8_readOne_96 : decode mi_X8_readOne.2.1 96 = .ok (.iload_n 2, 1) := by decide +kernel
theorem dX8_readOne_97 : decode mi_X8_readOne.2.1 97 = .ok (.ifCond .eq 7, 3) := by decide +kernel
theorem dX8_readOne_100 : decode mi_X8_readOne.2.1 100 = .ok (.iconst 1, 1) := by decide +kernel
theorem dX8_readOne_101 : decode mi_X8_readOne.2.1 101 = .ok (.goto 4, 3) := by decide +kernel
theorem dX8_readOne_104 : decode mi_X8_readOne.2.1 104 = .ok (.iconst 0, 1) := by decide +kernel
theorem dX8_readOne_105 : decode mi_X8_readOne.2.1 105 = .ok (.invokevirtual 528, 3) := by decide +kernel
theorem dX8_readOne_108 : decode mi_X8_readOne.2.1 108 = .ok (.return_, 1) := by decide +kernel
theorem v_X8_readOne {G : ma_G} {d : Nat} {a0 : Nat} {x1 : Int32} {h : ah_T} {Q : Option ma_V → ah_T → Prop} {E : Nat → ah_T → Prop} (La0_h : LY8 h a0) (H : (¬ (ah_I h a0 50) = (1 : Int32) → MX G mi_X8_readOne (d + 2) 13 [some (rv a0), some (iv x1), some (iv (0 : Int32)), none] [] h Q E) ∧ ((ah_I h a0 50) = (1 : Int32) → (¬ (ah_J h a0 55) = (14836 : Int64) → MX G mi_X8_readOne (d + 2) 13 [some (rv a0), some (iv x1), some (iv (0 : Int32)), none] [] h Q E) ∧ ((ah_J h a0 55) = (14836 : Int64) → MX G mi_X8_next (d + 1) 0 [some (rv a0), none] [] h (Qv fun h3 => ah_ext h h3 → MX G mi_X8_readOne (d + 2) 13 [some (rv a0), some (iv x1), some (iv (1 : Int32)), none] [] h3 Q E) E))) : MX G mi_X8_readOne (d + 2) 0 [some (rv a0), some (iv x1), none, none] [] h Q E := by
  refine mx_aload_n dX8_readOne_0 rfl rfl ?_
  refine mx_callV 8 (y' := mi_X8_isNot) (vs := []) (st := []) (al' := [some (rv a0)]) cl_8 V_X8_isNot (Or.inl q2227) dX8_readOne_1 rfl rfl (Nat.le_of_ble_eq_true rfl) (Nat.le_of_ble_eq_true rfl) (ly8_k La0_h) ?_
  refine mx_aload_n dX8_isNot_0 rfl rfl ?_
  refine mx_bipush dX8_isNot_1 ib_110 ?_
  refine mx_bipush dX8_isNot_3 ib_111 ?_
  refine mx_bipush dX8_isNot_5 ib_116 ?_
  refine mx_iconst dX8_isNot_7 ic_0 ?_
  refine mx_iconst dX8_isNot_8 ic_0 ?_
  refine mx_iconst dX8_isNot_9 ic_0 ?_
  refine mx_callS (y' := mi_X8_spelled) (vs := [iv (110 : Int32), iv (111 : Int32), iv (116 : Int32), iv (0 : Int32), iv (0 : Int32), iv (0 : Int32)]) (st := [rv a0]) (al' := [some (iv (110 : Int32)), some (iv (111 : Int32)), some (iv (116 : Int32)), some (iv (0 : Int32)), some (iv (0 : Int32)), some (iv (0 : Int32)), none, none]) S_X8_spelled q2075 dX8_isNot_10 rfl rfl (Nat.le_of_ble_eq_true rfl) (Nat.le_of_ble_eq_true rfl) ?_
  refine mx_iload_n dX8_spelled_0 rfl rfl ?_
  refine mx_i2l dX8_spelled_1 ?_
  refine mx_ldc2 q2078 dX8_spelled_2 ?_
  refine mx_lsub dX8_spelled_5 ?_
  refine mx_lstore (al' := [some (iv (110 : Int32)), some (iv (111 : Int32)), some (iv (116 : Int32)), some (iv (0 : Int32)), some (iv (0 : Int32)), some (iv (0 : Int32)), some (jv ((110 : Int32).toInt64 - (96 : Int64))), none]) dX8_spelled_6 (Nat.le_of_ble_eq_true rfl) rfl ?_
  refine mx_lload dX8_spelled_8 rfl ?_
  refine mx_ldc2 q2079 dX8_spelled_10 ?_
  refine mx_lmul dX8_spelled_13 ?_
  refine mx_iload_n dX8_spelled_14 rfl rfl ?_
  refine mx_i2l dX8_spelled_15 ?_
  refine mx_ladd dX8_spelled_16 ?_
  refine mx_ldc2 q2078 dX8_spelled_17 ?_
  refine mx_lsub dX8_spelled_20 ?_
  refine mx_lstore (al' := [some (iv (110 : Int32)), some (iv (111 : Int32)), some (iv (116 : Int32)), some (iv (0 : Int32)), some (iv (0 : Int32)), some (iv (0 : Int32)), some (jv (((((110 : Int32).toInt64 - (96 : Int64)) * (32 : Int64)) + (111 : Int32).toInt64) - (96 : Int64))), none]) dX8_spelled_21 (Nat.le_of_ble_eq_true rfl) rfl ?_
  refine mx_iload_n dX8_spelled_23 rfl rfl ?_
  refine mx_if_le (tgt := 43) dX8_spelled_24 rfl (fun _ => absurd ‹_› (by decide)) (fun _ => ?_)
  refine mx_lload dX8_spelled_27 rfl ?_
  refine mx_ldc2 q2079 dX8_spelled_29 ?_
  refine mx_lmul dX8_spelled_32 ?_
  refine mx_iload_n dX8_spelled_33 rfl rfl ?_
  refine mx_i2l dX8_spelled_34 ?_
  refine mx_ladd dX8_spelled_35 ?_
  refine mx_ldc2 q2078 dX8_spelled_36 ?_
  refine mx_lsub dX8_spelled_39 ?_
  refine mx_goto (tgt := 45) dX8_spelled_40 rfl ?_
  refine mx_lstore (al' := [some (iv (110 : Int32)), some (iv (111 : Int32)), some (iv (116 : Int32)), some (iv (0 : Int32)), some (iv (0 : Int32)), some (iv (0 : Int32)), some (jv ((((((((110 : Int32).toInt64 - (96 : Int64)) * (32 : Int64)) + (111 : Int32).toInt64) - (96 : Int64)) * (32 : Int64)) + (116 : Int32).toInt64) - (96 : Int64))), none]) dX8_spelled_45 (Nat.le_of_ble_eq_true rfl) rfl ?_
  refine mx_iload_n dX8_spelled_47 rfl rfl ?_
  refine mx_if_le (tgt := 67) dX8_spelled_48 rfl (fun _ => ?_) (fun _ => absurd ‹_› (by decide))
  refine mx_lload dX8_spelled_67 rfl ?_
  refine mx_lstore (al' := [some (iv (110 : Int32)), some (iv (111 : Int32)), some (iv (116 : Int32)), some (iv (0 : Int32)), some (iv (0 : Int32)), some (iv (0 : Int32)), some (jv ((((((((110 : Int32).toInt64 - (96 : Int64)) * (32 : Int64)) + (111 : Int32).toInt64) - (96 : Int64)) * (32 : Int64)) + (116 : Int32).toInt64) - (96 : Int64))), none]) dX8_spelled_69 (Nat.le_of_ble_eq_true rfl) rfl ?_
  refine mx_iload dX8_spelled_71 rfl ?_
  refine mx_if_le (tgt := 93) dX8_spelled_73 rfl (fun _ => ?_) (fun _ => absurd ‹_› (by decide))
  refine mx_lload dX8_spelled_93 rfl ?_
  refine mx_lstore (al' := [some (iv (110 : Int32)), some (iv (111 : Int32)), some (iv (116 : Int32)), some (iv (0 : Int32)), some (iv (0 : Int32)), some (iv (0 : Int32)), some (jv ((((((((110 : Int32).toInt64 - (96 : Int64)) * (32 : Int64)) + (111 : Int32).toInt64) - (96 : Int64)) * (32 : Int64)) + (116 : Int32).toInt64) - (96 : Int64))), none]) dX8_spelled_95 (Nat.le_of_ble_eq_true rfl) rfl ?_
  refine mx_iload dX8_spelled_97 rfl ?_
  refine mx_if_le (tgt := 119) dX8_spelled_99 rfl (fun _ => ?_) (fun _ => absurd ‹_› (by decide))
  refine mx_lload dX8_spelled_119 rfl ?_
  refine mx_lretK rfl dX8_spelled_121 ?_
  refine mx_tj (show ((((((((110 : Int32).toInt64 - (96 : Int64)) * (32 : Int64)) + (111 : Int32).toInt64) - (96 : Int64)) * (32 : Int64)) + (116 : Int32).toInt64) - (96 : Int64)) = (14836 : Int64) by decide) ?_
  refine mx_callV 8 (y' := mi_X8_isWord) (vs := [jv (14836 : Int64)]) (st := []) (al' := [some (rv a0), some (jv (14836 : Int64)), none]) cl_8 V_X8_isWord (Or.inl q2196) dX8_isNot_13 rfl rfl (Nat.le_of_ble_eq_true rfl) (Nat.le_of_ble_eq_true rfl) (ly8_k La0_h) ?_
  refine mx_aload_n dX8_isWord_0 rfl rfl ?_
  refine mx_get 8 50 (ref := "PrairiePoolModel") cl_8 (Nat.le_of_ble_eq_true rfl) (Or.inl q1677) (Or.inl rfl) dX8_isWord_1 (fv_8_50 _ _) (ly8_k La0_h) ?_
  refine mx_iconst dX8_isWord_4 ic_1 ?_
  refine mx_icmp_ne (tgt := 21) dX8_isWord_5 rfl (fun c1 => ?_) (fun c1 => ?_)
  · have H := H.1 c1
    refine mx_iconst dX8_isWord_21 ic_0 ?_
    refine mx_zretK rfl dX8_isWord_22 (Or.inl rfl) ?_
    refine mx_zretK rfl dX8_isNot_16 (Or.inl rfl) ?_
    refine mx_istore_n (al' := [some (rv a0), some (iv x1), some (iv (0 : Int32)), none]) dX8_readOne_4 rfl (Nat.le_of_ble_eq_true rfl) rfl ?_
    refine mx_iload_n dX8_readOne_5 rfl rfl ?_
    refine mx_if_eq (tgt := 13) dX8_readOne_6 rfl (fun _ => ?_) (fun _ => absurd ‹_› (by decide))
    exact mx_weak (al' := [some (rv a0), some (iv x1), some (iv (0 : Int32)), none]) ⟨rfl, ⟨rfl, ⟨rfl, trivial⟩⟩⟩ H
  · have H := H.2 c1
    refine mx_aload_n dX8_isWord_8 rfl rfl ?_
    refine mx_get 8 55 (ref := "PrairiePoolModel") cl_8 (Nat.le_of_ble_eq_true rfl) (Or.inl q1682) (Or.inl rfl) dX8_isWord_9 (fv_8_55 _ _) (ly8_k La0_h) ?_
    refine mx_lload_n dX8_isWord_12 rfl rfl ?_
    refine mx_lif_ne (tgt := 21) dX8_isWord_13 dX8_isWord_14 rfl (fun c2 => ?_) (fun c2 => ?_)
    · have H := H.1 c2
      refine mx_iconst dX8_isWord_21 ic_0 ?_
      refine mx_zretK rfl dX8_isWord_22 (Or.inl rfl) ?_
      refine mx_zretK rfl dX8_isNot_16 (Or.inl rfl) ?_
      refine mx_istore_n (al' := [some (rv a0), some (iv x1), some (iv (0 : Int32)), none]) dX8_readOne_4 rfl (Nat.le_of_ble_eq_true rfl) rfl ?_
      refine mx_iload_n dX8_readOne_5 rfl rfl ?_
      refine mx_if_eq (tgt := 13) dX8_readOne_6 rfl (fun _ => ?_) (fun _ => absurd ‹_› (by decide))
      exact mx_weak (al' := [some (rv a0), some (iv x1), some (iv (0 : Int32)), none]) ⟨rfl, ⟨rfl, ⟨rfl, trivial⟩⟩⟩ H
    · have H := H.2 c2
      refine mx_iconst dX8_isWord_17 ic_1 ?_
      refine mx_goto (tgt := 22) dX8_isWord_18 rfl ?_
      refine mx_zretK rfl dX8_isWord_22 (Or.inr rfl) ?_
      refine mx_zretK rfl dX8_isNot_16 (Or.inr rfl) ?_
      refine mx_istore_n (al' := [some (rv a0), some (iv x1), some (iv (1 : Int32)), none]) dX8_readOne_4 rfl (Nat.le_of_ble_eq_true rfl) rfl ?_
      refine mx_iload_n dX8_readOne_5 rfl rfl ?_
      refine mx_if_eq (tgt := 13) dX8_readOne_6 rfl (fun _ => absurd ‹_› (by decide)) (fun _ => ?_)
      refine mx_aload_n dX8_readOne_9 rfl rfl ?_
      refine mx_callV 8 (y' := mi_X8_next) (vs := []) (st := []) (al' := [some (rv a0), none]) cl_8 V_X8_next (Or.inl q2170) dX8_readOne_10 rfl rfl (Nat.le_of_ble_eq_true rfl) (Nat.le_of_ble_eq_true rfl) (ly8_k La0_h) ?_
      refine ma_kv H (fun h3 Xh3 H => ?_) (fun x1 h1 X1 H => mt_out rfl H)
      have H := H Xh3
      have La0_h3 := La0_h.ext Xh3
      exact mx_weak (al' := [some (rv a0), some (iv x1), some (iv (1 : Int32)), none]) ⟨rfl, ⟨rfl, ⟨rfl, trivial⟩⟩⟩ H
theorem v_X8_readOne_13 {G : ma_G} {d : Nat} {a0 : Nat} {x1 : Int32} {x2 : Int32} {h : ah_T} {Q : Option ma_V → ah_T → Prop} {E : Nat → ah_T → Prop} (La0_h : LY8 h a0) (H : MX G mi_X8_readSum (d + 1) 0 [some (rv a0), some (iv x1), none] [] h (Qv fun h1 => ah_ext h h1 → (¬ (ah_I h1 a0 50) = (3 : Int32) → (¬ (ah_I h1 a0 48) = 0 → MX G mi_X8_readOne (d + 2) 77 [some (rv a0), some (iv x1), some (iv x2), some (iv (-1 : Int32))] [] h1 Q E) ∧ ((ah_I h1 a0 48) = 0 → (¬ (ah_I h1 a0 50) = (4 : Int32) → ((ah_I h1 a0 48) ≤ 0 → ∀ h7 : ah_T, h7 = ah_wI h1 a0 48 (2 : Int32) → ah_ext h1 h7 → ∀ h8 : ah_T, h8 = ah_wI h7 a0 49 (ah_I h1 a0 51) → ah_ext h7 h8 → MX G mi_X8_readOne (d + 2) 77 [some (rv a0), some (iv x1), some (iv x2), some (iv (-1 : Int32))] [] h8 Q E) ∧ (¬ (ah_I h1 a0 48) ≤ 0 → MX G mi_X8_readOne (d + 2) 77 [some (rv a0), some (iv x1), some (iv x2), some (iv (-1 : Int32))] [] h1 Q E)) ∧ ((ah_I h1 a0 50) = (4 : Int32) → ((ah_I h1 a0 48) ≤ 0 → ∀ h10 : ah_T, h10 = ah_wI h1 a0 48 (1 : Int32) → ah_ext h1 h10 → ∀ h11 : ah_T, h11 = ah_wI h10 a0 49 (ah_I h1 a0 51) → ah_ext h10 h11 → MX G mi_X8_readOne (d + 2) 77 [some (rv a0), some (iv x1), some (iv x2), some (iv (-1 : Int32))] [] h11 Q E) ∧ (¬ (ah_I h1 a0 48) ≤ 0 → MX G mi_X8_readOne (d + 2) 77 [some (rv a0), some (iv x1), some (iv x2), some (iv (-1 : Int32))] [] h1 Q E)))) ∧ ((ah_I h1 a0 50) = (3 : Int32) → (¬ (ah_I h1 a0 53) = (60 : Int32) → (¬ (ah_I h1 a0 53) = (62 : Int32) → (¬ (ah_I h1 a0 53) = (61 : Int32) → (¬ (ah_I h1 a0 48) = 0 → MX G mi_X8_readOne (d + 2) 77 [some (rv a0), some (iv x1), some (iv x2), some (iv (-1 : Int32))] [] h1 Q E) ∧ ((ah_I h1 a0 48) = 0 → (¬ (ah_I h1 a0 50) = (4 : Int32) → ((ah_I h1 a0 48) ≤ 0 → ∀ h18 : ah_T, h18 = ah_wI h1 a0 48 (2 : Int32) → ah_ext h1 h18 → ∀ h19 : ah_T, h19 = ah_wI h18 a0 49 (ah_I h1 a0 51) → ah_ext h18 h19 → MX G mi_X8_readOne (d + 2) 77 [some (rv a0), some (iv x1), some (iv x2), some (iv (-1 : Int32))] [] h19 Q E) ∧ (¬ (ah_I h1 a0 48) ≤ 0 → MX G mi_X8_readOne (d + 2) 77 [some (rv a0), some (iv x1), some (iv x2), some (iv (-1 : Int32))] [] h1 Q E)) ∧ ((ah_I h1 a0 50) = (4 : Int32) → ((ah_I h1 a0 48) ≤ 0 → ∀ h21 : ah_T, h21 = ah_wI h1 a0 48 (1 : Int32) → ah_ext h1 h21 → ∀ h22 : ah_T, h22 = ah_wI h21 a0 49 (ah_I h1 a0 51) → ah_ext h21 h22 → MX G mi_X8_readOne (d + 2) 77 [some (rv a0), some (iv x1), some (iv x2), some (iv (-1 : Int32))] [] h22 Q E) ∧ (¬ (ah_I h1 a0 48) ≤ 0 → MX G mi_X8_readOne (d + 2) 77 [some (rv a0), some (iv x1), some (iv x2), some (iv (-1 : Int32))] [] h1 Q E)))) ∧ ((ah_I h1 a0 53) = (61 : Int32) → (¬ (ah_I h1 a0 48) = 0 → MX G mi_X8_readOne (d + 2) 77 [some (rv a0), some (iv x1), some (iv x2), some (iv (12 : Int32))] [] h1 Q E) ∧ ((ah_I h1 a0 48) = 0 → MX G mi_X8_readOne (d + 2) 77 [some (rv a0), some (iv x1), some (iv x2), some (iv (12 : Int32))] [] h1 Q E))) ∧ ((ah_I h1 a0 53) = (62 : Int32) → (¬ (ah_I h1 a0 48) = 0 → MX G mi_X8_readOne (d + 2) 77 [some (rv a0), some (iv x1), some (iv x2), some (iv (11 : Int32))] [] h1 Q E) ∧ ((ah_I h1 a0 48) = 0 → MX G mi_X8_readOne (d + 2) 77 [some (rv a0), some (iv x1), some (iv x2), some (iv (11 : Int32))] [] h1 Q E))) ∧ ((ah_I h1 a0 53) = (60 : Int32) → (¬ (ah_I h1 a0 48) = 0 → MX G mi_X8_readOne (d + 2) 77 [some (rv a0), some (iv x1), some (iv x2), some (iv (10 : Int32))] [] h1 Q E) ∧ ((ah_I h1 a0 48) = 0 → MX G mi_X8_readOne (d + 2) 77 [some (rv a0), some (iv x1), some (iv x2), some (iv (10 : Int32))] [] h1 Q E)))) E) : MX G mi_X8_readOne (d + 2) 13 [some (rv a0), some (iv x1), some (iv x2), none] [] h Q E := by
  refine mx_aload_n dX8_readOne_13 rfl rfl ?_
  refine mx_iload_n dX8_readOne_14 rfl rfl ?_
  refine mx_callV 8 (y' := mi_X8_readSum) (vs := [iv x1]) (st := []) (al' := [some (rv a0), some (iv x1), none]) cl_8 V_X8_readSum (Or.inl q2267) dX8_readOne_15 rfl rfl (Nat.le_of_ble_eq_true rfl) (Nat.le_of_ble_eq_true rfl) (ly8_k La0_h) ?_
  refine ma_kv H (fun h1 Xh1 H => ?_) (fun x1 h1 X1 H => mt_out rfl H)
  have H := H Xh1
  have La0_h1 := La0_h.ext Xh1
  refine mx_aload_n dX8_readOne_18 rfl rfl ?_
  refine mx_bipush dX8_readOne_19 ib_60 ?_
  refine mx_callV 8 (y' := mi_X8_isSign) (vs := [iv (60 : Int32)]) (st := []) (al' := [some (rv a0), some (iv (60 : Int32))]) cl_8 V_X8_isSign (Or.inl q2251) dX8_readOne_21 rfl rfl (Nat.le_of_ble_eq_true rfl) (Nat.le_of_ble_eq_true rfl) (ly8_k La0_h1) ?_
  refine mx_aload_n dX8_isSign_0 rfl rfl ?_
  refine mx_get 8 50 (ref := "PrairiePoolModel") cl_8 (Nat.le_of_ble_eq_true rfl) (Or.inl q1677) (Or.inl rfl) dX8_isSign_1 (fv_8_50 _ _) (ly8_k La0_h1) ?_
  refine mx_iconst dX8_isSign_4 ic_3 ?_
  refine mx_icmp_ne (tgt := 20) dX8_isSign_5 rfl (fun c3 => ?_) (fun c3 => ?_)
  · have H := H.1 c3
    refine mx_iconst dX8_isSign_20 ic_0 ?_
    refine mx_zretK rfl dX8_isSign_21 (Or.inl rfl) ?_
    refine mx_if_eq (tgt := 32) dX8_readOne_24 rfl (fun _ => ?_) (fun _ => absurd ‹_› (by decide))
    refine mx_aload_n dX8_readOne_32 rfl rfl ?_
    refine mx_bipush dX8_readOne_33 ib_62 ?_
    refine mx_callV 8 (y' := mi_X8_isSign) (vs := [iv (62 : Int32)]) (st := []) (al' := [some (rv a0), some (iv (62 : Int32))]) cl_8 V_X8_isSign (Or.inl q2251) dX8_readOne_35 rfl rfl (Nat.le_of_ble_eq_true rfl) (Nat.le_of_ble_eq_true rfl) (ly8_k La0_h1) ?_
    refine mx_aload_n dX8_isSign_0 rfl rfl ?_
    refine mx_get 8 50 (ref := "PrairiePoolModel") cl_8 (Nat.le_of_ble_eq_true rfl) (Or.inl q1677) (Or.inl rfl) dX8_isSign_1 (fv_8_50 _ _) (ly8_k La0_h1) ?_
    refine mx_iconst dX8_isSign_4 ic_3 ?_
    refine mx_icmp_ne (tgt := 20) dX8_isSign_5 rfl (fun _ => ?_) (fun q_ => absurd q_ c3)
    refine mx_iconst dX8_isSign_20 ic_0 ?_
    refine mx_zretK rfl dX8_isSign_21 (Or.inl rfl) ?_
    refine mx_if_eq (tgt := 46) dX8_readOne_38 rfl (fun _ => ?_) (fun _ => absurd ‹_› (by decide))
    refine mx_aload_n dX8_readOne_46 rfl rfl ?_
    refine mx_bipush dX8_readOne_47 ib_61 ?_
    refine mx_callV 8 (y' := mi_X8_isSign) (vs := [iv (61 : Int32)]) (st := []) (al' := [some (rv a0), some (iv (61 : Int32))]) cl_8 V_X8_isSign (Or.inl q2251) dX8_readOne_49 rfl rfl (Nat.le_of_ble_eq_true rfl) (Nat.le_of_ble_eq_true rfl) (ly8_k La0_h1) ?_
    refine mx_aload_n dX8_isSign_0 rfl rfl ?_
    refine mx_get 8 50 (ref := "PrairiePoolModel") cl_8 (Nat.le_of_ble_eq_true rfl) (Or.inl q1677) (Or.inl rfl) dX8_isSign_1 (fv_8_50 _ _) (ly8_k La0_h1) ?_
    refine mx_iconst dX8_isSign_4 ic_3 ?_
    refine mx_icmp_ne (tgt := 20) dX8_isSign_5 rfl (fun _ => ?_) (fun q_ => absurd q_ c3)
    refine mx_iconst dX8_isSign_20 ic_0 ?_
    refine mx_zretK rfl dX8_isSign_21 (Or.inl rfl) ?_
    refine mx_if_eq (tgt := 60) dX8_readOne_52 rfl (fun _ => ?_) (fun _ => absurd ‹_› (by decide))
    refine mx_iconst dX8_readOne_60 ic_m1 ?_
    refine mx_istore_n (al' := [some (rv a0), some (iv x1), some (iv x2), some (iv (-1 : Int32))]) dX8_readOne_61 rfl (Nat.le_of_ble_eq_true rfl) rfl ?_
    refine mx_aload_n dX8_readOne_62 rfl rfl ?_
    refine mx_get 8 48 (ref := "PrairiePoolModel") cl_8 (Nat.le_of_ble_eq_true rfl) (Or.inl q1675) (Or.inl rfl) dX8_readOne_63 (fv_8_48 _ _) (ly8_k La0_h1) ?_
    refine mx_if_ne (tgt := 77) dX8_readOne_66 rfl (fun c4 => ?_) (fun c4 => ?_)
    · have H := H.1 c4
      exact mx_weak (al' := [some (rv a0), some (iv x1), some (iv x2), some (iv (-1 : Int32))]) ⟨rfl, ⟨rfl, ⟨rfl, ⟨rfl, trivial⟩⟩⟩⟩ H
    · have H := H.2 c4
      refine mx_iload_n dX8_readOne_69 rfl rfl ?_
      refine mx_if_ge (tgt := 77) dX8_readOne_70 rfl (fun _ => absurd ‹_› (by decide)) (fun _ => ?_)
      refine mx_aload_n dX8_readOne_73 rfl rfl ?_
      refine mx_callV 8 (y' := mi_X8_wrong) (vs := []) (st := []) (al' := [some (rv a0)]) cl_8 V_X8_wrong (Or.inl q2239) dX8_readOne_74 rfl rfl (Nat.le_of_ble_eq_true rfl) (Nat.le_of_ble_eq_true rfl) (ly8_k La0_h1) ?_
      refine mx_aload_n dX8_wrong_0 rfl rfl ?_
      refine mx_aload_n dX8_wrong_1 rfl rfl ?_
      refine mx_get 8 50 (ref := "PrairiePoolModel") cl_8 (Nat.le_of_ble_eq_true rfl) (Or.inl q1677) (Or.inl rfl) dX8_wrong_2 (fv_8_50 _ _) (ly8_k La0_h1) ?_
      refine mx_iconst dX8_wrong_5 ic_4 ?_
      refine mx_icmp_ne (tgt := 13) dX8_wrong_6 rfl (fun c5 => ?_) (fun c5 => ?_)
      · have H := H.1 c5
        refine mx_iconst dX8_wrong_13 ic_2 ?_
        refine mx_aload_n dX8_wrong_14 rfl rfl ?_
        refine mx_get 8 51 (ref := "PrairiePoolModel") cl_8 (Nat.le_of_ble_eq_true rfl) (Or.inl q1678) (Or.inl rfl) dX8_wrong_15 (fv_8_51 _ _) (ly8_k La0_h1) ?_
        refine mx_callV 8 (y' := mi_X8_fail) (vs := [iv (2 : Int32), iv (ah_I h1 a0 51)]) (st := []) (al' := [some (rv a0), some (iv (2 : Int32)), some (iv (ah_I h1 a0 51))]) cl_8 V_X8_fail (Or.inl q2243) dX8_wrong_18 rfl rfl (Nat.le_of_ble_eq_true rfl) (Nat.le_of_ble_eq_true rfl) (ly8_k La0_h1) ?_
        refine mx_aload_n dX8_fail_0 rfl rfl ?_
        refine mx_get 8 48 (ref := "PrairiePoolModel") cl_8 (Nat.le_of_ble_eq_true rfl) (Or.inl q1675) (Or.inl rfl) dX8_fail_1 (fv_8_48 _ _) (ly8_k La0_h1) ?_
        refine mx_if_le (tgt := 8) dX8_fail_4 rfl (fun c6 => ?_) (fun c6 => ?_)
        · have H := H.1 c6
          refine mx_aload_n dX8_fail_8 rfl rfl ?_
          refine mx_iload_n dX8_fail_9 rfl rfl ?_
          refine mx_putI 8 48 (ref := "PrairiePoolModel") cl_8 (Nat.le_of_ble_eq_true rfl) (Or.inl q1675) (Or.inl rfl) dX8_fail_10 (Or.inl rfl) rfl (ly8_k La0_h1) ?_
          refine mx_nmI  (fun h7 eh7 Xh7 Kh7 Lh7 => ?_)
          have H := H h7 eh7 Xh7
          have La0_h7 := La0_h1.ext Xh7
          refine mx_aload_n dX8_fail_13 rfl rfl ?_
          refine mx_iload_n dX8_fail_14 rfl rfl ?_
          refine mx_putI 8 49 (ref := "PrairiePoolModel") cl_8 (Nat.le_of_ble_eq_true rfl) (Or.inl q1676) (Or.inl rfl) dX8_fail_15 (Or.inl rfl) rfl (ly8_k La0_h7) ?_
          refine mx_nmI  (fun h8 eh8 Xh8 Kh8 Lh8 => ?_)
          have H := H h8 eh8 Xh8
          have Kh8 := Kh8.trans Kh7
          have Lh8 := Lh8.trans Lh7
          have La0_h8 := La0_h7.ext Xh8
          refine mx_vretK rfl dX8_fail_18 ?_
          refine mx_vretK rfl dX8_wrong_21 ?_
          exact mx_weak (al' := [some (rv a0), some (iv x1), some (iv x2), some (iv (-1 : Int32))]) ⟨rfl, ⟨rfl, ⟨rfl, ⟨rfl, trivial⟩⟩⟩⟩ H
        · have H := H.2 c6
          refine mx_vretK rfl dX8_fail_7 ?_
          refine mx_vretK rfl dX8_wrong_21 ?_
          exact mx_weak (al' := [some (rv a0), some (iv x1), some (iv x2), some (iv (-1 : Int32))]) ⟨rfl, ⟨rfl, ⟨rfl, ⟨rfl, trivial⟩⟩⟩⟩ H
      · have H := H.2 c5
        refine mx_iconst dX8_wrong_9 ic_1 ?_
        refine mx_goto (tgt := 14) dX8_wrong_10 rfl ?_
        refine mx_aload_n dX8_wrong_14 rfl rfl ?_
        refine mx_get 8 51 (ref := "PrairiePoolModel") cl_8 (Nat.le_of_ble_eq_true rfl) (Or.inl q1678) (Or.inl rfl) dX8_wrong_15 (fv_8_51 _ _) (ly8_k La0_h1) ?_
        refine mx_callV 8 (y' := mi_X8_fail) (vs := [iv (1 : Int32), iv (ah_I h1 a0 51)]) (st := []) (al' := [some (rv a0), some (iv (1 : Int32)), some (iv (ah_I h1 a0 51))]) cl_8 V_X8_fail (Or.inl q2243) dX8_wrong_18 rfl rfl (Nat.le_of_ble_eq_true rfl) (Nat.le_of_ble_eq_true rfl) (ly8_k La0_h1) ?_
        refine mx_aload_n dX8_fail_0 rfl rfl ?_
        refine mx_get 8 48 (ref := "PrairiePoolModel") cl_8 (Nat.le_of_ble_eq_true rfl) (Or.inl q1675) (Or.inl rfl) dX8_fail_1 (fv_8_48 _ _) (ly8_k La0_h1) ?_
        refine mx_if_le (tgt := 8) dX8_fail_4 rfl (fun c9 => ?_) (fun c9 => ?_)
        · have H := H.1 c9
          refine mx_aload_n dX8_fail_8 rfl rfl ?_
          refine mx_iload_n dX8_fail_9 rfl rfl ?_
          refine mx_putI 8 48 (ref := "PrairiePoolModel") cl_8 (Nat.le_of_ble_eq_true rfl) (Or.inl q1675) (Or.inl rfl) dX8_fail_10 (Or.inl rfl) rfl (ly8_k La0_h1) ?_
          refine mx_nmI  (fun h10 eh10 Xh10 Kh10 Lh10 => ?_)
          have H := H h10 eh10 Xh10
          have La0_h10 := La0_h1.ext Xh10
          refine mx_aload_n dX8_fail_13 rfl rfl ?_
          refine mx_iload_n dX8_fail_14 rfl rfl ?_
          refine mx_putI 8 49 (ref := "PrairiePoolModel") cl_8 (Nat.le_of_ble_eq_true rfl) (Or.inl q1676) (Or.inl rfl) dX8_fail_15 (Or.inl rfl) rfl (ly8_k La0_h10) ?_
          refine mx_nmI  (fun h11 eh11 Xh11 Kh11 Lh11 => ?_)
          have H := H h11 eh11 Xh11
          have Kh11 := Kh11.trans Kh10
          have Lh11 := Lh11.trans Lh10
          have La0_h11 := La0_h10.ext Xh11
          refine mx_vretK rfl dX8_fail_18 ?_
          refine mx_vretK rfl dX8_wrong_21 ?_
          exact mx_weak (al' := [some (rv a0), some (iv x1), some (iv x2), some (iv (-1 : Int32))]) ⟨rfl, ⟨rfl, ⟨rfl, ⟨rfl, trivial⟩⟩⟩⟩ H
        · have H := H.2 c9
          refine mx_vretK rfl dX8_fail_7 ?_
          refine mx_vretK rfl dX8_wrong_21 ?_
          exact mx_weak (al' := [some (rv a0), some (iv x1), some (iv x2), some (iv (-1 : Int32))]) ⟨rfl, ⟨rfl, ⟨rfl, ⟨rfl, trivial⟩⟩⟩⟩ H
  · have H := H.2 c3
    refine mx_aload_n dX8_isSign_8 rfl rfl ?_
    refine mx_get 8 53 (ref := "PrairiePoolModel") cl_8 (Nat.le_of_ble_eq_true rfl) (Or.inl q1680) (Or.inl rfl) dX8_isSign_9 (fv_8_53 _ _) (ly8_k La0_h1) ?_
    refine mx_iload_n dX8_isSign_12 rfl rfl ?_
    refine mx_icmp_ne (tgt := 20) dX8_isSign_13 rfl (fun c12 => ?_) (fun c12 => ?_)
    · have H := H.1 c12
      refine mx_iconst dX8_isSign_20 ic_0 ?_
      refine mx_zretK rfl dX8_isSign_21 (Or.inl rfl) ?_
      refine mx_if_eq (tgt := 32) dX8_readOne_24 rfl (fun _ => ?_) (fun _ => absurd ‹_› (by decide))
      refine mx_aload_n dX8_readOne_32 rfl rfl ?_
      refine mx_bipush dX8_readOne_33 ib_62 ?_
      refine mx_callV 8 (y' := mi_X8_isSign) (vs := [iv (62 : Int32)]) (st := []) (al' := [some (rv a0), some (iv (62 : Int32))]) cl_8 V_X8_isSign (Or.inl q2251) dX8_readOne_35 rfl rfl (Nat.le_of_ble_eq_true rfl) (Nat.le_of_ble_eq_true rfl) (ly8_k La0_h1) ?_
      refine mx_aload_n dX8_isSign_0 rfl rfl ?_
      refine mx_get 8 50 (ref := "PrairiePoolModel") cl_8 (Nat.le_of_ble_eq_true rfl) (Or.inl q1677) (Or.inl rfl) dX8_isSign_1 (fv_8_50 _ _) (ly8_k La0_h1) ?_
      refine mx_iconst dX8_isSign_4 ic_3 ?_
      refine mx_icmp_ne (tgt := 20) dX8_isSign_5 rfl (fun q_ => absurd c3 q_) (fun _ => ?_)
      refine mx_aload_n dX8_isSign_8 rfl rfl ?_
      refine mx_get 8 53 (ref := "PrairiePoolModel") cl_8 (Nat.le_of_ble_eq_true rfl) (Or.inl q1680) (Or.inl rfl) dX8_isSign_9 (fv_8_53 _ _) (ly8_k La0_h1) ?_
      refine mx_iload_n dX8_isSign_12 rfl rfl ?_
      refine mx_icmp_ne (tgt := 20) dX8_isSign_13 rfl (fun c13 => ?_) (fun c13 => ?_)
      · have H := H.1 c13
        refine mx_iconst dX8_isSign_20 ic_0 ?_
        refine mx_zretK rfl dX8_isSign_21 (Or.inl rfl) ?_
        refine mx_if_eq (tgt := 46) dX8_readOne_38 rfl (fun _ => ?_) (fun _ => absurd ‹_› (by decide))
        refine mx_aload_n dX8_readOne_46 rfl rfl ?_
        refine mx_bipush dX8_readOne_47 ib_61 ?_
        refine mx_callV 8 (y' := mi_X8_isSign) (vs := [iv (61 : Int32)]) (st := []) (al' := [some (rv a0), some (iv (61 : Int32))]) cl_8 V_X8_isSign (Or.inl q2251) dX8_readOne_49 rfl rfl (Nat.le_of_ble_eq_true rfl) (Nat.le_of_ble_eq_true rfl) (ly8_k La0_h1) ?_
        refine mx_aload_n dX8_isSign_0 rfl rfl ?_
        refine mx_get 8 50 (ref := "PrairiePoolModel") cl_8 (Nat.le_of_ble_eq_true rfl) (Or.inl q1677) (Or.inl rfl) dX8_isSign_1 (fv_8_50 _ _) (ly8_k La0_h1) ?_
        refine mx_iconst dX8_isSign_4 ic_3 ?_
        refine mx_icmp_ne (tgt := 20) dX8_isSign_5 rfl (fun q_ => absurd c3 q_) (fun _ => ?_)
        refine mx_aload_n dX8_isSign_8 rfl rfl ?_
        refine mx_get 8 53 (ref := "PrairiePoolModel") cl_8 (Nat.le_of_ble_eq_true rfl) (Or.inl q1680) (Or.inl rfl) dX8_isSign_9 (fv_8_53 _ _) (ly8_k La0_h1) ?_
        refine mx_iload_n dX8_isSign_12 rfl rfl ?_
        refine mx_icmp_ne (tgt := 20) dX8_isSign_13 rfl (fun c14 => ?_) (fun c14 => ?_)
        · have H := H.1 c14
          refine mx_iconst dX8_isSign_20 ic_0 ?_
          refine mx_zretK rfl dX8_isSign_21 (Or.inl rfl) ?_
          refine mx_if_eq (tgt := 60) dX8_readOne_52 rfl (fun _ => ?_) (fun _ => absurd ‹_› (by decide))
          refine mx_iconst dX8_readOne_60 ic_m1 ?_
          refine mx_istore_n (al' := [some (rv a0), some (iv x1), some (iv x2), some (iv (-1 : Int32))]) dX8_readOne_61 rfl (Nat.le_of_ble_eq_true rfl) rfl ?_
          refine mx_aload_n dX8_readOne_62 rfl rfl ?_
          refine mx_get 8 48 (ref := "PrairiePoolModel") cl_8 (Nat.le_of_ble_eq_true rfl) (Or.inl q1675) (Or.inl rfl) dX8_readOne_63 (fv_8_48 _ _) (ly8_k La0_h1) ?_
          refine mx_if_ne (tgt := 77) dX8_readOne_66 rfl (fun c15 => ?_) (fun c15 => ?_)
          · have H := H.1 c15
            exact mx_weak (al' := [some (rv a0), some (iv x1), some (iv x2), some (iv (-1 : Int32))]) ⟨rfl, ⟨rfl, ⟨rfl, ⟨rfl, trivial⟩⟩⟩⟩ H
          · have H := H.2 c15
            refine mx_iload_n dX8_readOne_69 rfl rfl ?_
            refine mx_if_ge (tgt := 77) dX8_readOne_70 rfl (fun _ => absurd ‹_› (by decide)) (fun _ => ?_)
            refine mx_aload_n dX8_readOne_73 rfl rfl ?_
            refine mx_callV 8 (y' := mi_X8_wrong) (vs := []) (st := []) (al' := [some (rv a0)]) cl_8 V_X8_wrong (Or.inl q2239) dX8_readOne_74 rfl rfl (Nat.le_of_ble_eq_true rfl) (Nat.le_of_ble_eq_true rfl) (ly8_k La0_h1) ?_
            refine mx_aload_n dX8_wrong_0 rfl rfl ?_
            refine mx_aload_n dX8_wrong_1 rfl rfl ?_
            refine mx_get 8 50 (ref := "PrairiePoolModel") cl_8 (Nat.le_of_ble_eq_true rfl) (Or.inl q1677) (Or.inl rfl) dX8_wrong_2 (fv_8_50 _ _) (ly8_k La0_h1) ?_
            refine mx_iconst dX8_wrong_5 ic_4 ?_
            refine mx_icmp_ne (tgt := 13) dX8_wrong_6 rfl (fun c16 => ?_) (fun c16 => ?_)
            · have H := H.1 c16
              refine mx_iconst dX8_wrong_13 ic_2 ?_
              refine mx_aload_n dX8_wrong_14 rfl rfl ?_
              refine mx_get 8 51 (ref := "PrairiePoolModel") cl_8 (Nat.le_of_ble_eq_true rfl) (Or.inl q1678) (Or.inl rfl) dX8_wrong_15 (fv_8_51 _ _) (ly8_k La0_h1) ?_
              refine mx_callV 8 (y' := mi_X8_fail) (vs := [iv (2 : Int32), iv (ah_I h1 a0 51)]) (st := []) (al' := [some (rv a0), some (iv (2 : Int32)), some (iv (ah_I h1 a0 51))]) cl_8 V_X8_fail (Or.inl q2243) dX8_wrong_18 rfl rfl (Nat.le_of_ble_eq_true rfl) (Nat.le_of_ble_eq_true rfl) (ly8_k La0_h1) ?_
              refine mx_aload_n dX8_fail_0 rfl rfl ?_
              refine mx_get 8 48 (ref := "PrairiePoolModel") cl_8 (Nat.le_of_ble_eq_true rfl) (Or.inl q1675) (Or.inl rfl) dX8_fail_1 (fv_8_48 _ _) (ly8_k La0_h1) ?_
              refine mx_if_le (tgt := 8) dX8_fail_4 rfl (fun c17 => ?_) (fun c17 => ?_)
              · have H := H.1 c17
                refine mx_aload_n dX8_fail_8 rfl rfl ?_
                refine mx_iload_n dX8_fail_9 rfl rfl ?_
                refine mx_putI 8 48 (ref := "PrairiePoolModel") cl_8 (Nat.le_of_ble_eq_true rfl) (Or.inl q1675) (Or.inl rfl) dX8_fail_10 (Or.inl rfl) rfl (ly8_k La0_h1) ?_
                refine mx_nmI  (fun h18 eh18 Xh18 Kh18 Lh18 => ?_)
                have H := H h18 eh18 Xh18
                have La0_h18 := La0_h1.ext Xh18
                refine mx_aload_n dX8_fail_13 rfl rfl ?_
                refine mx_iload_n dX8_fail_14 rfl rfl ?_
                refine mx_putI 8 49 (ref := "PrairiePoolModel") cl_8 (Nat.le_of_ble_eq_true rfl) (Or.inl q1676) (Or.inl rfl) dX8_fail_15 (Or.inl rfl) rfl (ly8_k La0_h18) ?_
                refine mx_nmI  (fun h19 eh19 Xh19 Kh19 Lh19 => ?_)
                have H := H h19 eh19 Xh19
                have Kh19 := Kh19.trans Kh18
                have Lh19 := Lh19.trans Lh18
                have La0_h19 := La0_h18.ext Xh19
                refine mx_vretK rfl dX8_fail_18 ?_
                refine mx_vretK rfl dX8_wrong_21 ?_
                exact mx_weak (al' := [some (rv a0), some (iv x1), some (iv x2), some (iv (-1 : Int32))]) ⟨rfl, ⟨rfl, ⟨rfl, ⟨rfl, trivial⟩⟩⟩⟩ H
              · have H := H.2 c17
                refine mx_vretK rfl dX8_fail_7 ?_
                refine mx_vretK rfl dX8_wrong_21 ?_
                exact mx_weak (al' := [some (rv a0), some (iv x1), some (iv x2), some (iv (-1 : Int32))]) ⟨rfl, ⟨rfl, ⟨rfl, ⟨rfl, trivial⟩⟩⟩⟩ H
            · have H := H.2 c16
              refine mx_iconst dX8_wrong_9 ic_1 ?_
              refine mx_goto (tgt := 14) dX8_wrong_10 rfl ?_
              refine mx_aload_n dX8_wrong_14 rfl rfl ?_
              refine mx_get 8 51 (ref := "PrairiePoolModel") cl_8 (Nat.le_of_ble_eq_true rfl) (Or.inl q1678) (Or.inl rfl) dX8_wrong_15 (fv_8_51 _ _) (ly8_k La0_h1) ?_
              refine mx_callV 8 (y' := mi_X8_fail) (vs := [iv (1 : Int32), iv (ah_I h1 a0 51)]) (st := []) (al' := [some (rv a0), some (iv (1 : Int32)), some (iv (ah_I h1 a0 51))]) cl_8 V_X8_fail (Or.inl q2243) dX8_wrong_18 rfl rfl (Nat.le_of_ble_eq_true rfl) (Nat.le_of_ble_eq_true rfl) (ly8_k La0_h1) ?_
              refine mx_aload_n dX8_fail_0 rfl rfl ?_
              refine mx_get 8 48 (ref := "PrairiePoolModel") cl_8 (Nat.le_of_ble_eq_true rfl) (Or.inl q1675) (Or.inl rfl) dX8_fail_1 (fv_8_48 _ _) (ly8_k La0_h1) ?_
              refine mx_if_le (tgt := 8) dX8_fail_4 rfl (fun c20 => ?_) (fun c20 => ?_)
              · have H := H.1 c20
                refine mx_aload_n dX8_fail_8 rfl rfl ?_
                refine mx_iload_n dX8_fail_9 rfl rfl ?_
                refine mx_putI 8 48 (ref := "PrairiePoolModel") cl_8 (Nat.le_of_ble_eq_true rfl) (Or.inl q1675) (Or.inl rfl) dX8_fail_10 (Or.inl rfl) rfl (ly8_k La0_h1) ?_
                refine mx_nmI  (fun h21 eh21 Xh21 Kh21 Lh21 => ?_)
                have H := H h21 eh21 Xh21
                have La0_h21 := La0_h1.ext Xh21
                refine mx_aload_n dX8_fail_13 rfl rfl ?_
                refine mx_iload_n dX8_fail_14 rfl rfl ?_
                refine mx_putI 8 49 (ref := "PrairiePoolModel") cl_8 (Nat.le_of_ble_eq_true rfl) (Or.inl q1676) (Or.inl rfl) dX8_fail_15 (Or.inl rfl) rfl (ly8_k La0_h21) ?_
                refine mx_nmI  (fun h22 eh22 Xh22 Kh22 Lh22 => ?_)
                have H := H h22 eh22 Xh22
                have Kh22 := Kh22.trans Kh21
                have Lh22 := Lh22.trans Lh21
                have La0_h22 := La0_h21.ext Xh22
                refine mx_vretK rfl dX8_fail_18 ?_
                refine mx_vretK rfl dX8_wrong_21 ?_
                exact mx_weak (al' := [some (rv a0), some (iv x1), some (iv x2), some (iv (-1 : Int32))]) ⟨rfl, ⟨rfl, ⟨rfl, ⟨rfl, trivial⟩⟩⟩⟩ H
              · have H := H.2 c20
                refine mx_vretK rfl dX8_fail_7 ?_
                refine mx_vretK rfl dX8_wrong_21 ?_
                exact mx_weak (al' := [some (rv a0), some (iv x1), some (iv x2), some (iv (-1 : Int32))]) ⟨rfl, ⟨rfl, ⟨rfl, ⟨rfl, trivial⟩⟩⟩⟩ H
        · have H := H.2 c14
          refine mx_iconst dX8_isSign_16 ic_1 ?_
          refine mx_goto (tgt := 21) dX8_isSign_17 rfl ?_
          refine mx_zretK rfl dX8_isSign_21 (Or.inr rfl) ?_
          refine mx_if_eq (tgt := 60) dX8_readOne_52 rfl (fun _ => absurd ‹_› (by decide)) (fun _ => ?_)
          refine mx_bipush dX8_readOne_55 ib_12 ?_
          refine mx_goto (tgt := 61) dX8_readOne_57 rfl ?_
          refine mx_istore_n (al' := [some (rv a0), some (iv x1), some (iv x2), some (iv (12 : Int32))]) dX8_readOne_61 rfl (Nat.le_of_ble_eq_true rfl) rfl ?_
          refine mx_aload_n dX8_readOne_62 rfl rfl ?_
          refine mx_get 8 48 (ref := "PrairiePoolModel") cl_8 (Nat.le_of_ble_eq_true rfl) (Or.inl q1675) (Or.inl rfl) dX8_readOne_63 (fv_8_48 _ _) (ly8_k La0_h1) ?_
          refine mx_if_ne (tgt := 77) dX8_readOne_66 rfl (fun c23 => ?_) (fun c23 => ?_)
          · have H := H.1 c23
            exact mx_weak (al' := [some (rv a0), some (iv x1), some (iv x2), some (iv (12 : Int32))]) ⟨rfl, ⟨rfl, ⟨rfl, ⟨rfl, trivial⟩⟩⟩⟩ H
          · have H := H.2 c23
            refine mx_iload_n dX8_readOne_69 rfl rfl ?_
            refine mx_if_ge (tgt := 77) dX8_readOne_70 rfl (fun _ => ?_) (fun _ => absurd ‹_› (by decide))
            exact mx_weak (al' := [some (rv a0), some (iv x1), some (iv x2), some (iv (12 : Int32))]) ⟨rfl, ⟨rfl, ⟨rfl, ⟨rfl, trivial⟩⟩⟩⟩ H
      · have H := H.2 c13
        refine mx_iconst dX8_isSign_16 ic_1 ?_
        refine mx_goto (tgt := 21) dX8_isSign_17 rfl ?_
        refine mx_zretK rfl dX8_isSign_21 (Or.inr rfl) ?_
        refine mx_if_eq (tgt := 46) dX8_readOne_38 rfl (fun _ => absurd ‹_› (by decide)) (fun _ => ?_)
        refine mx_bipush dX8_readOne_41 ib_11 ?_
        refine mx_goto (tgt := 61) dX8_readOne_43 rfl ?_
        refine mx_istore_n (al' := [some (rv a0), some (iv x1), some (iv x2), some (iv (11 : Int32))]) dX8_readOne_61 rfl (Nat.le_of_ble_eq_true rfl) rfl ?_
        refine mx_aload_n dX8_readOne_62 rfl rfl ?_
        refine mx_get 8 48 (ref := "PrairiePoolModel") cl_8 (Nat.le_of_ble_eq_true rfl) (Or.inl q1675) (Or.inl rfl) dX8_readOne_63 (fv_8_48 _ _) (ly8_k La0_h1) ?_
        refine mx_if_ne (tgt := 77) dX8_readOne_66 rfl (fun c24 => ?_) (fun c24 => ?_)
        · have H := H.1 c24
          exact mx_weak (al' := [some (rv a0), some (iv x1), some (iv x2), some (iv (11 : Int32))]) ⟨rfl, ⟨rfl, ⟨rfl, ⟨rfl, trivial⟩⟩⟩⟩ H
        · have H := H.2 c24
          refine mx_iload_n dX8_readOne_69 rfl rfl ?_
          refine mx_if_ge (tgt := 77) dX8_readOne_70 rfl (fun _ => ?_) (fun _ => absurd ‹_› (by decide))
          exact mx_weak (al' := [some (rv a0), some (iv x1), some (iv x2), some (iv (11 : Int32))]) ⟨rfl, ⟨rfl, ⟨rfl, ⟨rfl, trivial⟩⟩⟩⟩ H
    · have H := H.2 c12
      refine mx_iconst dX8_isSign_16 ic_1 ?_
      refine mx_goto (tgt := 21) dX8_isSign_17 rfl ?_
      refine mx_zretK rfl dX8_isSign_21 (Or.inr rfl) ?_
      refine mx_if_eq (tgt := 32) dX8_readOne_24 rfl (fun _ => absurd ‹_› (by decide)) (fun _ => ?_)
      refine mx_bipush dX8_readOne_27 ib_10 ?_
      refine mx_goto (tgt := 61) dX8_readOne_29 rfl ?_
      refine mx_istore_n (al' := [some (rv a0), some (iv x1), some (iv x2), some (iv (10 : Int32))]) dX8_readOne_61 rfl (Nat.le_of_ble_eq_true rfl) rfl ?_
      refine mx_aload_n dX8_readOne_62 rfl rfl ?_
      refine mx_get 8 48 (ref := "PrairiePoolModel") cl_8 (Nat.le_of_ble_eq_true rfl) (Or.inl q1675) (Or.inl rfl) dX8_readOne_63 (fv_8_48 _ _) (ly8_k La0_h1) ?_
      refine mx_if_ne (tgt := 77) dX8_readOne_66 rfl (fun c25 => ?_) (fun c25 => ?_)
      · have H := H.1 c25
        exact mx_weak (al' := [some (rv a0), some (iv x1), some (iv x2), some (iv (10 : Int32))]) ⟨rfl, ⟨rfl, ⟨rfl, ⟨rfl, trivial⟩⟩⟩⟩ H
      · have H := H.2 c25
        refine mx_iload_n dX8_readOne_69 rfl rfl ?_
        refine mx_if_ge (tgt := 77) dX8_readOne_70 rfl (fun _ => ?_) (fun _ => absurd ‹_› (by decide))
        exact mx_weak (al' := [some (rv a0), some (iv x1), some (iv x2), some (iv (10 : Int32))]) ⟨rfl, ⟨rfl, ⟨rfl, ⟨rfl, trivial⟩⟩⟩⟩ H
theorem v_X8_readOne_77 {G : ma_G} {d : Nat} {a0 : Nat} {x1 : Int32} {x2 : Int32} {x3 : Int32} {h : ah_T} {Q : Option ma_V → ah_T → Prop} {E : Nat → ah_T → Prop} (La0_h : LY8 h a0) (H : ((ah_I h a0 48) ≤ 0 → MX G mi_X8_next (d + 1) 0 [some (rv a0), none] [] h (Qv fun h2 => ah_ext h h2 → MX G mi_X8_readSum (d + 1) 0 [some (rv a0), some (iv x1), none] [] h2 (Qv fun h4 => ah_ext h2 h4 → (x2 = 0 → vp_in (ah_I h4 a0 58) 1100 ∧ ∀ h8 : ah_T, h8 = ah_wI h4 (a0 + 41) (ah_I h4 a0 58).toNatClampNeg (((1048576 : Int32) * x3) + (0 : Int32)) → ah_ext h4 h8 → ∀ h9 : ah_T, h9 = ah_wI h8 a0 58 ((ah_I h4 a0 58) + (1 : Int32)) → ah_ext h8 h9 → Q none h9) ∧ (¬ x2 = 0 → vp_in (ah_I h4 a0 58) 1100 ∧ ∀ h11 : ah_T, h11 = ah_wI h4 (a0 + 41) (ah_I h4 a0 58).toNatClampNeg (((1048576 : Int32) * x3) + (1 : Int32)) → ah_ext h4 h11 → ∀ h12 : ah_T, h12 = ah_wI h11 a0 58 ((ah_I h4 a0 58) + (1 : Int32)) → ah_ext h11 h12 → Q none h12)) E) E) ∧ (¬ (ah_I h a0 48) ≤ 0 → Q none h)) : MX G mi_X8_readOne (d + 2) 77 [some (rv a0), some (iv x1), some (iv x2), some (iv x3)] [] h Q E := by
  refine mx_aload_n dX8_readOne_77 rfl rfl ?_
  refine mx_get 8 48 (ref := "PrairiePoolModel") cl_8 (Nat.le_of_ble_eq_true rfl) (Or.inl q1675) (Or.inl rfl) dX8_readOne_78 (fv_8_48 _ _) (ly8_k La0_h) ?_
  refine mx_if_le (tgt := 85) dX8_readOne_81 rfl (fun c1 => ?_) (fun c1 => ?_)
  · have H := H.1 c1
    refine mx_aload_n dX8_readOne_85 rfl rfl ?_
    refine mx_callV 8 (y' := mi_X8_next) (vs := []) (st := []) (al' := [some (rv a0), none]) cl_8 V_X8_next (Or.inl q2170) dX8_readOne_86 rfl rfl (Nat.le_of_ble_eq_true rfl) (Nat.le_of_ble_eq_true rfl) (ly8_k La0_h) ?_
    refine ma_kv H (fun h2 Xh2 H => ?_) (fun x1 h1 X1 H => mt_out rfl H)
    have H := H Xh2
    have La0_h2 := La0_h.ext Xh2
    refine mx_aload_n dX8_readOne_89 rfl rfl ?_
    refine mx_iload_n dX8_readOne_90 rfl rfl ?_
    refine mx_callV 8 (y' := mi_X8_readSum) (vs := [iv x1]) (st := []) (al' := [some (rv a0), some (iv x1), none]) cl_8 V_X8_readSum (Or.inl q2267) dX8_readOne_91 rfl rfl (Nat.le_of_ble_eq_true rfl) (Nat.le_of_ble_eq_true rfl) (ly8_k La0_h2) ?_
    refine ma_kv H (fun h4 Xh4 H => ?_) (fun x1 h1 X1 H => mt_out rfl H)
    have H := H Xh4
    have La0_h4 := La0_h2.ext Xh4
    refine mx_aload_n dX8_readOne_94 rfl rfl ?_
    refine mx_iload_n dX8_readOne_95 rfl rfl ?_
    refine mx_iload_n dX8_readOne_96 rfl rfl ?_
    refine mx_if_eq (tgt := 104) dX8_readOne_97 rfl (fun c6 => ?_) (fun c6 => ?_)
    · have H := H.1 c6
      refine mx_iconst dX8_readOne_104 ic_0 ?_
      refine mx_callV 8 (y' := mi_X8_mark) (vs := [iv x3, iv (0 : Int32)]) (st := []) (al' := [some (rv a0), some (iv x3), some (iv (0 : Int32))]) cl_8 V_X8_mark (Or.inl q2279) dX8_readOne_105 rfl rfl (Nat.le_of_ble_eq_true rfl) (Nat.le_of_ble_eq_true rfl) (ly8_k La0_h4) ?_
      refine mx_aload_n dX8_mark_0 rfl rfl ?_
      refine mx_get 8 64 (ref := "PrairiePoolModel") cl_8 (Nat.le_of_ble_eq_true rfl) (Or.inl q1691) (Or.inl rfl) dX8_mark_1 (fv_8_64 _ _) (ly8_k La0_h4) ?_
      refine mx_tr (ly8_R_0_64 La0_h4) ?_
      refine mx_aload_n dX8_mark_4 rfl rfl ?_
      refine mx_get 8 58 (ref := "PrairiePoolModel") cl_8 (Nat.le_of_ble_eq_true rfl) (Or.inl q1685) (Or.inl rfl) dX8_mark_5 (fv_8_58 _ _) (ly8_k La0_h4) ?_
      refine mx_ldcw q2096 dX8_mark_8 ?_
      refine mx_iload_n dX8_mark_11 rfl rfl ?_
      refine mx_imul dX8_mark_12 ?_
      refine mx_iload_n dX8_mark_13 rfl rfl ?_
      refine mx_iadd dX8_mark_14 ?_
      obtain ⟨k7, H⟩ := H
      refine my_iast dX8_mark_15 rfl (ly8_A_41 La0_h4 k7) ?_
      refine mx_nmI  (fun h8 eh8 Xh8 Kh8 Lh8 => ?_)
      have H := H h8 eh8 Xh8
      have La0_h8 := La0_h4.ext Xh8
      refine mx_aload_n dX8_mark_16 rfl rfl ?_
      refine mx_dup_r dX8_mark_17 ?_
      refine mx_get 8 58 (ref := "PrairiePoolModel") cl_8 (Nat.le_of_ble_eq_true rfl) (Or.inl q1685) (Or.inl rfl) dX8_mark_18 (fv_8_58 _ _) (ly8_k La0_h8) ?_
      refine mx_ti (ah_skIA eh8 (by omega)) ?_
      refine mx_iconst dX8_mark_21 ic_1 ?_
      refine mx_iadd dX8_mark_22 ?_
      refine mx_putI 8 58 (ref := "PrairiePoolModel") cl_8 (Nat.le_of_ble_eq_true rfl) (Or.inl q1685) (Or.inl rfl) dX8_mark_23 (Or.inl rfl) rfl (ly8_k La0_h8) ?_
      refine mx_nmI  (fun h9 eh9 Xh9 Kh9 Lh9 => ?_)
      have H := H h9 eh9 Xh9
      have Kh9 := Kh9.trans Kh8
      have Lh9 := Lh9.trans Lh8
      have La0_h9 := La0_h8.ext Xh9
      refine mx_vretK rfl dX8_mark_26 ?_
      exact mx_vret rfl dX8_readOne_108 H
    · have H := H.2 c6
      refine mx_iconst dX8_readOne_100 ic_1 ?_
      refine mx_goto (tgt := 105) dX8_readOne_101 rfl ?_
      refine mx_callV 8 (y' := mi_X8_mark) (vs := [iv x3, iv (1 : Int32)]) (st := []) (al' := [some (rv a0), some (iv x3), some (iv (1 : Int32))]) cl_8 V_X8_mark (Or.inl q2279) dX8_readOne_105 rfl rfl (Nat.le_of_ble_eq_true rfl) (Nat.le_of_ble_eq_true rfl) (ly8_k La0_h4) ?_
      refine mx_aload_n dX8_mark_0 rfl rfl ?_
      refine mx_get 8 64 (ref := "PrairiePoolModel") cl_8 (Nat.le_of_ble_eq_true rfl) (Or.inl q1691) (Or.inl rfl) dX8_mark_1 (fv_8_64 _ _) (ly8_k La0_h4) ?_
      refine mx_tr (ly8_R_0_64 La0_h4) ?_
      refine mx_aload_n dX8_mark_4 rfl rfl ?_
      refine mx_get 8 58 (ref := "PrairiePoolModel") cl_8 (Nat.le_of_ble_eq_true rfl) (Or.inl q1685) (Or.inl rfl) dX8_mark_5 (fv_8_58 _ _) (ly8_k La0_h4) ?_
      refine mx_ldcw q2096 dX8_mark_8 ?_
      refine mx_iload_n dX8_mark_11 rfl rfl ?_
      refine mx_imul dX8_mark_12 ?_
      refine mx_iload_n dX8_mark_13 rfl rfl ?_
      refine mx_iadd dX8_mark_14 ?_
      obtain ⟨k10, H⟩ := H
      refine my_iast dX8_mark_15 rfl (ly8_A_41 La0_h4 k10) ?_
      refine mx_nmI  (fun h11 eh11 Xh11 Kh11 Lh11 => ?_)
      have H := H h11 eh11 Xh11
      have La0_h11 := La0_h4.ext Xh11
      refine mx_aload_n dX8_mark_16 rfl rfl ?_
      refine mx_dup_r dX8_mark_17 ?_
      refine mx_get 8 58 (ref := "PrairiePoolModel") cl_8 (Nat.le_of_ble_eq_true rfl) (Or.inl q1685) (Or.inl rfl) dX8_mark_18 (fv_8_58 _ _) (ly8_k La0_h11) ?_
      refine mx_ti (ah_skIA eh11 (by omega)) ?_
      refine mx_iconst dX8_mark_21 ic_1 ?_
      refine mx_iadd dX8_mark_22 ?_
      refine mx_putI 8 58 (ref := "PrairiePoolModel") cl_8 (Nat.le_of_ble_eq_true rfl) (Or.inl q1685) (Or.inl rfl) dX8_mark_23 (Or.inl rfl) rfl (ly8_k La0_h11) ?_
      refine mx_nmI  (fun h12 eh12 Xh12 Kh12 Lh12 => ?_)
      have H := H h12 eh12 Xh12
      have Kh12 := Kh12.trans Kh11
      have Lh12 := Lh12.trans Lh11
      have La0_h12 := La0_h11.ext Xh12
      refine mx_vretK rfl dX8_mark_26 ?_
      exact mx_vret rfl dX8_readOne_108 H
  · have H := H.2 c1
    exact mx_vret rfl dX8_readOne_84 H
theorem dX8_fault_0 : decode mi_X8_fault.2.1 0 = .ok (.aload_n 0, 1) := by decide +kernel
theorem dX8_fault_1 : decode mi_X8_fault.2.1 1 = .ok (.iconst 0, 1) := by decide +kernel
theorem dX8_fault_2 : decode mi_X8_fault.2.1 2 = .ok (.putfield 257, 3) := by decide +kernel
theorem dX8_fault_5 : decode mi_X8_fault.2.1 5 = .ok (.iload_n 1, 1) := by decide +kernel
theorem dX8_fault_6 : decode mi_X8_fault.2.1 6 = .ok (.ifCond .ne 10, 3) := by decide +kernel
theorem dX8_fault_9 : decode mi_X8_fault.2.1 9 = .ok (.aload_n 0, 1) := by decide +kernel
theorem dX8_fault_10 : decode mi_X8_fault.2.1 10 = .ok (.getfield 117, 3) := by decide +kernel
theorem dX8_fault_13 : decode mi_X8_fault.2.1 13 = .ok (.goto 16, 3) := by decide +kernel
theorem dX8_fault_16 : decode mi_X8_fault.2.1 16 = .ok (.iload_n 1, 1) := by decide +kernel
theorem dX8_fault_17 : decode mi_X8_fault.2.1 17 = .ok (.iconst 1, 1) := by decide +kernel
theorem dX8_fault_18 : decode mi_X8_fault.2.1 18 = .ok (.if_icmp .ne 10, 3) := by decide +kernel
theorem dX8_fault_21 : decode mi_X8_fault.2.1 21 = .ok (.aload_n 0, 1) := by decide +kernel
theorem dX8_fault_22 : decode mi_X8_fault.2.1 22 = .ok (.getfield 121, 3) := by decide +kernel
theorem dX8_fault_25 : decode mi_X8_fault.2.1 25 = .ok (.goto 4, 3) := by decide +kernel
theorem dX8_fault_28 : decode mi_X8_fault.2.1 28 = .ok (.iconst (-1), 1) := by decide +kernel
theorem dX8_fault_29 : decode mi_X8_fault.2.1 29 = .ok (.ireturn, 1) := by decide +kernel
theorem v_X8_fault {G : ma_G} {d : Nat} {a0 : Nat} {x1 : Int32} {h : ah_T} {Q : Option ma_V → ah_T → Prop} {E : Nat → ah_T → Prop} (La0_h : LY8 h a0) (H : ∀ h1 : ah_T, h1 = ah_wI h a0 1 (0 : Int32) → ah_ext h h1 → (¬ x1 = 0 → (¬ x1 = (1 : Int32) → Q (some (iv (-1 : Int32))) h1) ∧ (x1 = (1 : Int32) → Q (some (iv (ah_I h a0 47))) h1)) ∧ (x1 = 0 → Q (some (iv (ah_I h a0 46))) h1)) : MX G mi_X8_fault d 0 [some (rv a0), some (iv x1)] [] h Q E := by
  refine mx_aload_n dX8_fault_0 rfl rfl ?_
  refine mx_iconst dX8_fault_1 ic_0 ?_
  refine mx_putI 8 1 (ref := "PrairiePoolModel") cl_8 (Nat.le_of_ble_eq_true rfl) (Or.inl q1628) (Or.inl rfl) dX8_fault_2 (Or.inl rfl) rfl (ly8_k La0_h) ?_
  refine mx_nmI  (fun h1 eh1 Xh1 Kh1 Lh1 => ?_)
  have H := H h1 eh1 Xh1
  have La0_h1 := La0_h.ext Xh1
  refine mx_iload_n dX8_fault_5 rfl rfl ?_
  refine mx_if_ne (tgt := 16) dX8_fault_6 rfl (fun c2 => ?_) (fun c2 => ?_)
  · have H := H.1 c2
    refine mx_iload_n dX8_fault_16 rfl rfl ?_
    refine mx_iconst dX8_fault_17 ic_1 ?_
    refine mx_icmp_ne (tgt := 28) dX8_fault_18 rfl (fun c3 => ?_) (fun c3 => ?_)
    · have H := H.1 c3
      refine mx_iconst dX8_fault_28 ic_m1 ?_
      exact mx_iret rfl dX8_fault_29 H
    · have H := H.2 c3
      refine mx_aload_n dX8_fault_21 rfl rfl ?_
      refine mx_get 8 47 (ref := "PrairiePoolModel") cl_8 (Nat.le_of_ble_eq_true rfl) (Or.inl q1674) (Or.inl rfl) dX8_fault_22 (fv_8_47 _ _) (ly8_k La0_h1) ?_
      refine mx_ti (ah_skIK eh1 (by decide)) ?_
      refine mx_goto (tgt := 29) dX8_fault_25 rfl ?_
      exact mx_iret rfl dX8_fault_29 H
  · have H := H.2 c2
    refine mx_aload_n dX8_fault_9 rfl rfl ?_
    refine mx_get 8 46 (ref := "PrairiePoolModel") cl_8 (Nat.le_of_ble_eq_true rfl) (Or.inl q1673) (Or.inl rfl) dX8_fault_10 (fv_8_46 _ _) (ly8_k La0_h1) ?_
    refine mx_ti (ah_skIK eh1 (by decide)) ?_
    refine mx_goto (tgt := 29) dX8_fault_13 rfl ?_
    exact mx_iret rfl dX8_fault_29 H
theorem dX8_paid_0 : decode mi_X8_paid.2.1 0 = .ok (.aload_n 0, 1) := by decide +kernel
theorem dX8_paid_1 : decode mi_X8_paid.2.1 1 = .ok (.iconst 0, 1) := by decide +kernel
theorem dX8_paid_2 : decode mi_X8_paid.2.1 2 = .ok (.putfield 257, 3) := by decide +kernel
theorem dX8_paid_5 : decode mi_X8_paid.2.1 5 = .ok (.aload_n 0, 1) := by decide +kernel
theorem dX8_paid_6 : decode mi_X8_paid.2.1 6 = .ok (.iconst 0, 1) := by decide +kernel
theorem dX8_paid_7 : decode mi_X8_paid.2.1 7 = .ok (.putfield 260, 3) := by decide +kernel
theorem dX8_paid_10 : decode mi_X8_paid.2.1 10 = .ok (.iload_n 2, 1) := by decide +kernel
theorem dX8_paid_11 : decode mi_X8_paid.2.1 11 = .ok (.invokestatic 332, 3) := by decide +kernel
theorem dX8_paid_14 : decode mi_X8_paid.2.1 14 = .ok (.ifCond .ne 10, 3) := by decide +kernel
theorem dX8_paid_17 : decode mi_X8_paid.2.1 17 = .ok (.aload_n 0, 1) := by decide +kernel
theorem dX8_paid_18 : decode mi_X8_paid.2.1 18 = .ok (.iconst 2, 1) := by decide +kernel
theorem dX8_paid_19 : decode mi_X8_paid.2.1 19 = .ok (.invokevirtual 297, 3) := by decide +kernel
theorem dX8_paid_22 : decode mi_X8_paid.2.1 22 = .ok (.i2l, 1) := by decide +kernel
theorem dX8_paid_23 : decode mi_X8_paid.2.1 23 = .ok (.lreturn, 1) := by decide +kernel
theorem dX8_paid_24 : decode mi_X8_paid.2.1 24 = .ok (.iload_n 1, 1) := by decide +kernel
theorem dX8_paid_25 : decode mi_X8_paid.2.1 25 = .ok (.invokestatic 335, 3) := by decide +kernel
theorem dX8_paid_28 : decode mi_X8_paid.2.1 28 = .ok (.ifCond .eq 23, 3) := by decide +kernel
theorem dX8_paid_31 : decode mi_X8_paid.2.1 31 = .ok (.iload_n 3, 1) := by decide +kernel
theorem dX8_paid_32 : decode mi_X8_paid.2.1 32 = .ok (.i2l, 1) := by decide +kernel
theorem dX8_paid_33 : decode mi_X8_paid.2.1 33 = .ok (.lconst 0, 1) := by decide +kernel
theorem dX8_paid_34 : decode mi_X8_paid.2.1 34 = .ok (.ldc2_w 604, 3) := by decide +kernel
theorem dX8_paid_37 : decode mi_X8_paid.2.1 37 = .ok (.invokestatic 265, 3) := by decide +kernel
theorem dX8_paid_40 : decode mi_X8_paid.2.1 40 = .ok (.ifCond .eq 11, 3) := by decide +kernel
theorem dX8_paid_43 : decode mi_X8_paid.2.1 43 = .ok (.iload 4, 2) := by decide +kernel
theorem dX8_paid_45 : decode mi_X8_paid.2.1 45 = .ok (.invokestatic 306, 3) := by decide +kernel
theorem dX8_paid_48 : decode mi_X8_paid.2.1 48 = .ok (.ifCond .ne 10, 3) := by decide +kernel
theorem dX8_paid_51 : decode mi_X8_paid.2.1 51 = .ok (.aload_n 0, 1) := by decide +kernel
theorem dX8_paid_52 : decode mi_X8_paid.2.1 52 = .ok (.iconst 5, 1) := by decide +kernel
theorem dX8_paid_53 : decode mi_X8_paid.2.1 53 = .ok (.invokevirtual 297, 3) := by decide +kernel
theorem dX8_paid_56 : decode mi_X8_paid.2.1 56 = .ok (.i2l, 1) := by decide +kernel
theorem dX8_paid_57 : decode mi_X8_paid.2.1 57 = .ok (.lreturn, 1) := by decide +kernel
theorem dX8_paid_58 : decode mi_X8_paid.2.1 58 = .ok (.aload_n 0, 1) := by decide +kernel
theorem dX8_paid_59 : decode mi_X8_paid.2.1 59 = .ok (.iload 4, 2) := by decide +kernel
theorem dX8_paid_61 : decode mi_X8_paid.2.1 61 = .ok (.invokevirtual 403, 3) := by decide +kernel
theorem dX8_paid_64 : decode mi_X8_paid.2.1 64 = .ok (.iload_n 3, 1) := by decide +kernel
theorem dX8_paid_65 : decode mi_X8_paid.2.1 65 = .ok (.ifCond .ne 14, 3) := by decide +kernel
theorem dX8_paid_68 : decode mi_X8_paid.2.1 68 = .ok (.aload_n 0, 1) := by decide +kernel
theorem dX8_paid_69 : decode mi_X8_paid.2.1 69 = .ok (.iload_n 1, 1) := by decide +kernel
theorem dX8_paid_70 : decode mi_X8_paid.2.1 70 = .ok (.iload_n 2, 1) := by decide +kernel
theorem dX8_paid_71 : decode mi_X8_paid.2.1 71 = .ok (.iload 4, 2) := by decide +kernel
theorem dX8_paid_73 : decode mi_X8_paid.2.1 73 = .ok (.invokevirtual 596, 3) := by decide +kernel
theorem dX8_paid_76 : decode mi_X8_paid.2.1 76 = .ok (.goto 27, 3) := by decide +kernel
theorem dX8_paid_79 : decode mi_X8_paid.2.1 79 = .ok (.iload_n 3, 1) := by decide +kernel
theorem dX8_paid_80 : decode mi_X8_paid.2.1 80 = .ok (.iconst 1, 1) := by decide +kernel
theorem dX8_paid_81 : decode mi_X8_paid.2.1 81 = .ok (.if_icmp .ne 14, 3) := by decide +kernel
theorem dX8_paid_84 : decode mi_X8_paid.2.1 84 = .ok (.aload_n 0, 1) := by decide +kernel
theorem dX8_paid_85 : decode mi_X8_paid.2.1 85 = .ok (.iload_n 1, 1) := by decide +kernel
theorem dX8_paid_86 : decode mi_X8_paid.2.1 86 = .ok (.iload_n 2, 1) := by decide +kernel
theorem dX8_paid_87 : decode mi_X8_paid.2.1 87 = .ok (.iload 4, 2) := by decide +kernel
theorem dX8_paid_89 : decode mi_X8_paid.2.1 89 = .ok (.invokevirtual 606, 3) := by decide +kernel
theorem dX8_paid_92 : decode mi_X8_paid.2.1 92 = .ok (.goto 11, 3) := by decide +kernel
theorem dX8_paid_95 : decode mi_X8_paid.2.1 95 = .ok (.aload_n 0, 1) := by decide +kernel
theorem dX8_paid_96 : decode mi_X8_paid.2.1 96 = .ok (.iload_n 1, 1) := by decide +kernel
theorem dX8_paid_97 : decode mi_X8_paid.2.1 97 = .ok (.iload_n 2, 1) := by decide +kernel
theorem dX8_paid_98 : decode mi_X8_paid.2.1 98 = .ok (.iload 4, 2) := by decide +kernel
theorem dX8_paid_100 : decode mi_X8_paid.2.1 100 = .ok (.invokevirtual 609, 3) := by decide +kernel
theorem dX8_paid_103 : decode mi_X8_paid.2.1 103 = .ok (.lreturn, 1) := by decide +kernel
theorem v_X8_paid {G : ma_G} {d : Nat} {a0 : Nat} {x1 : Int32} {x2 : Int32} {x3 : Int32} {x4 : Int32} {h : ah_T} {Q : Option ma_V → ah_T → Prop} {E : Nat → ah_T → Prop} (La0_h : LY8 h a0) (H : ∀ h1 : ah_T, h1 = ah_wI h a0 1 (0 : Int32) → ah_ext h h1 → ∀ h2 : ah_T, h2 = ah_wI h1 a0 0 (0 : Int32) → ah_ext h1 h2 → (x2.toInt64 < (0 : Int64) → ∀ h4 : ah_T, h4 = ah_wI h2 a0 0 (2 : Int32) → ah_ext h2 h4 → Q (some (jv (-1 : Int32).toInt64)) h4) ∧ (¬ x2.toInt64 < (0 : Int64) → ((5 : Int64) < x2.toInt64 → ∀ h6 : ah_T, h6 = ah_wI h2 a0 0 (2 : Int32) → ah_ext h2 h6 → Q (some (jv (-1 : Int32).toInt64)) h6) ∧ (¬ (5 : Int64) < x2.toInt64 → (x1.toInt64 < (0 : Int64) → ∀ h8 : ah_T, h8 = ah_wI h2 a0 0 (5 : Int32) → ah_ext h2 h8 → Q (some (jv (-1 : Int32).toInt64)) h8) ∧ (¬ x1.toInt64 < (0 : Int64) → ((9 : Int64) < x1.toInt64 → ∀ h10 : ah_T, h10 = ah_wI h2 a0 0 (5 : Int32) → ah_ext h2 h10 → Q (some (jv (-1 : Int32).toInt64)) h10) ∧ (¬ (9 : Int64) < x1.toInt64 → (x3.toInt64 < (0 : Int64) → ∀ h12 : ah_T, h12 = ah_wI h2 a0 0 (5 : Int32) → ah_ext h2 h12 → Q (some (jv (-1 : Int32).toInt64)) h12) ∧ (¬ x3.toInt64 < (0 : Int64) → ((2 : Int64) < x3.toInt64 → ∀ h14 : ah_T, h14 = ah_wI h2 a0 0 (5 : Int32) → ah_ext h2 h14 → Q (some (jv (-1 : Int32).toInt64)) h14) ∧ (¬ (2 : Int64) < x3.toInt64 → (x4.toInt64 < (0 : Int64) → ∀ h16 : ah_T, h16 = ah_wI h2 a0 0 (5 : Int32) → ah_ext h2 h16 → Q (some (jv (-1 : Int32).toInt64)) h16) ∧ (¬ x4.toInt64 < (0 : Int64) → ((519 : Int64) < x4.toInt64 → ∀ h18 : ah_T, h18 = ah_wI h2 a0 0 (5 : Int32) → ah_ext h2 h18 → Q (some (jv (-1 : Int32).toInt64)) h18) ∧ (¬ (519 : Int64) < x4.toInt64 → MX G mi_X8_play (d + 1) 0 [some (rv a0), some (iv x4), none] [] h2 (Qv fun h19 => ah_ext h2 h19 → (¬ x3 = 0 → (¬ x3 = (1 : Int32) → MX G mi_X8_bring (d + 1) 0 [some (rv a0), some (iv x1), some (iv x2), some (iv x4), none, none, none] [] h19 (Ql fun r24 h23 => ah_ext h19 h23 → Q (some (jv r24)) h23) E) ∧ (x3 = (1 : Int32) → MX G mi_X8_kept (d + 1) 0 [some (rv a0), some (iv x1), some (iv x2), some (iv x4)] [] h19 (Ql fun r26 h25 => ah_ext h19 h25 → Q (some (jv r26)) h25) E)) ∧ (x3 = 0 → MX G mi_X8_came (d + 1) 0 [some (rv a0), some (iv x1), some (iv x2), some (iv x4), none, none, none] [] h19 (Ql fun r28 h27 => ah_ext h19 h27 → Q (some (jv r28)) h27) E)) E))))))))) : MX G mi_X8_paid (d + 2) 0 [some (rv a0), some (iv x1), some (iv x2), some (iv x3), some (iv x4)] [] h Q E := by
  refine mx_aload_n dX8_paid_0 rfl rfl ?_
  refine mx_iconst dX8_paid_1 ic_0 ?_
  refine mx_putI 8 1 (ref := "PrairiePoolModel") cl_8 (Nat.le_of_ble_eq_true rfl) (Or.inl q1628) (Or.inl rfl) dX8_paid_2 (Or.inl rfl) rfl (ly8_k La0_h) ?_
  refine mx_nmI  (fun h1 eh1 Xh1 Kh1 Lh1 => ?_)
  have H := H h1 eh1 Xh1
  have La0_h1 := La0_h.ext Xh1
  refine mx_aload_n dX8_paid_5 rfl rfl ?_
  refine mx_iconst dX8_paid_6 ic_0 ?_
  refine mx_putI 8 0 (ref := "PrairiePoolModel") cl_8 (Nat.le_of_ble_eq_true rfl) (Or.inl q1627) (Or.inl rfl) dX8_paid_7 (Or.inl rfl) rfl (ly8_k La0_h1) ?_
  refine mx_nmI  (fun h2 eh2 Xh2 Kh2 Lh2 => ?_)
  have H := H h2 eh2 Xh2
  have Kh2 := Kh2.trans Kh1
  have Lh2 := Lh2.trans Lh1
  have La0_h2 := La0_h1.ext Xh2
  refine mx_iload_n dX8_paid_10 rfl rfl ?_
  refine mx_callS (y' := mi_X8_isGrade) (vs := [iv x2]) (st := []) (al' := [some (iv x2)]) S_X8_isGrade q2036 dX8_paid_11 rfl rfl (Nat.le_of_ble_eq_true rfl) (Nat.le_of_ble_eq_true rfl) ?_
  refine mx_iload_n dX8_isGrade_0 rfl rfl ?_
  refine mx_i2l dX8_isGrade_1 ?_
  refine mx_lconst dX8_isGrade_2 lc_0 ?_
  refine mx_ldc2 q1995 dX8_isGrade_3 ?_
  refine mx_callS (y' := mi_X8_isIn) (vs := [jv x2.toInt64, jv (0 : Int64), jv (5 : Int64)]) (st := []) (al' := [some (jv x2.toInt64), none, some (jv (0 : Int64)), none, some (jv (5 : Int64)), none]) S_X8_isIn q1996 dX8_isGrade_6 rfl rfl (Nat.le_of_ble_eq_true rfl) (Nat.le_of_ble_eq_true rfl) ?_
  refine mx_lload_n dX8_isIn_0 rfl rfl ?_
  refine mx_lload_n dX8_isIn_1 rfl rfl ?_
  refine mx_lif_lt (tgt := 17) dX8_isIn_2 dX8_isIn_3 rfl (fun c3 => ?_) (fun c3 => ?_)
  · have H := H.1 c3
    refine mx_iconst dX8_isIn_17 ic_0 ?_
    refine mx_zretK rfl dX8_isIn_18 (Or.inl rfl) ?_
    refine mx_zretK rfl dX8_isGrade_9 (Or.inl rfl) ?_
    refine mx_if_ne (tgt := 24) dX8_paid_14 rfl (fun _ => absurd ‹_› (by decide)) (fun _ => ?_)
    refine mx_aload_n dX8_paid_17 rfl rfl ?_
    refine mx_iconst dX8_paid_18 ic_2 ?_
    refine mx_callV 8 (y' := mi_X8_refuse) (vs := [iv (2 : Int32)]) (st := []) (al' := [some (rv a0), some (iv (2 : Int32))]) cl_8 V_X8_refuse (Or.inl q1999) dX8_paid_19 rfl rfl (Nat.le_of_ble_eq_true rfl) (Nat.le_of_ble_eq_true rfl) (ly8_k La0_h2) ?_
    refine mx_aload_n dX8_refuse_0 rfl rfl ?_
    refine mx_iload_n dX8_refuse_1 rfl rfl ?_
    refine mx_putI 8 0 (ref := "PrairiePoolModel") cl_8 (Nat.le_of_ble_eq_true rfl) (Or.inl q1627) (Or.inl rfl) dX8_refuse_2 (Or.inl rfl) rfl (ly8_k La0_h2) ?_
    refine mx_nmI  (fun h4 eh4 Xh4 Kh4 Lh4 => ?_)
    have H := H h4 eh4 Xh4
    have Kh4 := Kh4.trans Kh2
    have Lh4 := Lh4.trans Lh2
    have La0_h4 := La0_h2.ext Xh4
    refine mx_iconst dX8_refuse_5 ic_m1 ?_
    refine mx_iretK rfl dX8_refuse_6 ?_
    refine mx_i2l dX8_paid_22 ?_
    exact mx_lret rfl dX8_paid_23 H
  · have H := H.2 c3
    refine mx_lload_n dX8_isIn_6 rfl rfl ?_
    refine mx_lload dX8_isIn_7 rfl ?_
    refine mx_lif_gt (tgt := 17) dX8_isIn_9 dX8_isIn_10 rfl (fun c5 => ?_) (fun c5 => ?_)
    · have H := H.1 c5
      refine mx_iconst dX8_isIn_17 ic_0 ?_
      refine mx_zretK rfl dX8_isIn_18 (Or.inl rfl) ?_
      refine mx_zretK rfl dX8_isGrade_9 (Or.inl rfl) ?_
      refine mx_if_ne (tgt := 24) dX8_paid_14 rfl (fun _ => absurd ‹_› (by decide)) (fun _ => ?_)
      refine mx_aload_n dX8_paid_17 rfl rfl ?_
      refine mx_iconst dX8_paid_18 ic_2 ?_
      refine mx_callV 8 (y' := mi_X8_refuse) (vs := [iv (2 : Int32)]) (st := []) (al' := [some (rv a0), some (iv (2 : Int32))]) cl_8 V_X8_refuse (Or.inl q1999) dX8_paid_19 rfl rfl (Nat.le_of_ble_eq_true rfl) (Nat.le_of_ble_eq_true rfl) (ly8_k La0_h2) ?_
      refine mx_aload_n dX8_refuse_0 rfl rfl ?_
      refine mx_iload_n dX8_refuse_1 rfl rfl ?_
      refine mx_putI 8 0 (ref := "PrairiePoolModel") cl_8 (Nat.le_of_ble_eq_true rfl) (Or.inl q1627) (Or.inl rfl) dX8_refuse_2 (Or.inl rfl) rfl (ly8_k La0_h2) ?_
      refine mx_nmI  (fun h6 eh6 Xh6 Kh6 Lh6 => ?_)
      have H := H h6 eh6 Xh6
      have Kh6 := Kh6.trans Kh2
      have Lh6 := Lh6.trans Lh2
      have La0_h6 := La0_h2.ext Xh6
      refine mx_iconst dX8_refuse_5 ic_m1 ?_
      refine mx_iretK rfl dX8_refuse_6 ?_
      refine mx_i2l dX8_paid_22 ?_
      exact mx_lret rfl dX8_paid_23 H
    · have H := H.2 c5
      refine mx_iconst dX8_isIn_13 ic_1 ?_
      refine mx_goto (tgt := 18) dX8_isIn_14 rfl ?_
      refine mx_zretK rfl dX8_isIn_18 (Or.inr rfl) ?_
      refine mx_zretK rfl dX8_isGrade_9 (Or.inr rfl) ?_
      refine mx_if_ne (tgt := 24) dX8_paid_14 rfl (fun _ => ?_) (fun _ => absurd ‹_› (by decide))
      refine mx_iload_n dX8_paid_24 rfl rfl ?_
      refine mx_callS (y' := mi_X8_isYear) (vs := [iv x1]) (st := []) (al' := [some (iv x1)]) S_X8_isYear q2039 dX8_paid_25 rfl rfl (Nat.le_of_ble_eq_true rfl) (Nat.le_of_ble_eq_true rfl) ?_
      refine mx_iload_n dX8_isYear_0 rfl rfl ?_
      refine mx_i2l dX8_isYear_1 ?_
      refine mx_lconst dX8_isYear_2 lc_0 ?_
      refine mx_ldc2 q2042 dX8_isYear_3 ?_
      refine mx_callS (y' := mi_X8_isIn) (vs := [jv x1.toInt64, jv (0 : Int64), jv (9 : Int64)]) (st := []) (al' := [some (jv x1.toInt64), none, some (jv (0 : Int64)), none, some (jv (9 : Int64)), none]) S_X8_isIn q1996 dX8_isYear_6 rfl rfl (Nat.le_of_ble_eq_true rfl) (Nat.le_of_ble_eq_true rfl) ?_
      refine mx_lload_n dX8_isIn_0 rfl rfl ?_
      refine mx_lload_n dX8_isIn_1 rfl rfl ?_
      refine mx_lif_lt (tgt := 17) dX8_isIn_2 dX8_isIn_3 rfl (fun c7 => ?_) (fun c7 => ?_)
      · have H := H.1 c7
        refine mx_iconst dX8_isIn_17 ic_0 ?_
        refine mx_zretK rfl dX8_isIn_18 (Or.inl rfl) ?_
        refine mx_zretK rfl dX8_isYear_9 (Or.inl rfl) ?_
        refine mx_if_eq (tgt := 51) dX8_paid_28 rfl (fun _ => ?_) (fun _ => absurd ‹_› (by decide))
        refine mx_aload_n dX8_paid_51 rfl rfl ?_
        refine mx_iconst dX8_paid_52 ic_5 ?_
        refine mx_callV 8 (y' := mi_X8_refuse) (vs := [iv (5 : Int32)]) (st := []) (al' := [some (rv a0), some (iv (5 : Int32))]) cl_8 V_X8_refuse (Or.inl q1999) dX8_paid_53 rfl rfl (Nat.le_of_ble_eq_true rfl) (Nat.le_of_ble_eq_true rfl) (ly8_k La0_h2) ?_
        refine mx_aload_n dX8_refuse_0 rfl rfl ?_
        refine mx_iload_n dX8_refuse_1 rfl rfl ?_
        refine mx_putI 8 0 (ref := "PrairiePoolModel") cl_8 (Nat.le_of_ble_eq_true rfl) (Or.inl q1627) (Or.inl rfl) dX8_refuse_2 (Or.inl rfl) rfl (ly8_k La0_h2) ?_
        refine mx_nmI  (fun h8 eh8 Xh8 Kh8 Lh8 => ?_)
        have H := H h8 eh8 Xh8
        have Kh8 := Kh8.trans Kh2
        have Lh8 := Lh8.trans Lh2
        have La0_h8 := La0_h2.ext Xh8
        refine mx_iconst dX8_refuse_5 ic_m1 ?_
        refine mx_iretK rfl dX8_refuse_6 ?_
        refine mx_i2l dX8_paid_56 ?_
        exact mx_lret rfl dX8_paid_57 H
      · have H := H.2 c7
        refine mx_lload_n dX8_isIn_6 rfl rfl ?_
        refine mx_lload dX8_isIn_7 rfl ?_
        refine mx_lif_gt (tgt := 17) dX8_isIn_9 dX8_isIn_10 rfl (fun c9 => ?_) (fun c9 => ?_)
        · have H := H.1 c9
          refine mx_iconst dX8_isIn_17 ic_0 ?_
          refine mx_zretK rfl dX8_isIn_18 (Or.inl rfl) ?_
          refine mx_zretK rfl dX8_isYear_9 (Or.inl rfl) ?_
          refine mx_if_eq (tgt := 51) dX8_paid_28 rfl (fun _ => ?_) (fun _ => absurd ‹_› (by decide))
          refine mx_aload_n dX8_paid_51 rfl rfl ?_
          refine mx_iconst dX8_paid_52 ic_5 ?_
          refine mx_callV 8 (y' := mi_X8_refuse) (vs := [iv (5 : Int32)]) (st := []) (al' := [some (rv a0), some (iv (5 : Int32))]) cl_8 V_X8_refuse (Or.inl q1999) dX8_paid_53 rfl rfl (Nat.le_of_ble_eq_true rfl) (Nat.le_of_ble_eq_true rfl) (ly8_k La0_h2) ?_
          refine mx_aload_n dX8_refuse_0 rfl rfl ?_
          refine mx_iload_n dX8_refuse_1 rfl rfl ?_
          refine mx_putI 8 0 (ref := "PrairiePoolModel") cl_8 (Nat.le_of_ble_eq_true rfl) (Or.inl q1627) (Or.inl rfl) dX8_refuse_2 (Or.inl rfl) rfl (ly8_k La0_h2) ?_
          refine mx_nmI  (fun h10 eh10 Xh10 Kh10 Lh10 => ?_)
          have H := H h10 eh10 Xh10
          have Kh10 := Kh10.trans Kh2
          have Lh10 := Lh10.trans Lh2
          have La0_h10 := La0_h2.ext Xh10
          refine mx_iconst dX8_refuse_5 ic_m1 ?_
          refine mx_iretK rfl dX8_refuse_6 ?_
          refine mx_i2l dX8_paid_56 ?_
          exact mx_lret rfl dX8_paid_57 H
        · have H := H.2 c9
          refine mx_iconst dX8_isIn_13 ic_1 ?_
          refine mx_goto (tgt := 18) dX8_isIn_14 rfl ?_
          refine mx_zretK rfl dX8_isIn_18 (Or.inr rfl) ?_
          refine mx_zretK rfl dX8_isYear_9 (Or.inr rfl) ?_
          refine mx_if_eq (tgt := 51) dX8_paid_28 rfl (fun _ => absurd ‹_› (by decide)) (fun _ => ?_)
          refine mx_iload_n dX8_paid_31 rfl rfl ?_
          refine mx_i2l dX8_paid_32 ?_
          refine mx_lconst dX8_paid_33 lc_0 ?_
          refine mx_ldc2 q2307 dX8_paid_34 ?_
          refine mx_callS (y' := mi_X8_isIn) (vs := [jv x3.toInt64, jv (0 : Int64), jv (2 : Int64)]) (st := []) (al' := [some (jv x3.toInt64), none, some (jv (0 : Int64)), none, some (jv (2 : Int64)), none]) S_X8_isIn q1996 dX8_paid_37 rfl rfl (Nat.le_of_ble_eq_true rfl) (Nat.le_of_ble_eq_true rfl) ?_
          refine mx_lload_n dX8_isIn_0 rfl rfl ?_
          refine mx_lload_n dX8_isIn_1 rfl rfl ?_
          refine mx_lif_lt (tgt := 17) dX8_isIn_2 dX8_isIn_3 rfl (fun c11 => ?_) (fun c11 => ?_)
          · have H := H.1 c11
            refine mx_iconst dX8_isIn_17 ic_0 ?_
            refine mx_zretK rfl dX8_isIn_18 (Or.inl rfl) ?_
            refine mx_if_eq (tgt := 51) dX8_paid_40 rfl (fun _ => ?_) (fun _ => absurd ‹_› (by decide))
            refine mx_aload_n dX8_paid_51 rfl rfl ?_
            refine mx_iconst dX8_paid_52 ic_5 ?_
            refine mx_callV 8 (y' := mi_X8_refuse) (vs := [iv (5 : Int32)]) (st := []) (al' := [some (rv a0), some (iv (5 : Int32))]) cl_8 V_X8_refuse (Or.inl q1999) dX8_paid_53 rfl rfl (Nat.le_of_ble_eq_true rfl) (Nat.le_of_ble_eq_true rfl) (ly8_k La0_h2) ?_
            refine mx_aload_n dX8_refuse_0 rfl rfl ?_
            refine mx_iload_n dX8_refuse_1 rfl rfl ?_
            refine mx_putI 8 0 (ref := "PrairiePoolModel") cl_8 (Nat.le_of_ble_eq_true rfl) (Or.inl q1627) (Or.inl rfl) dX8_refuse_2 (Or.inl rfl) rfl (ly8_k La0_h2) ?_
            refine mx_nmI  (fun h12 eh12 Xh12 Kh12 Lh12 => ?_)
            have H := H h12 eh12 Xh12
            have Kh12 := Kh12.trans Kh2
            have Lh12 := Lh12.trans Lh2
            have La0_h12 := La0_h2.ext Xh12
            refine mx_iconst dX8_refuse_5 ic_m1 ?_
            refine mx_iretK rfl dX8_refuse_6 ?_
            refine mx_i2l dX8_paid_56 ?_
            exact mx_lret rfl dX8_paid_57 H
          · have H := H.2 c11
            refine mx_lload_n dX8_isIn_6 rfl rfl ?_
            refine mx_lload dX8_isIn_7 rfl ?_
            refine mx_lif_gt (tgt := 17) dX8_isIn_9 dX8_isIn_10 rfl (fun c13 => ?_) (fun c13 => ?_)
            · have H := H.1 c13
              refine mx_iconst dX8_isIn_17 ic_0 ?_
              refine mx_zretK rfl dX8_isIn_18 (Or.inl rfl) ?_
              refine mx_if_eq (tgt := 51) dX8_paid_40 rfl (fun _ => ?_) (fun _ => absurd ‹_› (by decide))
              refine mx_aload_n dX8_paid_51 rfl rfl ?_
              refine mx_iconst dX8_paid_52 ic_5 ?_
              refine mx_callV 8 (y' := mi_X8_refuse) (vs := [iv (5 : Int32)]) (st := []) (al' := [some (rv a0), some (iv (5 : Int32))]) cl_8 V_X8_refuse (Or.inl q1999) dX8_paid_53 rfl rfl (Nat.le_of_ble_eq_true rfl) (Nat.le_of_ble_eq_true rfl) (ly8_k La0_h2) ?_
              refine mx_aload_n dX8_refuse_0 rfl rfl ?_
              refine mx_iload_n dX8_refuse_1 rfl rfl ?_
              refine mx_putI 8 0 (ref := "PrairiePoolModel") cl_8 (Nat.le_of_ble_eq_true rfl) (Or.inl q1627) (Or.inl rfl) dX8_refuse_2 (Or.inl rfl) rfl (ly8_k La0_h2) ?_
              refine mx_nmI  (fun h14 eh14 Xh14 Kh14 Lh14 => ?_)
              have H := H h14 eh14 Xh14
              have Kh14 := Kh14.trans Kh2
              have Lh14 := Lh14.trans Lh2
              have La0_h14 := La0_h2.ext Xh14
              refine mx_iconst dX8_refuse_5 ic_m1 ?_
              refine mx_iretK rfl dX8_refuse_6 ?_
              refine mx_i2l dX8_paid_56 ?_
              exact mx_lret rfl dX8_paid_57 H
            · have H := H.2 c13
              refine mx_iconst dX8_isIn_13 ic_1 ?_
              refine mx_goto (tgt := 18) dX8_isIn_14 rfl ?_
              refine mx_zretK rfl dX8_isIn_18 (Or.inr rfl) ?_
              refine mx_if_eq (tgt := 51) dX8_paid_40 rfl (fun _ => absurd ‹_› (by decide)) (fun _ => ?_)
              refine mx_iload dX8_paid_43 rfl ?_
              refine mx_callS (y' := mi_X8_isDay) (vs := [iv x4]) (st := []) (al' := [some (iv x4)]) S_X8_isDay q2028 dX8_paid_45 rfl rfl (Nat.le_of_ble_eq_true rfl) (Nat.le_of_ble_eq_true rfl) ?_
              refine mx_iload_n dX8_isDay_0 rfl rfl ?_
              refine mx_i2l dX8_isDay_1 ?_
              refine mx_lconst dX8_isDay_2 lc_0 ?_
              refine mx_ldc2 q2031 dX8_isDay_3 ?_
              refine mx_callS (y' := mi_X8_isIn) (vs := [jv x4.toInt64, jv (0 : Int64), jv (519 : Int64)]) (st := []) (al' := [some (jv x4.toInt64), none, some (jv (0 : Int64)), none, some (jv (519 : Int64)), none]) S_X8_isIn q1996 dX8_isDay_6 rfl rfl (Nat.le_of_ble_eq_true rfl) (Nat.le_of_ble_eq_true rfl) ?_
              refine mx_lload_n dX8_isIn_0 rfl rfl ?_
              refine mx_lload_n dX8_isIn_1 rfl rfl ?_
              refine mx_lif_lt (tgt := 17) dX8_isIn_2 dX8_isIn_3 rfl (fun c15 => ?_) (fun c15 => ?_)
              · have H := H.1 c15
                refine mx_iconst dX8_isIn_17 ic_0 ?_
                refine mx_zretK rfl dX8_isIn_18 (Or.inl rfl) ?_
                refine mx_zretK rfl dX8_isDay_9 (Or.inl rfl) ?_
                refine mx_if_ne (tgt := 58) dX8_paid_48 rfl (fun _ => absurd ‹_› (by decide)) (fun _ => ?_)
                refine mx_aload_n dX8_paid_51 rfl rfl ?_
                refine mx_iconst dX8_paid_52 ic_5 ?_
                refine mx_callV 8 (y' := mi_X8_refuse) (vs := [iv (5 : Int32)]) (st := []) (al' := [some (rv a0), some (iv (5 : Int32))]) cl_8 V_X8_refuse (Or.inl q1999) dX8_paid_53 rfl rfl (Nat.le_of_ble_eq_true rfl) (Nat.le_of_ble_eq_true rfl) (ly8_k La0_h2) ?_
                refine mx_aload_n dX8_refuse_0 rfl rfl ?_
                refine mx_iload_n dX8_refuse_1 rfl rfl ?_
                refine mx_putI 8 0 (ref := "PrairiePoolModel") cl_8 (Nat.le_of_ble_eq_true rfl) (Or.inl q1627) (Or.inl rfl) dX8_refuse_2 (Or.inl rfl) rfl (ly8_k La0_h2) ?_
                refine mx_nmI  (fun h16 eh16 Xh16 Kh16 Lh16 => ?_)
                have H := H h16 eh16 Xh16
                have Kh16 := Kh16.trans Kh2
                have Lh16 := Lh16.trans Lh2
                have La0_h16 := La0_h2.ext Xh16
                refine mx_iconst dX8_refuse_5 ic_m1 ?_
                refine mx_iretK rfl dX8_refuse_6 ?_
                refine mx_i2l dX8_paid_56 ?_
                exact mx_lret rfl dX8_paid_57 H
              · have H := H.2 c15
                refine mx_lload_n dX8_isIn_6 rfl rfl ?_
                refine mx_lload dX8_isIn_7 rfl ?_
                refine mx_lif_gt (tgt := 17) dX8_isIn_9 dX8_isIn_10 rfl (fun c17 => ?_) (fun c17 => ?_)
                · have H := H.1 c17
                  refine mx_iconst dX8_isIn_17 ic_0 ?_
                  refine mx_zretK rfl dX8_isIn_18 (Or.inl rfl) ?_
                  refine mx_zretK rfl dX8_isDay_9 (Or.inl rfl) ?_
                  refine mx_if_ne (tgt := 58) dX8_paid_48 rfl (fun _ => absurd ‹_› (by decide)) (fun _ => ?_)
                  refine mx_aload_n dX8_paid_51 rfl rfl ?_
                  refine mx_iconst dX8_paid_52 ic_5 ?_
                  refine mx_callV 8 (y' := mi_X8_refuse) (vs := [iv (5 : Int32)]) (st := []) (al' := [some (rv a0), some (iv (5 : Int32))]) cl_8 V_X8_refuse (Or.inl q1999) dX8_paid_53 rfl rfl (Nat.le_of_ble_eq_true rfl) (Nat.le_of_ble_eq_true rfl) (ly8_k La0_h2) ?_
                  refine mx_aload_n dX8_refuse_0 rfl rfl ?_
                  refine mx_iload_n dX8_refuse_1 rfl rfl ?_
                  refine mx_putI 8 0 (ref := "PrairiePoolModel") cl_8 (Nat.le_of_ble_eq_true rfl) (Or.inl q1627) (Or.inl rfl) dX8_refuse_2 (Or.inl rfl) rfl (ly8_k La0_h2) ?_
                  refine mx_nmI  (fun h18 eh18 Xh18 Kh18 Lh18 => ?_)
                  have H := H h18 eh18 Xh18
                  have Kh18 := Kh18.trans Kh2
                  have Lh18 := Lh18.trans Lh2
                  have La0_h18 := La0_h2.ext Xh18
                  refine mx_iconst dX8_refuse_5 ic_m1 ?_
                  refine mx_iretK rfl dX8_refuse_6 ?_
                  refine mx_i2l dX8_paid_56 ?_
                  exact mx_lret rfl dX8_paid_57 H
                · have H := H.2 c17
                  refine mx_iconst dX8_isIn_13 ic_1 ?_
                  refine mx_goto (tgt := 18) dX8_isIn_14 rfl ?_
                  refine mx_zretK rfl dX8_isIn_18 (Or.inr rfl) ?_
                  refine mx_zretK rfl dX8_isDay_9 (Or.inr rfl) ?_
                  refine mx_if_ne (tgt := 58) dX8_paid_48 rfl (fun _ => ?_) (fun _ => absurd ‹_› (by decide))
                  refine mx_aload_n dX8_paid_58 rfl rfl ?_
                  refine mx_iload dX8_paid_59 rfl ?_
                  refine mx_callV 8 (y' := mi_X8_play) (vs := [iv x4]) (st := []) (al' := [some (rv a0), some (iv x4), none]) cl_8 V_X8_play (Or.inl q2119) dX8_paid_61 rfl rfl (Nat.le_of_ble_eq_true rfl) (Nat.le_of_ble_eq_true rfl) (ly8_k La0_h2) ?_
                  refine ma_kv H (fun h19 Xh19 H => ?_) (fun x1 h1 X1 H => mt_out rfl H)
                  have H := H Xh19
                  have La0_h19 := La0_h2.ext Xh19
                  refine mx_iload_n dX8_paid_64 rfl rfl ?_
                  refine mx_if_ne (tgt := 79) dX8_paid_65 rfl (fun c21 => ?_) (fun c21 => ?_)
                  · have H := H.1 c21
                    refine mx_iload_n dX8_paid_79 rfl rfl ?_
                    refine mx_iconst dX8_paid_80 ic_1 ?_
                    refine mx_icmp_ne (tgt := 95) dX8_paid_81 rfl (fun c22 => ?_) (fun c22 => ?_)
                    · have H := H.1 c22
                      refine mx_aload_n dX8_paid_95 rfl rfl ?_
                      refine mx_iload_n dX8_paid_96 rfl rfl ?_
                      refine mx_iload_n dX8_paid_97 rfl rfl ?_
                      refine mx_iload dX8_paid_98 rfl ?_
                      refine mx_callV 8 (y' := mi_X8_bring) (vs := [iv x1, iv x2, iv x4]) (st := []) (al' := [some (rv a0), some (iv x1), some (iv x2), some (iv x4), none, none, none]) cl_8 V_X8_bring (Or.inl q2320) dX8_paid_100 rfl rfl (Nat.le_of_ble_eq_true rfl) (Nat.le_of_ble_eq_true rfl) (ly8_k La0_h19) ?_
                      refine ma_kl H (fun r24 h23 Xh23 H => ?_) (fun x1 h1 X1 H => mt_out rfl H)
                      have H := H Xh23
                      have La0_h23 := La0_h19.ext Xh23
                      exact mx_lret rfl dX8_paid_103 H
                    · have H := H.2 c22
                      refine mx_aload_n dX8_paid_84 rfl rfl ?_
                      refine mx_iload_n dX8_paid_85 rfl rfl ?_
                      refine mx_iload_n dX8_paid_86 rfl rfl ?_
                      refine mx_iload dX8_paid_87 rfl ?_
                      refine mx_callV 8 (y' := mi_X8_kept) (vs := [iv x1, iv x2, iv x4]) (st := []) (al' := [some (rv a0), some (iv x1), some (iv x2), some (iv x4)]) cl_8 V_X8_kept (Or.inl q2312) dX8_paid_89 rfl rfl (Nat.le_of_ble_eq_true rfl) (Nat.le_of_ble_eq_true rfl) (ly8_k La0_h19) ?_
                      refine ma_kl H (fun r26 h25 Xh25 H => ?_) (fun x1 h1 X1 H => mt_out rfl H)
                      have H := H Xh25
                      have La0_h25 := La0_h19.ext Xh25
                      refine mx_goto (tgt := 103) dX8_paid_92 rfl ?_
                      exact mx_lret rfl dX8_paid_103 H
                  · have H := H.2 c21
                    refine mx_aload_n dX8_paid_68 rfl rfl ?_
                    refine mx_iload_n dX8_paid_69 rfl rfl ?_
                    refine mx_iload_n dX8_paid_70 rfl rfl ?_
                    refine mx_iload dX8_paid_71 rfl ?_
                    refine mx_callV 8 (y' := mi_X8_came) (vs := [iv x1, iv x2, iv x4]) (st := []) (al' := [some (rv a0), some (iv x1), some (iv x2), some (iv x4), none, none, none]) cl_8 V_X8_came (Or.inl q2308) dX8_paid_73 rfl rfl (Nat.le_of_ble_eq_true rfl) (Nat.le_of_ble_eq_true rfl) (ly8_k La0_h19) ?_
                    refine ma_kl H (fun r28 h27 Xh27 H => ?_) (fun x1 h1 X1 H => mt_out rfl H)
                    have H := H Xh27
                    have La0_h27 := La0_h19.ext Xh27
                    refine mx_goto (tgt := 103) dX8_paid_76 rfl ?_
                    exact mx_lret rfl dX8_paid_103 H
theorem dX8_came_0 : decode mi_X8_came.2.1 0 = .ok (.lconst 0, 1) := by decide +kernel
theorem dX8_came_1 : decode mi_X8_came.2.1 1 = .ok (.lstore 4, 2) := by decide +kernel
theorem dX8_came_3 : decode mi_X8_came.2.1 3 = .ok (.iconst 0, 1) := by decide +kernel
theorem dX8_came_4 : decode mi_X8_came.2.1 4 = .ok (.istore 6, 2) := by decide +kernel
theorem dX8_came_6 : decode mi_X8_came.2.1 6 = .ok (.iload 6, 2) := by decide +kernel
theorem dX8_came_8 : decode mi_X8_came.2.1 8 = .ok (.aload_n 0, 1) := by decide +kernel
theorem dX8_came_9 : decode mi_X8_came.2.1 9 = .ok (.getfield 309, 3) := by decide +kernel
theorem dX8_came_12 : decode mi_X8_came.2.1 12 = .ok (.if_icmp .ge 75, 3) := by decide +kernel
theorem dX8_came_15 : decode mi_X8_came.2.1 15 = .ok (.aload_n 0, 1) := by decide +kernel
theorem dX8_came_16 : decode mi_X8_came.2.1 16 = .ok (.getfield 62, 3) := by decide +kernel
theorem dX8_came_19 : decode mi_X8_came.2.1 19 = .ok (.iload 6, 2) := by decide +kernel
theorem dX8_came_21 : decode mi_X8_came.2.1 21 = .ok (.iaload, 1) := by decide +kernel
theorem dX8_came_22 : decode mi_X8_came.2.1 22 = .ok (.iload_n 3, 1) := by decide +kernel
theorem dX8_came_23 : decode mi_X8_came.2.1 23 = .ok (.if_icmp .gt 58, 3) := by decide +kernel
theorem dX8_came_26 : decode mi_X8_came.2.1 26 = .ok (.aload_n 0, 1) := by decide +kernel
theorem dX8_came_27 : decode mi_X8_came.2.1 27 = .ok (.getfield 35, 3) := by decide +kernel
theorem dX8_came_30 : decode mi_X8_came.2.1 30 = .ok (.iload 6, 2) := by decide +kernel
theorem dX8_came_32 : decode mi_X8_came.2.1 32 = .ok (.iaload, 1) := by decide +kernel
theorem dX8_came_33 : decode mi_X8_came.2.1 33 = .ok (.iconst 2, 1) := by decide +kernel
theorem dX8_came_34 : decode mi_X8_came.2.1 34 = .ok (.if_icmp .ne 47, 3) := by decide +kernel
theorem dX8_came_37 : decode mi_X8_came.2.1 37 = .ok (.aload_n 0, 1) := by decide +kernel
theorem dX8_came_38 : decode mi_X8_came.2.1 38 = .ok (.getfield 47, 3) := by decide +kernel
theorem dX8_came_41 : decode mi_X8_came.2.1 41 = .ok (.iload 6, 2) := by decide +kernel
theorem dX8_came_43 : decode mi_X8_came.2.1 43 = .ok (.iaload, 1) := by decide +kernel
theorem dX8_came_44 : decode mi_X8_came.2.1 44 = .ok (.iload_n 2, 1) := by decide +kernel
theorem dX8_came_45 : decode mi_X8_came.2.1 45 = .ok (.if_icmp .ne 36, 3) := by decide +kernel
theorem dX8_came_48 : decode mi_X8_came.2.1 48 = .ok (.aload_n 0, 1) := by decide +kernel
theorem dX8_came_49 : decode mi_X8_came.2.1 49 = .ok (.getfield 50, 3) := by decide +kernel
theorem dX8_came_52 : decode mi_X8_came.2.1 52 = .ok (.iload 6, 2) := by decide +kernel
theorem dX8_came_54 : decode mi_X8_came.2.1 54 = .ok (.iaload, 1) := by decide +kernel
theorem dX8_came_55 : decode mi_X8_came.2.1 55 = .ok (.iload_n 1, 1) := by decide +kernel
theorem dX8_came_56 : decode mi_X8_came.2.1 56 = .ok (.if_icmp .ne 25, 3) := by decide +kernel
theorem dX8_came_59 : decode mi_X8_came.2.1 59 = .ok (.lload 4, 2) := by decide +kernel
theorem dX8_came_61 : decode mi_X8_came.2.1 61 = .ok (.aload_n 0, 1) := by decide +kernel
theorem dX8_came_62 : decode mi_X8_came.2.1 62 = .ok (.getfield 86, 3) := by decide +kernel
theorem dX8_came_65 : decode mi_X8_came.2.1 65 = .ok (.iload 6, 2) := by decide +kernel
theorem dX8_came_67 : decode mi_X8_came.2.1 67 = .ok (.iaload, 1) := by decide +kernel
theorem dX8_came_68 : decode mi_X8_came.2.1 68 = .ok (.i2l, 1) := by decide +kernel
theorem dX8_came_69 : decode mi_X8_came.2.1 69 = .ok (.aload_n 0, 1) := by decide +kernel
theorem dX8_came_70 : decode mi_X8_came.2.1 70 = .ok (.getfield 56, 3) := by decide +kernel
theorem dX8_came_73 : decode mi_X8_came.2.1 73 = .ok (.iload 6, 2) := by decide +kernel
theorem dX8_came_75 : decode mi_X8_came.2.1 75 = .ok (.iaload, 1) := by decide +kernel
theorem dX8_came_76 : decode mi_X8_came.2.1 76 = .ok (.i2l, 1) := by decide +kernel
theorem dX8_came_77 : decode mi_X8_came.2.1 77 = .ok (.lmul, 1) := by decide +kernel
theorem dX8_came_78 : decode mi_X8_came.2.1 78 = .ok (.ladd, 1) := by decide +kernel
theorem dX8_came_79 : decode mi_X8_came.2.1 79 = .ok (.lstore 4, 2) := by decide +kernel
theorem dX8_came_81 : decode mi_X8_came.2.1 81 = .ok (.iinc 6 1, 3) := by decide +kernel
theorem dX8_came_84 : decode mi_X8_came.2.1 84 = .ok (.goto (-78), 3) := by decide +kernel
theorem dX8_came_87 : decode mi_X8_came.2.1 87 = .ok (.lload 4, 2) := by decide +kernel
theorem dX8_came_89 : decode mi_X8_came.2.1 89 = .ok (.lreturn, 1) := by decide +kernel
theorem v_X8_came {G : ma_G} {d : Nat} {a0 : Nat} {x1 : Int32} {x2 : Int32} {x3 : Int32} {h : ah_T} {Q : Option ma_V → ah_T → Prop} {E : Nat → ah_T → Prop} (La0_h : LY8 h a0) (H : MX G mi_X8_came d 6 [some (rv a0), some (iv x1), some (iv x2), some (iv x3), some (jv (0 : Int64)), none, some (iv (0 : Int32))] [] h Q E) : MX G mi_X8_came d 0 [some (rv a0), some (iv x1), some (iv x2), some (iv x3), none, none, none] [] h Q E := by
  refine mx_lconst dX8_came_0 lc_0 ?_
  refine mx_lstore (al' := [some (rv a0), some (iv x1), some (iv x2), some (iv x3), some (jv (0 : Int64)), none, none]) dX8_came_1 (Nat.le_of_ble_eq_true rfl) rfl ?_
  refine mx_iconst dX8_came_3 ic_0 ?_
  refine mx_istore (al' := [some (rv a0), some (iv x1), some (iv x2), some (iv x3), some (jv (0 : Int64)), none, some (iv (0 : Int32))]) dX8_came_4 (Nat.le_of_ble_eq_true rfl) rfl ?_
  exact mx_weak (al' := [some (rv a0), some (iv x1), some (iv x2), some (iv x3), some (jv (0 : Int64)), none, some (iv (0 : Int32))]) ⟨rfl, ⟨rfl, ⟨rfl, ⟨rfl, ⟨rfl, ⟨rfl, trivial⟩⟩⟩⟩⟩⟩ H
theorem v_X8_came_6 {G : ma_G} {d : Nat} {a0 : Nat} {x1 : Int32} {x2 : Int32} {x3 : Int32} {x4 : Int64} {x6 : Int32} {h : ah_T} {Q : Option ma_V → ah_T → Prop} {E : Nat → ah_T → Prop} (La0_h : LY8 h a0) (H : ((ah_I h a0 7) ≤ x6 → Q (some (jv x4)) h) ∧ (¬ (ah_I h a0 7) ≤ x6 → vp_in x6 120 ∧ (x3 < (ah_I h (a0 + 18) x6.toNatClampNeg) → MX G mi_X8_came d 6 [some (rv a0), some (iv x1), some (iv x2), some (iv x3), some (jv x4), none, some (iv (x6 + (1 : Int32)))] [] h Q E) ∧ (¬ x3 < (ah_I h (a0 + 18) x6.toNatClampNeg) → (¬ (ah_I h (a0 + 9) x6.toNatClampNeg) = (2 : Int32) → MX G mi_X8_came d 6 [some (rv a0), some (iv x1), some (iv x2), some (iv x3), some (jv x4), none, some (iv (x6 + (1 : Int32)))] [] h Q E) ∧ ((ah_I h (a0 + 9) x6.toNatClampNeg) = (2 : Int32) → (¬ (ah_I h (a0 + 13) x6.toNatClampNeg) = x2 → MX G mi_X8_came d 6 [some (rv a0), some (iv x1), some (iv x2), some (iv x3), some (jv x4), none, some (iv (x6 + (1 : Int32)))] [] h Q E) ∧ ((ah_I h (a0 + 13) x6.toNatClampNeg) = x2 → (¬ (ah_I h (a0 + 14) x6.toNatClampNeg) = x1 → MX G mi_X8_came d 6 [some (rv a0), some (iv x1), some (iv x2), some (iv x3), some (jv x4), none, some (iv (x6 + (1 : Int32)))] [] h Q E) ∧ ((ah_I h (a0 + 14) x6.toNatClampNeg) = x1 → MX G mi_X8_came d 6 [some (rv a0), some (iv x1), some (iv x2), some (iv x3), some (jv (x4 + ((ah_I h (a0 + 26) x6.toNatClampNeg).toInt64 * (ah_I h (a0 + 16) x6.toNatClampNeg).toInt64))), none, some (iv (x6 + (1 : Int32)))] [] h Q E)))))) : MX G mi_X8_came d 6 [some (rv a0), some (iv x1), some (iv x2), some (iv x3), some (jv x4), none, some (iv x6)] [] h Q E := by
  refine mx_iload dX8_came_6 rfl ?_
  refine mx_aload_n dX8_came_8 rfl rfl ?_
  refine mx_get 8 7 (ref := "PrairiePoolModel") cl_8 (Nat.le_of_ble_eq_true rfl) (Or.inl q1634) (Or.inl rfl) dX8_came_9 (fv_8_7 _ _) (ly8_k La0_h) ?_
  refine mx_icmp_ge (tgt := 87) dX8_came_12 rfl (fun c1 => ?_) (fun c1 => ?_)
  · have H := H.1 c1
    refine mx_lload dX8_came_87 rfl ?_
    exact mx_lret rfl dX8_came_89 H
  · have H := H.2 c1
    refine mx_aload_n dX8_came_15 rfl rfl ?_
    refine mx_get 8 25 (ref := "PrairiePoolModel") cl_8 (Nat.le_of_ble_eq_true rfl) (Or.inl q1652) (Or.inl rfl) dX8_came_16 (fv_8_25 _ _) (ly8_k La0_h) ?_
    refine mx_tr (ly8_R_0_25 La0_h) ?_
    refine mx_iload dX8_came_19 rfl ?_
    obtain ⟨k2, H⟩ := H
    refine my_iald dX8_came_21 rfl (ly8_A_18 La0_h k2) ?_
    refine mx_iload_n dX8_came_22 rfl rfl ?_
    refine mx_icmp_gt (tgt := 81) dX8_came_23 rfl (fun c3 => ?_) (fun c3 => ?_)
    · have H := H.1 c3
      refine mx_iinc (al' := [some (rv a0), some (iv x1), some (iv x2), some (iv x3), some (jv x4), none, some (iv (x6 + (1 : Int32)))]) dX8_came_81 rfl ic_1 rfl ?_
      refine mx_goto (tgt := 6) dX8_came_84 rfl ?_
      exact mx_weak (al' := [some (rv a0), some (iv x1), some (iv x2), some (iv x3), some (jv x4), none, some (iv (x6 + (1 : Int32)))]) ⟨rfl, ⟨rfl, ⟨rfl, ⟨rfl, ⟨rfl, ⟨rfl, trivial⟩⟩⟩⟩⟩⟩ H
    · have H := H.2 c3
      refine mx_aload_n dX8_came_26 rfl rfl ?_
      refine mx_get 8 16 (ref := "PrairiePoolModel") cl_8 (Nat.le_of_ble_eq_true rfl) (Or.inl q1643) (Or.inl rfl) dX8_came_27 (fv_8_16 _ _) (ly8_k La0_h) ?_
      refine mx_tr (ly8_R_0_16 La0_h) ?_
      refine mx_iload dX8_came_30 rfl ?_
      refine my_iald dX8_came_32 rfl (ly8_A_9 La0_h k2) ?_
      refine mx_iconst dX8_came_33 ic_2 ?_
      refine mx_icmp_ne (tgt := 81) dX8_came_34 rfl (fun c4 => ?_) (fun c4 => ?_)
      · have H := H.1 c4
        refine mx_iinc (al' := [some (rv a0), some (iv x1), some (iv x2), some (iv x3), some (jv x4), none, some (iv (x6 + (1 : Int32)))]) dX8_came_81 rfl ic_1 rfl ?_
        refine mx_goto (tgt := 6) dX8_came_84 rfl ?_
        exact mx_weak (al' := [some (rv a0), some (iv x1), some (iv x2), some (iv x3), some (jv x4), none, some (iv (x6 + (1 : Int32)))]) ⟨rfl, ⟨rfl, ⟨rfl, ⟨rfl, ⟨rfl, ⟨rfl, trivial⟩⟩⟩⟩⟩⟩ H
      · have H := H.2 c4
        refine mx_aload_n dX8_came_37 rfl rfl ?_
        refine mx_get 8 20 (ref := "PrairiePoolModel") cl_8 (Nat.le_of_ble_eq_true rfl) (Or.inl q1647) (Or.inl rfl) dX8_came_38 (fv_8_20 _ _) (ly8_k La0_h) ?_
        refine mx_tr (ly8_R_0_20 La0_h) ?_
        refine mx_iload dX8_came_41 rfl ?_
        refine my_iald dX8_came_43 rfl (ly8_A_13 La0_h k2) ?_
        refine mx_iload_n dX8_came_44 rfl rfl ?_
        refine mx_icmp_ne (tgt := 81) dX8_came_45 rfl (fun c5 => ?_) (fun c5 => ?_)
        · have H := H.1 c5
          refine mx_iinc (al' := [some (rv a0), some (iv x1), some (iv x2), some (iv x3), some (jv x4), none, some (iv (x6 + (1 : Int32)))]) dX8_came_81 rfl ic_1 rfl ?_
          refine mx_goto (tgt := 6) dX8_came_84 rfl ?_
          exact mx_weak (al' := [some (rv a0), some (iv x1), some (iv x2), some (iv x3), some (jv x4), none, some (iv (x6 + (1 : Int32)))]) ⟨rfl, ⟨rfl, ⟨rfl, ⟨rfl, ⟨rfl, ⟨rfl, trivial⟩⟩⟩⟩⟩⟩ H
        · have H := H.2 c5
          refine mx_aload_n dX8_came_48 rfl rfl ?_
          refine mx_get 8 21 (ref := "PrairiePoolModel") cl_8 (Nat.le_of_ble_eq_true rfl) (Or.inl q1648) (Or.inl rfl) dX8_came_49 (fv_8_21 _ _) (ly8_k La0_h) ?_
          refine mx_tr (ly8_R_0_21 La0_h) ?_
          refine mx_iload dX8_came_52 rfl ?_
          refine my_iald dX8_came_54 rfl (ly8_A_14 La0_h k2) ?_
          refine mx_iload_n dX8_came_55 rfl rfl ?_
          refine mx_icmp_ne (tgt := 81) dX8_came_56 rfl (fun c6 => ?_) (fun c6 => ?_)
          · have H := H.1 c6
            refine mx_iinc (al' := [some (rv a0), some (iv x1), some (iv x2), some (iv x3), some (jv x4), none, some (iv (x6 + (1 : Int32)))]) dX8_came_81 rfl ic_1 rfl ?_
            refine mx_goto (tgt := 6) dX8_came_84 rfl ?_
            exact mx_weak (al' := [some (rv a0), some (iv x1), some (iv x2), some (iv x3), some (jv x4), none, some (iv (x6 + (1 : Int32)))]) ⟨rfl, ⟨rfl, ⟨rfl, ⟨rfl, ⟨rfl, ⟨rfl, trivial⟩⟩⟩⟩⟩⟩ H
          · have H := H.2 c6
            refine mx_lload dX8_came_59 rfl ?_
            refine mx_aload_n dX8_came_61 rfl rfl ?_
            refine mx_get 8 33 (ref := "PrairiePoolModel") cl_8 (Nat.le_of_ble_eq_true rfl) (Or.inl q1660) (Or.inl rfl) dX8_came_62 (fv_8_33 _ _) (ly8_k La0_h) ?_
            refine mx_tr (ly8_R_0_33 La0_h) ?_
            refine mx_iload dX8_came_65 rfl ?_
            refine my_iald dX8_came_67 rfl (ly8_A_26 La0_h k2) ?_
            refine mx_i2l dX8_came_68 ?_
            refine mx_aload_n dX8_came_69 rfl rfl ?_
            refine mx_get 8 23 (ref := "PrairiePoolModel") cl_8 (Nat.le_of_ble_eq_true rfl) (Or.inl q1650) (Or.inl rfl) dX8_came_70 (fv_8_23 _ _) (ly8_k La0_h) ?_
            refine mx_tr (ly8_R_0_23 La0_h) ?_
            refine mx_iload dX8_came_73 rfl ?_
            refine my_iald dX8_came_75 rfl (ly8_A_16 La0_h k2) ?_
            refine mx_i2l dX8_came_76 ?_
            refine mx_lmul dX8_came_77 ?_
            refine mx_ladd dX8_came_78 ?_
            refine mx_lstore (al' := [some (rv a0), some (iv x1), some (iv x2), some (iv x3), some (jv (x4 + ((ah_I h (a0 + 26) x6.toNatClampNeg).toInt64 * (ah_I h (a0 + 16) x6.toNatClampNeg).toInt64))), none, some (iv x6)]) dX8_came_79 (Nat.le_of_ble_eq_true rfl) rfl ?_
            refine mx_iinc (al' := [some (rv a0), some (iv x1), some (iv x2), some (iv x3), some (jv (x4 + ((ah_I h (a0 + 26) x6.toNatClampNeg).toInt64 * (ah_I h (a0 + 16) x6.toNatClampNeg).toInt64))), none, some (iv (x6 + (1 : Int32)))]) dX8_came_81 rfl ic_1 rfl ?_
            refine mx_goto (tgt := 6) dX8_came_84 rfl ?_
            exact mx_weak (al' := [some (rv a0), some (iv x1), some (iv x2), some (iv x3), some (jv (x4 + ((ah_I h (a0 + 26) x6.toNatClampNeg).toInt64 * (ah_I h (a0 + 16) x6.toNatClampNeg).toInt64))), none, some (iv (x6 + (1 : Int32)))]) ⟨rfl, ⟨rfl, ⟨rfl, ⟨rfl, ⟨rfl, ⟨rfl, trivial⟩⟩⟩⟩⟩⟩ H
theorem dX8_kept_0 : decode mi_X8_kept.2.1 0 = .ok (.aload_n 0, 1) := by decide +kernel
theorem dX8_kept_1 : decode mi_X8_kept.2.1 1 = .ok (.iload_n 1, 1) := by decide +kernel
theorem dX8_kept_2 : decode mi_X8_kept.2.1 2 = .ok (.iload_n 2, 1) := by decide +kernel
theorem dX8_kept_3 : decode mi_X8_kept.2.1 3 = .ok (.iload_n 3, 1) := by decide +kernel
theorem dX8_kept_4 : decode mi_X8_kept.2.1 4 = .ok (.invokevirtual 596, 3) := by decide +kernel
theorem dX8_kept_7 : decode mi_X8_kept.2.1 7 = .ok (.aload_n 0, 1) := by decide +kernel
theorem dX8_kept_8 : decode mi_X8_kept.2.1 8 = .ok (.bipush 104, 2) := by decide +kernel
theorem dX8_kept_10 : decode mi_X8_kept.2.1 10 = .ok (.bipush 101, 2) := by decide +kernel
theorem dX8_kept_12 : decode mi_X8_kept.2.1 12 = .ok (.bipush 108, 2) := by decide +kernel
theorem dX8_kept_14 : decode mi_X8_kept.2.1 14 = .ok (.bipush 100, 2) := by decide +kernel
theorem dX8_kept_16 : decode mi_X8_kept.2.1 16 = .ok (.iconst 0, 1) := by decide +kernel
theorem dX8_kept_17 : decode mi_X8_kept.2.1 17 = .ok (.iconst 0, 1) := by decide +kernel
theorem dX8_kept_18 : decode mi_X8_kept.2.1 18 = .ok (.invokestatic 350, 3) := by decide +kernel
theorem dX8_kept_21 : decode mi_X8_kept.2.1 21 = .ok (.iload_n 1, 1) := by decide +kernel
theorem dX8_kept_22 : decode mi_X8_kept.2.1 22 = .ok (.iload_n 2, 1) := by decide +kernel
theorem dX8_kept_23 : decode mi_X8_kept.2.1 23 = .ok (.invokevirtual 600, 3) := by decide +kernel
theorem dX8_kept_26 : decode mi_X8_kept.2.1 26 = .ok (.lmul, 1) := by decide +kernel
theorem dX8_kept_27 : decode mi_X8_kept.2.1 27 = .ok (.ldc2_w 326, 3) := by decide +kernel
theorem dX8_kept_30 : decode mi_X8_kept.2.1 30 = .ok (.ldiv, 1) := by decide +kernel
theorem dX8_kept_31 : decode mi_X8_kept.2.1 31 = .ok (.lreturn, 1) := by decide +kernel
theorem v_X8_kept {G : ma_G} {d : Nat} {a0 : Nat} {x1 : Int32} {x2 : Int32} {x3 : Int32} {h : ah_T} {Q : Option ma_V → ah_T → Prop} {E : Nat → ah_T → Prop} (La0_h : LY8 h a0) (H : MX G mi_X8_came d 0 [some (rv a0), some (iv x1), some (iv x2), some (iv x3), none, none, none] [] h (Ql fun r2 h1 => ah_ext h h1 → MX G mi_X8_ofYear d 0 [some (rv a0), some (jv (267652 : Int64)), none, some (iv x1), some (iv x2)] [] h1 (Ql fun r4 h3 => ah_ext h1 h3 → Q (some (jv ((r2 * r4) / (1000 : Int64)))) h3) E) E) : MX G mi_X8_kept (d + 1) 0 [some (rv a0), some (iv x1), some (iv x2), some (iv x3)] [] h Q E := by
  refine mx_aload_n dX8_kept_0 rfl rfl ?_
  refine mx_iload_n dX8_kept_1 rfl rfl ?_
  refine mx_iload_n dX8_kept_2 rfl rfl ?_
  refine mx_iload_n dX8_kept_3 rfl rfl ?_
  refine mx_callV 8 (y' := mi_X8_came) (vs := [iv x1, iv x2, iv x3]) (st := []) (al' := [some (rv a0), some (iv x1), some (iv x2), some (iv x3), none, none, none]) cl_8 V_X8_came (Or.inl q2308) dX8_kept_4 rfl rfl (Nat.le_of_ble_eq_true rfl) (Nat.le_of_ble_eq_true rfl) (ly8_k La0_h) ?_
  refine ma_kl H (fun r2 h1 Xh1 H => ?_) (fun x1 h1 X1 H => mt_out rfl H)
  have H := H Xh1
  have La0_h1 := La0_h.ext Xh1
  refine mx_aload_n dX8_kept_7 rfl rfl ?_
  refine mx_bipush dX8_kept_8 ib_104 ?_
  refine mx_bipush dX8_kept_10 ib_101 ?_
  refine mx_bipush dX8_kept_12 ib_108 ?_
  refine mx_bipush dX8_kept_14 ib_100 ?_
  refine mx_iconst dX8_kept_16 ic_0 ?_
  refine mx_iconst dX8_kept_17 ic_0 ?_
  refine mx_callS (y' := mi_X8_spelled) (vs := [iv (104 : Int32), iv (101 : Int32), iv (108 : Int32), iv (100 : Int32), iv (0 : Int32), iv (0 : Int32)]) (st := [rv a0, jv r2]) (al' := [some (iv (104 : Int32)), some (iv (101 : Int32)), some (iv (108 : Int32)), some (iv (100 : Int32)), some (iv (0 : Int32)), some (iv (0 : Int32)), none, none]) S_X8_spelled q2075 dX8_kept_18 rfl rfl (Nat.le_of_ble_eq_true rfl) (Nat.le_of_ble_eq_true rfl) ?_
  refine mx_iload_n dX8_spelled_0 rfl rfl ?_
  refine mx_i2l dX8_spelled_1 ?_
  refine mx_ldc2 q2078 dX8_spelled_2 ?_
  refine mx_lsub dX8_spelled_5 ?_
  refine mx_lstore (al' := [some (iv (104 : Int32)), some (iv (101 : Int32)), some (iv (108 : Int32)), some (iv (100 : Int32)), some (iv (0 : Int32)), some (iv (0 : Int32)), some (jv ((104 : Int32).toInt64 - (96 : Int64))), none]) dX8_spelled_6 (Nat.le_of_ble_eq_true rfl) rfl ?_
  refine mx_lload dX8_spelled_8 rfl ?_
  refine mx_ldc2 q2079 dX8_spelled_10 ?_
  refine mx_lmul dX8_spelled_13 ?_
  refine mx_iload_n dX8_spelled_14 rfl rfl ?_
  refine mx_i2l dX8_spelled_15 ?_
  refine mx_ladd dX8_spelled_16 ?_
  refine mx_ldc2 q2078 dX8_spelled_17 ?_
  refine mx_lsub dX8_spelled_20 ?_
  refine mx_lstore (al' := [some (iv (104 : Int32)), some (iv (101 : Int32)), some (iv (108 : Int32)), some (iv (100 : Int32)), some (iv (0 : Int32)), some (iv (0 : Int32)), some (jv (((((104 : Int32).toInt64 - (96 : Int64)) * (32 : Int64)) + (101 : Int32).toInt64) - (96 : Int64))), none]) dX8_spelled_21 (Nat.le_of_ble_eq_true rfl) rfl ?_
  refine mx_iload_n dX8_spelled_23 rfl rfl ?_
  refine mx_if_le (tgt := 43) dX8_spelled_24 rfl (fun _ => absurd ‹_› (by decide)) (fun _ => ?_)
  refine mx_lload dX8_spelled_27 rfl ?_
  refine mx_ldc2 q2079 dX8_spelled_29 ?_
  refine mx_lmul dX8_spelled_32 ?_
  refine mx_iload_n dX8_spelled_33 rfl rfl ?_
  refine mx_i2l dX8_spelled_34 ?_
  refine mx_ladd dX8_spelled_35 ?_
  refine mx_ldc2 q2078 dX8_spelled_36 ?_
  refine mx_lsub dX8_spelled_39 ?_
  refine mx_goto (tgt := 45) dX8_spelled_40 rfl ?_
  refine mx_lstore (al' := [some (iv (104 : Int32)), some (iv (101 : Int32)), some (iv (108 : Int32)), some (iv (100 : Int32)), some (iv (0 : Int32)), some (iv (0 : Int32)), some (jv ((((((((104 : Int32).toInt64 - (96 : Int64)) * (32 : Int64)) + (101 : Int32).toInt64) - (96 : Int64)) * (32 : Int64)) + (108 : Int32).toInt64) - (96 : Int64))), none]) dX8_spelled_45 (Nat.le_of_ble_eq_true rfl) rfl ?_
  refine mx_iload_n dX8_spelled_47 rfl rfl ?_
  refine mx_if_le (tgt := 67) dX8_spelled_48 rfl (fun _ => absurd ‹_› (by decide)) (fun _ => ?_)
  refine mx_lload dX8_spelled_51 rfl ?_
  refine mx_ldc2 q2079 dX8_spelled_53 ?_
  refine mx_lmul dX8_spelled_56 ?_
  refine mx_iload_n dX8_spelled_57 rfl rfl ?_
  refine mx_i2l dX8_spelled_58 ?_
  refine mx_ladd dX8_spelled_59 ?_
  refine mx_ldc2 q2078 dX8_spelled_60 ?_
  refine mx_lsub dX8_spelled_63 ?_
  refine mx_goto (tgt := 69) dX8_spelled_64 rfl ?_
  refine mx_lstore (al' := [some (iv (104 : Int32)), some (iv (101 : Int32)), some (iv (108 : Int32)), some (iv (100 : Int32)), some (iv (0 : Int32)), some (iv (0 : Int32)), some (jv (((((((((((104 : Int32).toInt64 - (96 : Int64)) * (32 : Int64)) + (101 : Int32).toInt64) - (96 : Int64)) * (32 : Int64)) + (108 : Int32).toInt64) - (96 : Int64)) * (32 : Int64)) + (100 : Int32).toInt64) - (96 : Int64))), none]) dX8_spelled_69 (Nat.le_of_ble_eq_true rfl) rfl ?_
  refine mx_iload dX8_spelled_71 rfl ?_
  refine mx_if_le (tgt := 93) dX8_spelled_73 rfl (fun _ => ?_) (fun _ => absurd ‹_› (by decide))
  refine mx_lload dX8_spelled_93 rfl ?_
  refine mx_lstore (al' := [some (iv (104 : Int32)), some (iv (101 : Int32)), some (iv (108 : Int32)), some (iv (100 : Int32)), some (iv (0 : Int32)), some (iv (0 : Int32)), some (jv (((((((((((104 : Int32).toInt64 - (96 : Int64)) * (32 : Int64)) + (101 : Int32).toInt64) - (96 : Int64)) * (32 : Int64)) + (108 : Int32).toInt64) - (96 : Int64)) * (32 : Int64)) + (100 : Int32).toInt64) - (96 : Int64))), none]) dX8_spelled_95 (Nat.le_of_ble_eq_true rfl) rfl ?_
  refine mx_iload dX8_spelled_97 rfl ?_
  refine mx_if_le (tgt := 119) dX8_spelled_99 rfl (fun _ => ?_) (fun _ => absurd ‹_› (by decide))
  refine mx_lload dX8_spelled_119 rfl ?_
  refine mx_lretK rfl dX8_spelled_121 ?_
  refine mx_tj (show (((((((((((104 : Int32).toInt64 - (96 : Int64)) * (32 : Int64)) + (101 : Int32).toInt64) - (96 : Int64)) * (32 : Int64)) + (108 : Int32).toInt64) - (96 : Int64)) * (32 : Int64)) + (100 : Int32).toInt64) - (96 : Int64)) = (267652 : Int64) by decide) ?_
  refine mx_iload_n dX8_kept_21 rfl rfl ?_
  refine mx_iload_n dX8_kept_22 rfl rfl ?_
  refine mx_callV 8 (y' := mi_X8_ofYear) (vs := [jv (267652 : Int64), iv x1, iv x2]) (st := [jv r2]) (al' := [some (rv a0), some (jv (267652 : Int64)), none, some (iv x1), some (iv x2)]) cl_8 V_X8_ofYear (Or.inl q2316) dX8_kept_23 rfl rfl (Nat.le_of_ble_eq_true rfl) (Nat.le_of_ble_eq_true rfl) (ly8_k La0_h1) ?_
  refine ma_kl H (fun r4 h3 Xh3 H => ?_) (fun x1 h1 X1 H => mt_out rfl H)
  have H := H Xh3
  have La0_h3 := La0_h1.ext Xh3
  refine mx_lmul dX8_kept_26 ?_
  refine mx_ldc2 q2023 dX8_kept_27 ?_
  refine mx_ldiv dX8_kept_30 (by decide) ?_
  exact mx_lret rfl dX8_kept_31 H
theorem dX8_ofYear_0 : decode mi_X8_ofYear.2.1 0 = .ok (.aload_n 0, 1) := by decide +kernel
theorem dX8_ofYear_1 : decode mi_X8_ofYear.2.1 1 = .ok (.invokevirtual 344, 3) := by decide +kernel
theorem dX8_ofYear_4 : decode mi_X8_ofYear.2.1 4 = .ok (.aload_n 0, 1) := by decide +kernel
theorem dX8_ofYear_5 : decode mi_X8_ofYear.2.1 5 = .ok (.getfield 151, 3) := by decide +kernel
theorem dX8_ofYear_8 : decode mi_X8_ofYear.2.1 8 = .ok (.iconst 0, 1) := by decide +kernel
theorem dX8_ofYear_9 : decode mi_X8_ofYear.2.1 9 = .ok (.iload 4, 2) := by decide +kernel
theorem dX8_ofYear_11 : decode mi_X8_ofYear.2.1 11 = .ok (.i2l, 1) := by decide +kernel
theorem dX8_ofYear_12 : decode mi_X8_ofYear.2.1 12 = .ok (.lastore, 1) := by decide +kernel
theorem dX8_ofYear_13 : decode mi_X8_ofYear.2.1 13 = .ok (.aload_n 0, 1) := by decide +kernel
theorem dX8_ofYear_14 : decode mi_X8_ofYear.2.1 14 = .ok (.getfield 151, 3) := by decide +kernel
theorem dX8_ofYear_17 : decode mi_X8_ofYear.2.1 17 = .ok (.iconst 3, 1) := by decide +kernel
theorem dX8_ofYear_18 : decode mi_X8_ofYear.2.1 18 = .ok (.iload_n 3, 1) := by decide +kernel
theorem dX8_ofYear_19 : decode mi_X8_ofYear.2.1 19 = .ok (.i2l, 1) := by decide +kernel
theorem dX8_ofYear_20 : decode mi_X8_ofYear.2.1 20 = .ok (.lastore, 1) := by decide +kernel
theorem dX8_ofYear_21 : decode mi_X8_ofYear.2.1 21 = .ok (.aload_n 0, 1) := by decide +kernel
theorem dX8_ofYear_22 : decode mi_X8_ofYear.2.1 22 = .ok (.lload_n 1, 1) := by decide +kernel
theorem dX8_ofYear_23 : decode mi_X8_ofYear.2.1 23 = .ok (.bipush 52, 2) := by decide +kernel
theorem dX8_ofYear_25 : decode mi_X8_ofYear.2.1 25 = .ok (.iload_n 3, 1) := by decide +kernel
theorem dX8_ofYear_26 : decode mi_X8_ofYear.2.1 26 = .ok (.imul, 1) := by decide +kernel
theorem dX8_ofYear_27 : decode mi_X8_ofYear.2.1 27 = .ok (.bipush 51, 2) := by decide +kernel
theorem dX8_ofYear_29 : decode mi_X8_ofYear.2.1 29 = .ok (.iadd, 1) := by decide +kernel
theorem dX8_ofYear_30 : decode mi_X8_ofYear.2.1 30 = .ok (.lconst 0, 1) := by decide +kernel
theorem dX8_ofYear_31 : decode mi_X8_ofYear.2.1 31 = .ok (.invokevirtual 354, 3) := by decide +kernel
theorem dX8_ofYear_34 : decode mi_X8_ofYear.2.1 34 = .ok (.lconst 0, 1) := by decide +kernel
theorem dX8_ofYear_35 : decode mi_X8_ofYear.2.1 35 = .ok (.ldc2_w 326, 3) := by decide +kernel
theorem dX8_ofYear_38 : decode mi_X8_ofYear.2.1 38 = .ok (.invokestatic 360, 3) := by decide +kernel
theorem dX8_ofYear_41 : decode mi_X8_ofYear.2.1 41 = .ok (.lreturn, 1) := by decide +kernel
theorem v_X8_ofYear {G : ma_G} {d : Nat} {a0 : Nat} {x1 : Int64} {x3 : Int32} {x4 : Int32} {h : ah_T} {Q : Option ma_V → ah_T → Prop} {E : Nat → ah_T → Prop} (La0_h : LY8 h a0) (H : MX G mi_X8_letNothing d 0 [some (rv a0), none] [] h (Qv fun h1 => ah_ext h h1 → ∀ h3 : ah_T, h3 = ah_wJ h1 (a0 + 45) 0 x4.toInt64 → ah_ext h1 h3 → ∀ h4 : ah_T, h4 = ah_wJ h3 (a0 + 45) 3 x3.toInt64 → ah_ext h3 h4 → MX G mi_X8_told d 0 [some (rv a0), some (jv x1), none, some (iv (((52 : Int32) * x3) + (51 : Int32))), some (jv (0 : Int64)), none, none, none, none] [] h4 (Ql fun r6 h5 => ah_ext h4 h5 → Q (some (jv (jCut r6 (0 : Int64) (1000 : Int64)))) h5) E) E) : MX G mi_X8_ofYear (d + 1) 0 [some (rv a0), some (jv x1), none, some (iv x3), some (iv x4)] [] h Q E := by
  refine mx_aload_n dX8_ofYear_0 rfl rfl ?_
  refine mx_callV 8 (y' := mi_X8_letNothing) (vs := []) (st := []) (al' := [some (rv a0), none]) cl_8 V_X8_letNothing (Or.inl q2067) dX8_ofYear_1 rfl rfl (Nat.le_of_ble_eq_true rfl) (Nat.le_of_ble_eq_true rfl) (ly8_k La0_h) ?_
  refine ma_kv H (fun h1 Xh1 H => ?_) (fun x1 h1 X1 H => mt_out rfl H)
  have H := H Xh1
  have La0_h1 := La0_h.ext Xh1
  refine mx_aload_n dX8_ofYear_4 rfl rfl ?_
  refine mx_get 8 68 (ref := "PrairiePoolModel") cl_8 (Nat.le_of_ble_eq_true rfl) (Or.inl q1695) (Or.inl rfl) dX8_ofYear_5 (fv_8_68 _ _) (ly8_k La0_h1) ?_
  refine mx_tr (ly8_R_0_68 La0_h1) ?_
  refine mx_iconst dX8_ofYear_8 ic_0 ?_
  refine mx_iload dX8_ofYear_9 rfl ?_
  refine mx_i2l dX8_ofYear_11 ?_
  refine my_last dX8_ofYear_12 cn_0 (ly8_A_45 La0_h1 (vp_c (by decide))) ?_
  refine mx_nmJ  (fun h3 eh3 Xh3 Kh3 Lh3 => ?_)
  have H := H h3 eh3 Xh3
  have La0_h3 := La0_h1.ext Xh3
  refine mx_aload_n dX8_ofYear_13 rfl rfl ?_
  refine mx_get 8 68 (ref := "PrairiePoolModel") cl_8 (Nat.le_of_ble_eq_true rfl) (Or.inl q1695) (Or.inl rfl) dX8_ofYear_14 (fv_8_68 _ _) (ly8_k La0_h3) ?_
  refine mx_tr (ly8_R_0_68 La0_h3) ?_
  refine mx_iconst dX8_ofYear_17 ic_3 ?_
  refine mx_iload_n dX8_ofYear_18 rfl rfl ?_
  refine mx_i2l dX8_ofYear_19 ?_
  refine my_last dX8_ofYear_20 cn_3 (ly8_A_45 La0_h3 (vp_c (by decide))) ?_
  refine mx_nmJ  (fun h4 eh4 Xh4 Kh4 Lh4 => ?_)
  have H := H h4 eh4 Xh4
  have Kh4 := Kh4.trans Kh3
  have Lh4 := Lh4.trans Lh3
  have La0_h4 := La0_h3.ext Xh4
  refine mx_aload_n dX8_ofYear_21 rfl rfl ?_
  refine mx_lload_n dX8_ofYear_22 rfl rfl ?_
  refine mx_bipush dX8_ofYear_23 ib_52 ?_
  refine mx_iload_n dX8_ofYear_25 rfl rfl ?_
  refine mx_imul dX8_ofYear_26 ?_
  refine mx_bipush dX8_ofYear_27 ib_51 ?_
  refine mx_iadd dX8_ofYear_29 ?_
  refine mx_lconst dX8_ofYear_30 lc_0 ?_
  refine mx_callV 8 (y' := mi_X8_told) (vs := [jv x1, iv (((52 : Int32) * x3) + (51 : Int32)), jv (0 : Int64)]) (st := []) (al' := [some (rv a0), some (jv x1), none, some (iv (((52 : Int32) * x3) + (51 : Int32))), some (jv (0 : Int64)), none, none, none, none]) cl_8 V_X8_told (Or.inl q2080) dX8_ofYear_31 rfl rfl (Nat.le_of_ble_eq_true rfl) (Nat.le_of_ble_eq_true rfl) (ly8_k La0_h4) ?_
  refine ma_kl H (fun r6 h5 Xh5 H => ?_) (fun x1 h1 X1 H => mt_out rfl H)
  have H := H Xh5
  have La0_h5 := La0_h4.ext Xh5
  refine mx_lconst dX8_ofYear_34 lc_0 ?_
  refine mx_ldc2 q2023 dX8_ofYear_35 ?_
  refine mx_callS (y' := mi_X8_cut_2) (vs := [jv r6, jv (0 : Int64), jv (1000 : Int64)]) (st := []) (al' := [some (jv r6), none, some (jv (0 : Int64)), none, some (jv (1000 : Int64)), none]) S_X8_cut_2 q2108 dX8_ofYear_38 rfl rfl (Nat.le_of_ble_eq_true rfl) (Nat.le_of_ble_eq_true rfl) ?_
  refine pv_X8_cut_2 ?_
  exact mx_lret rfl dX8_ofYear_41 H
theorem dX8_bring_0 : decode mi_X8_bring.2.1 0 = .ok (.lconst 0, 1) := by decide +kernel
theorem dX8_bring_1 : decode mi_X8_bring.2.1 1 = .ok (.lstore 4, 2) := by decide +kernel
theorem dX8_bring_3 : decode mi_X8_bring.2.1 3 = .ok (.iconst 0, 1) := by decide +kernel
theorem dX8_bring_4 : decode mi_X8_bring.2.1 4 = .ok (.istore 6, 2) := by decide +kernel
theorem dX8_bring_6 : decode mi_X8_bring.2.1 6 = .ok (.iload 6, 2) := by decide +kernel
theorem dX8_bring_8 : decode mi_X8_bring.2.1 8 = .ok (.bipush 20, 2) := by decide +kernel
theorem dX8_bring_10 : decode mi_X8_bring.2.1 10 = .ok (.if_icmp .ge 17, 3) := by decide +kernel
theorem dX8_bring_13 : decode mi_X8_bring.2.1 13 = .ok (.aload_n 0, 1) := by decide +kernel
theorem dX8_bring_14 : decode mi_X8_bring.2.1 14 = .ok (.getfield 164, 3) := by decide +kernel
theorem dX8_bring_17 : decode mi_X8_bring.2.1 17 = .ok (.iload 6, 2) := by decide +kernel
theorem dX8_bring_19 : decode mi_X8_bring.2.1 19 = .ok (.lconst 0, 1) := by decide +kernel
theorem dX8_bring_20 : decode mi_X8_bring.2.1 20 = .ok (.lastore, 1) := by decide +kernel
theorem dX8_bring_21 : decode mi_X8_bring.2.1 21 = .ok (.iinc 6 1, 3) := by decide +kernel
theorem dX8_bring_24 : decode mi_X8_bring.2.1 24 = .ok (.goto (-18), 3) := by decide +kernel
theorem dX8_bring_27 : decode mi_X8_bring.2.1 27 = .ok (.iconst 0, 1) := by decide +kernel
theorem dX8_bring_28 : decode mi_X8_bring.2.1 28 = .ok (.istore 6, 2) := by decide +kernel
theorem dX8_bring_30 : decode mi_X8_bring.2.1 30 = .ok (.iload 6, 2) := by decide +kernel
theorem dX8_bring_32 : decode mi_X8_bring.2.1 32 = .ok (.aload_n 0, 1) := by decide +kernel
theorem dX8_bring_33 : decode mi_X8_bring.2.1 33 = .ok (.getfield 309, 3) := by decide +kernel
theorem dX8_bring_36 : decode mi_X8_bring.2.1 36 = .ok (.if_icmp .ge 105, 3) := by decide +kernel
theorem dX8_bring_39 : decode mi_X8_bring.2.1 39 = .ok (.aload_n 0, 1) := by decide +kernel
theorem dX8_bring_40 : decode mi_X8_bring.2.1 40 = .ok (.getfield 62, 3) := by decide +kernel
theorem dX8_bring_43 : decode mi_X8_bring.2.1 43 = .ok (.iload 6, 2) := by decide +kernel
theorem dX8_bring_45 : decode mi_X8_bring.2.1 45 = .ok (.iaload, 1) := by decide +kernel
theorem dX8_bring_46 : decode mi_X8_bring.2.1 46 = .ok (.iload_n 3, 1) := by decide +kernel
theorem dX8_bring_47 : decode mi_X8_bring.2.1 47 = .ok (.if_icmp .gt 88, 3) := by decide +kernel
theorem dX8_bring_50 : decode mi_X8_bring.2.1 50 = .ok (.aload_n 0, 1) := by decide +kernel
theorem dX8_bring_51 : decode mi_X8_bring.2.1 51 = .ok (.getfield 35, 3) := by decide +kernel
theorem dX8_bring_54 : decode mi_X8_bring.2.1 54 = .ok (.iload 6, 2) := by decide +kernel
theorem dX8_bring_56 : decode mi_X8_bring.2.1 56 = .ok (.iaload, 1) := by decide +kernel
theorem dX8_bring_57 : decode mi_X8_bring.2.1 57 = .ok (.ifCond .ne 78, 3) := by decide +kernel
theorem dX8_bring_60 : decode mi_X8_bring.2.1 60 = .ok (.aload_n 0, 1) := by decide +kernel
theorem dX8_bring_61 : decode mi_X8_bring.2.1 61 = .ok (.getfield 89, 3) := by decide +kernel
theorem dX8_bring_64 : decode mi_X8_bring.2.1 64 = .ok (.iload 6, 2) := by decide +kernel
theorem dX8_bring_66 : decode mi_X8_bring.2.1 66 = .ok (.iaload, 1) := by decide +kernel
theorem dX8_bring_67 : decode mi_X8_bring.2.1 67 = .ok (.iload_n 2, 1) := by decide +kernel
theorem dX8_bring_68 : decode mi_X8_bring.2.1 68 = .ok (.if_icmp .ne 67, 3) := by decide +kernel
theorem dX8_bring_71 : decode mi_X8_bring.2.1 71 = .ok (.aload_n 0, 1) := by decide +kernel
theorem dX8_bring_72 : decode mi_X8_bring.2.1 72 = .ok (.getfield 50, 3) := by decide +kernel
theorem dX8_bring_75 : decode mi_X8_bring.2.1 75 = .ok (.iload 6, 2) := by decide +kernel
theorem dX8_bring_77 : decode mi_X8_bring.2.1 77 = .ok (.iaload, 1) := by decide +kernel
theorem dX8_bring_78 : decode mi_X8_bring.2.1 78 = .ok (.iload_n 1, 1) := by decide +kernel
theorem dX8_bring_79 : decode mi_X8_bring.2.1 79 = .ok (.if_icmp .eq 6, 3) := by decide +kernel
theorem dX8_bring_82 : decode mi_X8_bring.2.1 82 = .ok (.goto 53, 3) := by decide +kernel
theorem dX8_bring_85 : decode mi_X8_bring.2.1 85 = .ok (.aload_n 0, 1) := by decide +kernel
theorem dX8_bring_86 : decode mi_X8_bring.2.1 86 = .ok (.getfield 164, 3) := by decide +kernel
theorem dX8_bring_89 : decode mi_X8_bring.2.1 89 = .ok (.aload_n 0, 1) := by decide +kernel
theorem dX8_bring_90 : decode mi_X8_bring.2.1 90 = .ok (.getfield 38, 3) := by decide +kernel
theorem dX8_bring_93 : decode mi_X8_bring.2.1 93 = .ok (.iload 6, 2) := by decide +kernel
theorem dX8_bring_95 : decode mi_X8_bring.2.1 95 = .ok (.iaload, 1) := by decide +kernel
theorem dX8_bring_96 : decode mi_X8_bring.2.1 96 = .ok (.dup2, 1) := by decide +kernel
theorem dX8_bring_97 : decode mi_X8_bring.2.1 97 = .ok (.laload, 1) := by decide +kernel
theorem dX8_bring_98 : decode mi_X8_bring.2.1 98 = .ok (.aload_n 0, 1) := by decide +kernel
theorem dX8_bring_99 : decode mi_X8_bring.2.1 99 = .ok (.iload 6, 2) := by decide +kernel
theorem dX8_bring_101 : decode mi_X8_bring.2.1 101 = .ok (.invokevirtual 347, 3) := by decide +kernel
theorem dX8_bring_104 : decode mi_X8_bring.2.1 104 = .ok (.aload_n 0, 1) := by decide +kernel
theorem dX8_bring_105 : decode mi_X8_bring.2.1 105 = .ok (.getfield 83, 3) := by decide +kernel
theorem dX8_bring_108 : decode mi_X8_bring.2.1 108 = .ok (.iload 6, 2) := by decide +kernel
theorem dX8_bring_110 : decode mi_X8_bring.2.1 110 = .ok (.iaload, 1) := by decide +kernel
theorem dX8_bring_111 : decode mi_X8_bring.2.1 111 = .ok (.isub, 1) := by decide +kernel
theorem dX8_bring_112 : decode mi_X8_bring.2.1 112 = .ok (.i2l, 1) := by decide +kernel
theorem dX8_bring_113 : decode mi_X8_bring.2.1 113 = .ok (.ladd, 1) := by decide +kernel
theorem dX8_bring_114 : decode mi_X8_bring.2.1 114 = .ok (.lastore, 1) := by decide +kernel
theorem dX8_bring_115 : decode mi_X8_bring.2.1 115 = .ok (.lload 4, 2) := by decide +kernel
theorem dX8_bring_117 : decode mi_X8_bring.2.1 117 = .ok (.aload_n 0, 1) := by decide +kernel
theorem dX8_bring_118 : decode mi_X8_bring.2.1 118 = .ok (.iload 6, 2) := by decide +kernel
theorem dX8_bring_120 : decode mi_X8_bring.2.1 120 = .ok (.invokevirtual 347, 3) := by decide +kernel
theorem dX8_bring_123 : decode mi_X8_bring.2.1 123 = .ok (.aload_n 0, 1) := by decide +kernel
theorem dX8_bring_124 : decode mi_X8_bring.2.1 124 = .ok (.getfield 83, 3) := by decide +kernel
theorem dX8_bring_127 : decode mi_X8_bring.2.1 127 = .ok (.iload 6, 2) := by decide +kernel
theorem dX8_bring_129 : decode mi_X8_bring.2.1 129 = .ok (.iaload, 1) := by decide +kernel
theorem dX8_bring_130 : decode mi_X8_bring.2.1 130 = .ok (.isub, 1) := by decide +kernel
theorem dX8_bring_131 : decode mi_X8_bring.2.1 131 = .ok (.i2l, 1) := by decide +kernel
theorem dX8_bring_132 : decode mi_X8_bring.2.1 132 = .ok (.ladd, 1) := by decide +kernel
theorem dX8_bring_133 : decode mi_X8_bring.2.1 133 = .ok (.lstore 4, 2) := by decide +kernel
theorem dX8_bring_135 : decode mi_X8_bring.2.1 135 = .ok (.iinc 6 1, 3) := by decide +kernel
theorem dX8_bring_138 : decode mi_X8_bring.2.1 138 = .ok (.goto (-108), 3) := by decide +kernel
theorem dX8_bring_141 : decode mi_X8_bring.2.1 141 = .ok (.lload 4, 2) := by decide +kernel
theorem dX8_bring_143 : decode mi_X8_bring.2.1 143 = .ok (.lreturn, 1) := by decide +kernel
theorem v_X8_bring {G : ma_G} {d : Nat} {a0 : Nat} {x1 : Int32} {x2 : Int32} {x3 : Int32} {h : ah_T} {Q : Option ma_V → ah_T → Prop} {E : Nat → ah_T → Prop} (La0_h : LY8 h a0) (H : MX G mi_X8_bring (d + 1) 6 [some (rv a0), some (iv x1), some (iv x2), some (iv x3), some (jv (0 : Int64)), none, some (iv (0 : Int32))] [] h Q E) : MX G mi_X8_bring (d + 1) 0 [some (rv a0), some (iv x1), some (iv x2), some (iv x3), none, none, none] [] h Q E := by
  refine mx_lconst dX8_bring_0 lc_0 ?_
  refine mx_lstore (al' := [some (rv a0), some (iv x1), some (iv x2), some (iv x3), some (jv (0 : Int64)), none, none]) dX8_bring_1 (Nat.le_of_ble_eq_true rfl) rfl ?_
  refine mx_iconst dX8_bring_3 ic_0 ?_
  refine mx_istore (al' := [some (rv a0), some (iv x1), some (iv x2), some (iv x3), some (jv (0 : Int64)), none, some (iv (0 : Int32))]) dX8_bring_4 (Nat.le_of_ble_eq_true rfl) rfl ?_
  exact mx_weak (al' := [some (rv a0), some (iv x1), some (iv x2), some (iv x3), some (jv (0 : Int64)), none, some (iv (0 : Int32))]) ⟨rfl, ⟨rfl, ⟨rfl, ⟨rfl, ⟨rfl, ⟨rfl, trivial⟩⟩⟩⟩⟩⟩ H
theorem v_X8_bring_6 {G : ma_G} {d : Nat} {a0 : Nat} {x1 : Int32} {x2 : Int32} {x3 : Int32} {x4 : Int64} {x6 : Int32} {h : ah_T} {Q : Option ma_V → ah_T → Prop} {E : Nat → ah_T → Prop} (La0_h : LY8 h a0) (H : ((20 : Int32) ≤ x6 → MX G mi_X8_bring (d + 1) 30 [some (rv a0), some (iv x1), some (iv x2), some (iv x3), some (jv x4), none, some (iv (0 : Int32))] [] h Q E) ∧ (¬ (20 : Int32) ≤ x6 → vp_in x6 20 ∧ ∀ h3 : ah_T, h3 = ah_wJ h (a0 + 49) x6.toNatClampNeg (0 : Int64) → ah_ext h h3 → MX G mi_X8_bring (d + 1) 6 [some (rv a0), some (iv x1), some (iv x2), some (iv x3), some (jv x4), none, some (iv (x6 + (1 : Int32)))] [] h3 Q E)) : MX G mi_X8_bring (d + 1) 6 [some (rv a0), some (iv x1), some (iv x2), some (iv x3), some (jv x4), none, some (iv x6)] [] h Q E := by
  refine mx_iload dX8_bring_6 rfl ?_
  refine mx_bipush dX8_bring_8 ib_20 ?_
  refine mx_icmp_ge (tgt := 27) dX8_bring_10 rfl (fun c1 => ?_) (fun c1 => ?_)
  · have H := H.1 c1
    refine mx_iconst dX8_bring_27 ic_0 ?_
    refine mx_istore (al' := [some (rv a0), some (iv x1), some (iv x2), some (iv x3), some (jv x4), none, some (iv (0 : Int32))]) dX8_bring_28 (Nat.le_of_ble_eq_true rfl) rfl ?_
    exact mx_weak (al' := [some (rv a0), some (iv x1), some (iv x2), some (iv x3), some (jv x4), none, some (iv (0 : Int32))]) ⟨rfl, ⟨rfl, ⟨rfl, ⟨rfl, ⟨rfl, ⟨rfl, trivial⟩⟩⟩⟩⟩⟩ H
  · have H := H.2 c1
    refine mx_aload_n dX8_bring_13 rfl rfl ?_
    refine mx_get 8 73 (ref := "PrairiePoolModel") cl_8 (Nat.le_of_ble_eq_true rfl) (Or.inl q1700) (Or.inl rfl) dX8_bring_14 (fv_8_73 _ _) (ly8_k La0_h) ?_
    refine mx_tr (ly8_R_0_73 La0_h) ?_
    refine mx_iload dX8_bring_17 rfl ?_
    refine mx_lconst dX8_bring_19 lc_0 ?_
    obtain ⟨k2, H⟩ := H
    refine my_last dX8_bring_20 rfl (ly8_A_49 La0_h k2) ?_
    refine mx_nmJ  (fun h3 eh3 Xh3 Kh3 Lh3 => ?_)
    have H := H h3 eh3 Xh3
    have La0_h3 := La0_h.ext Xh3
    refine mx_iinc (al' := [some (rv a0), some (iv x1), some (iv x2), some (iv x3), some (jv x4), none, some (iv (x6 + (1 : Int32)))]) dX8_bring_21 rfl ic_1 rfl ?_
    refine mx_goto (tgt := 6) dX8_bring_24 rfl ?_
    exact mx_weak (al' := [some (rv a0), some (iv x1), some (iv x2), some (iv x3), some (jv x4), none, some (iv (x6 + (1 : Int32)))]) ⟨rfl, ⟨rfl, ⟨rfl, ⟨rfl, ⟨rfl, ⟨rfl, trivial⟩⟩⟩⟩⟩⟩ H
theorem v_X8_bring_30 {G : ma_G} {d : Nat} {a0 : Nat} {x1 : Int32} {x2 : Int32} {x3 : Int32} {x4 : Int64} {x6 : Int32} {h : ah_T} {Q : Option ma_V → ah_T → Prop} {E : Nat → ah_T → Prop} (La0_h : LY8 h a0) (H : ((ah_I h a0 7) ≤ x6 → Q (some (jv x4)) h) ∧ (¬ (ah_I h a0 7) ≤ x6 → vp_in x6 120 ∧ (x3 < (ah_I h (a0 + 18) x6.toNatClampNeg) → MX G mi_X8_bring (d + 1) 30 [some (rv a0), some (iv x1), some (iv x2), some (iv x3), some (jv x4), none, some (iv (x6 + (1 : Int32)))] [] h Q E) ∧ (¬ x3 < (ah_I h (a0 + 18) x6.toNatClampNeg) → (¬ (ah_I h (a0 + 9) x6.toNatClampNeg) = 0 → MX G mi_X8_bring (d + 1) 30 [some (rv a0), some (iv x1), some (iv x2), some (iv x3), some (jv x4), none, some (iv (x6 + (1 : Int32)))] [] h Q E) ∧ ((ah_I h (a0 + 9) x6.toNatClampNeg) = 0 → (¬ (ah_I h (a0 + 27) x6.toNatClampNeg) = x2 → MX G mi_X8_bring (d + 1) 30 [some (rv a0), some (iv x1), some (iv x2), some (iv x3), some (jv x4), none, some (iv (x6 + (1 : Int32)))] [] h Q E) ∧ ((ah_I h (a0 + 27) x6.toNatClampNeg) = x2 → ((ah_I h (a0 + 14) x6.toNatClampNeg) = x1 → vp_in (ah_I h (a0 + 10) x6.toNatClampNeg) 20 ∧ ∀ h8 : ah_T, h8 = ah_wJ h (a0 + 49) (ah_I h (a0 + 10) x6.toNatClampNeg).toNatClampNeg ((ah_J h (a0 + 49) (ah_I h (a0 + 10) x6.toNatClampNeg).toNatClampNeg) + (((ah_I h (a0 + 15) x6.toNatClampNeg) - (((ah_I h (a0 + 15) x6.toNatClampNeg) * (ah_I h (a0 + 16) x6.toNatClampNeg)) / (1000 : Int32))) - (ah_I h (a0 + 25) x6.toNatClampNeg)).toInt64) → ah_ext h h8 → MX G mi_X8_bring (d + 1) 30 [some (rv a0), some (iv x1), some (iv x2), some (iv x3), some (jv (x4 + (((ah_I h (a0 + 15) x6.toNatClampNeg) - (((ah_I h (a0 + 15) x6.toNatClampNeg) * (ah_I h (a0 + 16) x6.toNatClampNeg)) / (1000 : Int32))) - (ah_I h (a0 + 25) x6.toNatClampNeg)).toInt64)), none, some (iv (x6 + (1 : Int32)))] [] h8 Q E) ∧ (¬ (ah_I h (a0 + 14) x6.toNatClampNeg) = x1 → MX G mi_X8_bring (d + 1) 30 [some (rv a0), some (iv x1), some (iv x2), some (iv x3), some (jv x4), none, some (iv (x6 + (1 : Int32)))] [] h Q E)))))) : MX G mi_X8_bring (d + 1) 30 [some (rv a0), some (iv x1), some (iv x2), some (iv x3), some (jv x4), none, some (iv x6)] [] h Q E := by
  refine mx_iload dX8_bring_30 rfl ?_
  refine mx_aload_n dX8_bring_32 rfl rfl ?_
  refine mx_get 8 7 (ref := "PrairiePoolModel") cl_8 (Nat.le_of_ble_eq_true rfl) (Or.inl q1634) (Or.inl rfl) dX8_bring_33 (fv_8_7 _ _) (ly8_k La0_h) ?_
  refine mx_icmp_ge (tgt := 141) dX8_bring_36 rfl (fun c1 => ?_) (fun c1 => ?_)
  · have H := H.1 c1
    refine mx_lload dX8_bring_141 rfl ?_
    exact mx_lret rfl dX8_bring_143 H
  · have H := H.2 c1
    refine mx_aload_n dX8_bring_39 rfl rfl ?_
    refine mx_get 8 25 (ref := "PrairiePoolModel") cl_8 (Nat.le_of_ble_eq_true rfl) (Or.inl q1652) (Or.inl rfl) dX8_bring_40 (fv_8_25 _ _) (ly8_k La0_h) ?_
    refine mx_tr (ly8_R_0_25 La0_h) ?_
    refine mx_iload dX8_bring_43 rfl ?_
    obtain ⟨k2, H⟩ := H
    refine my_iald dX8_bring_45 rfl (ly8_A_18 La0_h k2) ?_
    refine mx_iload_n dX8_bring_46 rfl rfl ?_
    refine mx_icmp_gt (tgt := 135) dX8_bring_47 rfl (fun c3 => ?_) (fun c3 => ?_)
    · have H := H.1 c3
      refine mx_iinc (al' := [some (rv a0), some (iv x1), some (iv x2), some (iv x3), some (jv x4), none, some (iv (x6 + (1 : Int32)))]) dX8_bring_135 rfl ic_1 rfl ?_
      refine mx_goto (tgt := 30) dX8_bring_138 rfl ?_
      exact mx_weak (al' := [some (rv a0), some (iv x1), some (iv x2), some (iv x3), some (jv x4), none, some (iv (x6 + (1 : Int32)))]) ⟨rfl, ⟨rfl, ⟨rfl, ⟨rfl, ⟨rfl, ⟨rfl, trivial⟩⟩⟩⟩⟩⟩ H
    · have H := H.2 c3
      refine mx_aload_n dX8_bring_50 rfl rfl ?_
      refine mx_get 8 16 (ref := "PrairiePoolModel") cl_8 (Nat.le_of_ble_eq_true rfl) (Or.inl q1643) (Or.inl rfl) dX8_bring_51 (fv_8_16 _ _) (ly8_k La0_h) ?_
      refine mx_tr (ly8_R_0_16 La0_h) ?_
      refine mx_iload dX8_bring_54 rfl ?_
      refine my_iald dX8_bring_56 rfl (ly8_A_9 La0_h k2) ?_
      refine mx_if_ne (tgt := 135) dX8_bring_57 rfl (fun c4 => ?_) (fun c4 => ?_)
      · have H := H.1 c4
        refine mx_iinc (al' := [some (rv a0), some (iv x1), some (iv x2), some (iv x3), some (jv x4), none, some (iv (x6 + (1 : Int32)))]) dX8_bring_135 rfl ic_1 rfl ?_
        refine mx_goto (tgt := 30) dX8_bring_138 rfl ?_
        exact mx_weak (al' := [some (rv a0), some (iv x1), some (iv x2), some (iv x3), some (jv x4), none, some (iv (x6 + (1 : Int32)))]) ⟨rfl, ⟨rfl, ⟨rfl, ⟨rfl, ⟨rfl, ⟨rfl, trivial⟩⟩⟩⟩⟩⟩ H
      · have H := H.2 c4
        refine mx_aload_n dX8_bring_60 rfl rfl ?_
        refine mx_get 8 34 (ref := "PrairiePoolModel") cl_8 (Nat.le_of_ble_eq_true rfl) (Or.inl q1661) (Or.inl rfl) dX8_bring_61 (fv_8_34 _ _) (ly8_k La0_h) ?_
        refine mx_tr (ly8_R_0_34 La0_h) ?_
        refine mx_iload dX8_bring_64 rfl ?_
        refine my_iald dX8_bring_66 rfl (ly8_A_27 La0_h k2) ?_
        refine mx_iload_n dX8_bring_67 rfl rfl ?_
        refine mx_icmp_ne (tgt := 135) dX8_bring_68 rfl (fun c5 => ?_) (fun c5 => ?_)
        · have H := H.1 c5
          refine mx_iinc (al' := [some (rv a0), some (iv x1), some (iv x2), some (iv x3), some (jv x4), none, some (iv (x6 + (1 : Int32)))]) dX8_bring_135 rfl ic_1 rfl ?_
          refine mx_goto (tgt := 30) dX8_bring_138 rfl ?_
          exact mx_weak (al' := [some (rv a0), some (iv x1), some (iv x2), some (iv x3), some (jv x4), none, some (iv (x6 + (1 : Int32)))]) ⟨rfl, ⟨rfl, ⟨rfl, ⟨rfl, ⟨rfl, ⟨rfl, trivial⟩⟩⟩⟩⟩⟩ H
        · have H := H.2 c5
          refine mx_aload_n dX8_bring_71 rfl rfl ?_
          refine mx_get 8 21 (ref := "PrairiePoolModel") cl_8 (Nat.le_of_ble_eq_true rfl) (Or.inl q1648) (Or.inl rfl) dX8_bring_72 (fv_8_21 _ _) (ly8_k La0_h) ?_
          refine mx_tr (ly8_R_0_21 La0_h) ?_
          refine mx_iload dX8_bring_75 rfl ?_
          refine my_iald dX8_bring_77 rfl (ly8_A_14 La0_h k2) ?_
          refine mx_iload_n dX8_bring_78 rfl rfl ?_
          refine mx_icmp_eq (tgt := 85) dX8_bring_79 rfl (fun c6 => ?_) (fun c6 => ?_)
          · have H := H.1 c6
            refine mx_aload_n dX8_bring_85 rfl rfl ?_
            refine mx_get 8 73 (ref := "PrairiePoolModel") cl_8 (Nat.le_of_ble_eq_true rfl) (Or.inl q1700) (Or.inl rfl) dX8_bring_86 (fv_8_73 _ _) (ly8_k La0_h) ?_
            refine mx_tr (ly8_R_0_73 La0_h) ?_
            refine mx_aload_n dX8_bring_89 rfl rfl ?_
            refine mx_get 8 17 (ref := "PrairiePoolModel") cl_8 (Nat.le_of_ble_eq_true rfl) (Or.inl q1644) (Or.inl rfl) dX8_bring_90 (fv_8_17 _ _) (ly8_k La0_h) ?_
            refine mx_tr (ly8_R_0_17 La0_h) ?_
            refine mx_iload dX8_bring_93 rfl ?_
            refine my_iald dX8_bring_95 rfl (ly8_A_10 La0_h k2) ?_
            refine mx_dup2_ir dX8_bring_96 ?_
            obtain ⟨k7, H⟩ := H
            refine my_lald dX8_bring_97 rfl (ly8_A_49 La0_h k7) ?_
            refine mx_aload_n dX8_bring_98 rfl rfl ?_
            refine mx_iload dX8_bring_99 rfl ?_
            refine mx_callV 8 (y' := mi_X8_net) (vs := [iv x6]) (st := [jv (ah_J h (a0 + 49) (ah_I h (a0 + 10) x6.toNatClampNeg).toNatClampNeg), iv (ah_I h (a0 + 10) x6.toNatClampNeg), rv (a0 + 49)]) (al' := [some (rv a0), some (iv x6)]) cl_8 V_X8_net (Or.inl q2071) dX8_bring_101 rfl rfl (Nat.le_of_ble_eq_true rfl) (Nat.le_of_ble_eq_true rfl) (ly8_k La0_h) ?_
            refine mx_aload_n dX8_net_0 rfl rfl ?_
            refine mx_get 8 22 (ref := "PrairiePoolModel") cl_8 (Nat.le_of_ble_eq_true rfl) (Or.inl q1649) (Or.inl rfl) dX8_net_1 (fv_8_22 _ _) (ly8_k La0_h) ?_
            refine mx_tr (ly8_R_0_22 La0_h) ?_
            refine mx_iload_n dX8_net_4 rfl rfl ?_
            refine my_iald dX8_net_5 rfl (ly8_A_15 La0_h k2) ?_
            refine mx_aload_n dX8_net_6 rfl rfl ?_
            refine mx_get 8 22 (ref := "PrairiePoolModel") cl_8 (Nat.le_of_ble_eq_true rfl) (Or.inl q1649) (Or.inl rfl) dX8_net_7 (fv_8_22 _ _) (ly8_k La0_h) ?_
            refine mx_tr (ly8_R_0_22 La0_h) ?_
            refine mx_iload_n dX8_net_10 rfl rfl ?_
            refine my_iald dX8_net_11 rfl (ly8_A_15 La0_h k2) ?_
            refine mx_aload_n dX8_net_12 rfl rfl ?_
            refine mx_get 8 23 (ref := "PrairiePoolModel") cl_8 (Nat.le_of_ble_eq_true rfl) (Or.inl q1650) (Or.inl rfl) dX8_net_13 (fv_8_23 _ _) (ly8_k La0_h) ?_
            refine mx_tr (ly8_R_0_23 La0_h) ?_
            refine mx_iload_n dX8_net_16 rfl rfl ?_
            refine my_iald dX8_net_17 rfl (ly8_A_16 La0_h k2) ?_
            refine mx_imul dX8_net_18 ?_
            refine mx_sipush dX8_net_19 is_1000 ?_
            refine mx_idiv dX8_net_22 (by decide) ?_
            refine mx_isub dX8_net_23 ?_
            refine mx_iretK rfl dX8_net_24 ?_
            refine mx_aload_n dX8_bring_104 rfl rfl ?_
            refine mx_get 8 32 (ref := "PrairiePoolModel") cl_8 (Nat.le_of_ble_eq_true rfl) (Or.inl q1659) (Or.inl rfl) dX8_bring_105 (fv_8_32 _ _) (ly8_k La0_h) ?_
            refine mx_tr (ly8_R_0_32 La0_h) ?_
            refine mx_iload dX8_bring_108 rfl ?_
            refine my_iald dX8_bring_110 rfl (ly8_A_25 La0_h k2) ?_
            refine mx_isub dX8_bring_111 ?_
            refine mx_i2l dX8_bring_112 ?_
            refine mx_ladd dX8_bring_113 ?_
            refine my_last dX8_bring_114 rfl (ly8_A_49 La0_h k7) ?_
            refine mx_nmJ  (fun h8 eh8 Xh8 Kh8 Lh8 => ?_)
            have H := H h8 eh8 Xh8
            have La0_h8 := La0_h.ext Xh8
            refine mx_lload dX8_bring_115 rfl ?_
            refine mx_aload_n dX8_bring_117 rfl rfl ?_
            refine mx_iload dX8_bring_118 rfl ?_
            refine mx_callV 8 (y' := mi_X8_net) (vs := [iv x6]) (st := [jv x4]) (al' := [some (rv a0), some (iv x6)]) cl_8 V_X8_net (Or.inl q2071) dX8_bring_120 rfl rfl (Nat.le_of_ble_eq_true rfl) (Nat.le_of_ble_eq_true rfl) (ly8_k La0_h8) ?_
            refine mx_aload_n dX8_net_0 rfl rfl ?_
            refine mx_get 8 22 (ref := "PrairiePoolModel") cl_8 (Nat.le_of_ble_eq_true rfl) (Or.inl q1649) (Or.inl rfl) dX8_net_1 (fv_8_22 _ _) (ly8_k La0_h8) ?_
            refine mx_tr (ly8_R_0_22 La0_h8) ?_
            refine mx_iload_n dX8_net_4 rfl rfl ?_
            refine my_iald dX8_net_5 rfl (ly8_A_15 La0_h8 k2) ?_
            refine mx_ti (ah_IJ eh8) ?_
            refine mx_aload_n dX8_net_6 rfl rfl ?_
            refine mx_get 8 22 (ref := "PrairiePoolModel") cl_8 (Nat.le_of_ble_eq_true rfl) (Or.inl q1649) (Or.inl rfl) dX8_net_7 (fv_8_22 _ _) (ly8_k La0_h8) ?_
            refine mx_tr (ly8_R_0_22 La0_h8) ?_
            refine mx_iload_n dX8_net_10 rfl rfl ?_
            refine my_iald dX8_net_11 rfl (ly8_A_15 La0_h8 k2) ?_
            refine mx_ti (ah_IJ eh8) ?_
            refine mx_aload_n dX8_net_12 rfl rfl ?_
            refine mx_get 8 23 (ref := "PrairiePoolModel") cl_8 (Nat.le_of_ble_eq_true rfl) (Or.inl q1650) (Or.inl rfl) dX8_net_13 (fv_8_23 _ _) (ly8_k La0_h8) ?_
            refine mx_tr (ly8_R_0_23 La0_h8) ?_
            refine mx_iload_n dX8_net_16 rfl rfl ?_
            refine my_iald dX8_net_17 rfl (ly8_A_16 La0_h8 k2) ?_
            refine mx_ti (ah_IJ eh8) ?_
            refine mx_imul dX8_net_18 ?_
            refine mx_sipush dX8_net_19 is_1000 ?_
            refine mx_idiv dX8_net_22 (by decide) ?_
            refine mx_isub dX8_net_23 ?_
            refine mx_iretK rfl dX8_net_24 ?_
            refine mx_aload_n dX8_bring_123 rfl rfl ?_
            refine mx_get 8 32 (ref := "PrairiePoolModel") cl_8 (Nat.le_of_ble_eq_true rfl) (Or.inl q1659) (Or.inl rfl) dX8_bring_124 (fv_8_32 _ _) (ly8_k La0_h8) ?_
            refine mx_tr (ly8_R_0_32 La0_h8) ?_
            refine mx_iload dX8_bring_127 rfl ?_
            refine my_iald dX8_bring_129 rfl (ly8_A_25 La0_h8 k2) ?_
            refine mx_ti (ah_IJ eh8) ?_
            refine mx_isub dX8_bring_130 ?_
            refine mx_i2l dX8_bring_131 ?_
            refine mx_ladd dX8_bring_132 ?_
            refine mx_lstore (al' := [some (rv a0), some (iv x1), some (iv x2), some (iv x3), some (jv (x4 + (((ah_I h (a0 + 15) x6.toNatClampNeg) - (((ah_I h (a0 + 15) x6.toNatClampNeg) * (ah_I h (a0 + 16) x6.toNatClampNeg)) / (1000 : Int32))) - (ah_I h (a0 + 25) x6.toNatClampNeg)).toInt64)), none, some (iv x6)]) dX8_bring_133 (Nat.le_of_ble_eq_true rfl) rfl ?_
            refine mx_iinc (al' := [some (rv a0), some (iv x1), some (iv x2), some (iv x3), some (jv (x4 + (((ah_I h (a0 + 15) x6.toNatClampNeg) - (((ah_I h (a0 + 15) x6.toNatClampNeg) * (ah_I h (a0 + 16) x6.toNatClampNeg)) / (1000 : Int32))) - (ah_I h (a0 + 25) x6.toNatClampNeg)).toInt64)), none, some (iv (x6 + (1 : Int32)))]) dX8_bring_135 rfl ic_1 rfl ?_
            refine mx_goto (tgt := 30) dX8_bring_138 rfl ?_
            exact mx_weak (al' := [some (rv a0), some (iv x1), some (iv x2), some (iv x3), some (jv (x4 + (((ah_I h (a0 + 15) x6.toNatClampNeg) - (((ah_I h (a0 + 15) x6.toNatClampNeg) * (ah_I h (a0 + 16) x6.toNatClampNeg)) / (1000 : Int32))) - (ah_I h (a0 + 25) x6.toNatClampNeg)).toInt64)), none, some (iv (x6 + (1 : Int32)))]) ⟨rfl, ⟨rfl, ⟨rfl, ⟨rfl, ⟨rfl, ⟨rfl, trivial⟩⟩⟩⟩⟩⟩ H
          · have H := H.2 c6
            refine mx_goto (tgt := 135) dX8_bring_82 rfl ?_
            refine mx_iinc (al' := [some (rv a0), some (iv x1), some (iv x2), some (iv x3), some (jv x4), none, some (iv (x6 + (1 : Int32)))]) dX8_bring_135 rfl ic_1 rfl ?_
            refine mx_goto (tgt := 30) dX8_bring_138 rfl ?_
            exact mx_weak (al' := [some (rv a0), some (iv x1), some (iv x2), some (iv x3), some (jv x4), none, some (iv (x6 + (1 : Int32)))]) ⟨rfl, ⟨rfl, ⟨rfl, ⟨rfl, ⟨rfl, ⟨rfl, trivial⟩⟩⟩⟩⟩⟩ H
theorem dX8_last_0 : decode mi_X8_last.2.1 0 = .ok (.aload_n 0, 1) := by decide +kernel
theorem dX8_last_1 : decode mi_X8_last.2.1 1 = .ok (.iconst 0, 1) := by decide +kernel
theorem dX8_last_2 : decode mi_X8_last.2.1 2 = .ok (.putfield 257, 3) := by decide +kernel
theorem dX8_last_5 : decode mi_X8_last.2.1 5 = .ok (.aload_n 0, 1) := by decide +kernel
theorem dX8_last_6 : decode mi_X8_last.2.1 6 = .ok (.aload_n 0, 1) := by decide +kernel
theorem dX8_last_7 : decode mi_X8_last.2.1 7 = .ok (.iload_n 1, 1) := by decide +kernel
theorem dX8_last_8 : decode mi_X8_last.2.1 8 = .ok (.iload_n 2, 1) := by decide +kernel
theorem dX8_last_9 : decode mi_X8_last.2.1 9 = .ok (.iload_n 3, 1) := by decide +kernel
theorem dX8_last_10 : decode mi_X8_last.2.1 10 = .ok (.invokevirtual 618, 3) := by decide +kernel
theorem dX8_last_13 : decode mi_X8_last.2.1 13 = .ok (.putfield 260, 3) := by decide +kernel
theorem dX8_last_16 : decode mi_X8_last.2.1 16 = .ok (.aload_n 0, 1) := by decide +kernel
theorem dX8_last_17 : decode mi_X8_last.2.1 17 = .ok (.getfield 260, 3) := by decide +kernel
theorem dX8_last_20 : decode mi_X8_last.2.1 20 = .ok (.ifCond .le 7, 3) := by decide +kernel
theorem dX8_last_23 : decode mi_X8_last.2.1 23 = .ok (.ldc2_w 289, 3) := by decide +kernel
theorem dX8_last_26 : decode mi_X8_last.2.1 26 = .ok (.lreturn, 1) := by decide +kernel
theorem dX8_last_27 : decode mi_X8_last.2.1 27 = .ok (.aload_n 0, 1) := by decide +kernel
theorem dX8_last_28 : decode mi_X8_last.2.1 28 = .ok (.iload_n 2, 1) := by decide +kernel
theorem dX8_last_29 : decode mi_X8_last.2.1 29 = .ok (.iload_n 3, 1) := by decide +kernel
theorem dX8_last_30 : decode mi_X8_last.2.1 30 = .ok (.invokevirtual 621, 3) := by decide +kernel
theorem dX8_last_33 : decode mi_X8_last.2.1 33 = .ok (.aload_n 0, 1) := by decide +kernel
theorem dX8_last_34 : decode mi_X8_last.2.1 34 = .ok (.getfield 170, 3) := by decide +kernel
theorem dX8_last_37 : decode mi_X8_last.2.1 37 = .ok (.iload_n 1, 1) := by decide +kernel
theorem dX8_last_38 : decode mi_X8_last.2.1 38 = .ok (.laload, 1) := by decide +kernel
theorem dX8_last_39 : decode mi_X8_last.2.1 39 = .ok (.lreturn, 1) := by decide +kernel
theorem v_X8_last {G : ma_G} {d : Nat} {a0 : Nat} {x1 : Int32} {x2 : Int32} {x3 : Int32} {h : ah_T} {Q : Option ma_V → ah_T → Prop} {E : Nat → ah_T → Prop} (La0_h : LY8 h a0) (H : ∀ h1 : ah_T, h1 = ah_wI h a0 1 (0 : Int32) → ah_ext h h1 → (x1.toInt64 < (0 : Int64) → ∀ h3 : ah_T, h3 = ah_wI h1 a0 0 (2 : Int32) → ah_ext h1 h3 → Q (some (jv (-1 : Int64))) h3) ∧ (¬ x1.toInt64 < (0 : Int64) → (((ah_I h a0 5) - (1 : Int32)).toInt64 < x1.toInt64 → ∀ h5 : ah_T, h5 = ah_wI h1 a0 0 (2 : Int32) → ah_ext h1 h5 → Q (some (jv (-1 : Int64))) h5) ∧ (¬ ((ah_I h a0 5) - (1 : Int32)).toInt64 < x1.toInt64 → (x2.toInt64 < (0 : Int64) → ∀ h7 : ah_T, h7 = ah_wI h1 a0 0 (5 : Int32) → ah_ext h1 h7 → Q (some (jv (-1 : Int64))) h7) ∧ (¬ x2.toInt64 < (0 : Int64) → ((9 : Int64) < x2.toInt64 → ∀ h9 : ah_T, h9 = ah_wI h1 a0 0 (5 : Int32) → ah_ext h1 h9 → Q (some (jv (-1 : Int64))) h9) ∧ (¬ (9 : Int64) < x2.toInt64 → (x3.toInt64 < (0 : Int64) → ∀ h11 : ah_T, h11 = ah_wI h1 a0 0 (5 : Int32) → ah_ext h1 h11 → Q (some (jv (-1 : Int64))) h11) ∧ (¬ x3.toInt64 < (0 : Int64) → ((519 : Int64) < x3.toInt64 → ∀ h13 : ah_T, h13 = ah_wI h1 a0 0 (5 : Int32) → ah_ext h1 h13 → Q (some (jv (-1 : Int64))) h13) ∧ (¬ (519 : Int64) < x3.toInt64 → ∀ h14 : ah_T, h14 = ah_wI h1 a0 0 (0 : Int32) → ah_ext h1 h14 → MX G mi_X8_pay (d + 2) 0 [some (rv a0), some (iv x2), some (iv x3), none, none, none, none, none, none] [] h14 (Qv fun h15 => ah_ext h14 h15 → vp_in x1 20 ∧ Q (some (jv (ah_J h15 (a0 + 51) x1.toNatClampNeg))) h15) E))))))) : MX G mi_X8_last (d + 3) 0 [some (rv a0), some (iv x1), some (iv x2), some (iv x3)] [] h Q E := by
  refine mx_aload_n dX8_last_0 rfl rfl ?_
  refine mx_iconst dX8_last_1 ic_0 ?_
  refine mx_putI 8 1 (ref := "PrairiePoolModel") cl_8 (Nat.le_of_ble_eq_true rfl) (Or.inl q1628) (Or.inl rfl) dX8_last_2 (Or.inl rfl) rfl (ly8_k La0_h) ?_
  refine mx_nmI  (fun h1 eh1 Xh1 Kh1 Lh1 => ?_)
  have H := H h1 eh1 Xh1
  have La0_h1 := La0_h.ext Xh1
  refine mx_aload_n dX8_last_5 rfl rfl ?_
  refine mx_aload_n dX8_last_6 rfl rfl ?_
  refine mx_iload_n dX8_last_7 rfl rfl ?_
  refine mx_iload_n dX8_last_8 rfl rfl ?_
  refine mx_iload_n dX8_last_9 rfl rfl ?_
  refine mx_callV 8 (y' := mi_X8_asksFarm) (vs := [iv x1, iv x2, iv x3]) (st := [rv a0]) (al' := [some (rv a0), some (iv x1), some (iv x2), some (iv x3)]) cl_8 V_X8_asksFarm (Or.inl q2328) dX8_last_10 rfl rfl (Nat.le_of_ble_eq_true rfl) (Nat.le_of_ble_eq_true rfl) (ly8_k La0_h1) ?_
  refine mx_aload_n dX8_asksFarm_0 rfl rfl ?_
  refine mx_iload_n dX8_asksFarm_1 rfl rfl ?_
  refine mx_callV 8 (y' := mi_X8_isFarm) (vs := [iv x1]) (st := []) (al' := [some (rv a0), some (iv x1)]) cl_8 V_X8_isFarm (Or.inl q2014) dX8_asksFarm_2 rfl rfl (Nat.le_of_ble_eq_true rfl) (Nat.le_of_ble_eq_true rfl) (ly8_k La0_h1) ?_
  refine mx_iload_n dX8_isFarm_0 rfl rfl ?_
  refine mx_i2l dX8_isFarm_1 ?_
  refine mx_lconst dX8_isFarm_2 lc_0 ?_
  refine mx_aload_n dX8_isFarm_3 rfl rfl ?_
  refine mx_get 8 5 (ref := "PrairiePoolModel") cl_8 (Nat.le_of_ble_eq_true rfl) (Or.inl q1632) (Or.inl rfl) dX8_isFarm_4 (fv_8_5 _ _) (ly8_k La0_h1) ?_
  refine mx_ti (ah_skIK eh1 (by decide)) ?_
  refine mx_iconst dX8_isFarm_7 ic_1 ?_
  refine mx_isub dX8_isFarm_8 ?_
  refine mx_i2l dX8_isFarm_9 ?_
  refine mx_callS (y' := mi_X8_isIn) (vs := [jv x1.toInt64, jv (0 : Int64), jv ((ah_I h a0 5) - (1 : Int32)).toInt64]) (st := []) (al' := [some (jv x1.toInt64), none, some (jv (0 : Int64)), none, some (jv ((ah_I h a0 5) - (1 : Int32)).toInt64), none]) S_X8_isIn q1996 dX8_isFarm_10 rfl rfl (Nat.le_of_ble_eq_true rfl) (Nat.le_of_ble_eq_true rfl) ?_
  refine mx_lload_n dX8_isIn_0 rfl rfl ?_
  refine mx_lload_n dX8_isIn_1 rfl rfl ?_
  refine mx_lif_lt (tgt := 17) dX8_isIn_2 dX8_isIn_3 rfl (fun c2 => ?_) (fun c2 => ?_)
  · have H := H.1 c2
    refine mx_iconst dX8_isIn_17 ic_0 ?_
    refine mx_zretK rfl dX8_isIn_18 (Or.inl rfl) ?_
    refine mx_zretK rfl dX8_isFarm_13 (Or.inl rfl) ?_
    refine mx_if_ne (tgt := 12) dX8_asksFarm_5 rfl (fun _ => absurd ‹_› (by decide)) (fun _ => ?_)
    refine mx_iconst dX8_asksFarm_8 ic_2 ?_
    refine mx_goto (tgt := 31) dX8_asksFarm_9 rfl ?_
    refine mx_iretK rfl dX8_asksFarm_31 ?_
    refine mx_putI 8 0 (ref := "PrairiePoolModel") cl_8 (Nat.le_of_ble_eq_true rfl) (Or.inl q1627) (Or.inl rfl) dX8_last_13 (Or.inl rfl) rfl (ly8_k La0_h1) ?_
    refine mx_nmI  (fun h3 eh3 Xh3 Kh3 Lh3 => ?_)
    have H := H h3 eh3 Xh3
    have Kh3 := Kh3.trans Kh1
    have Lh3 := Lh3.trans Lh1
    have La0_h3 := La0_h1.ext Xh3
    refine mx_aload_n dX8_last_16 rfl rfl ?_
    refine mx_get 8 0 (ref := "PrairiePoolModel") cl_8 (Nat.le_of_ble_eq_true rfl) (Or.inl q1627) (Or.inl rfl) dX8_last_17 (fv_8_0 _ _) (ly8_k La0_h3) ?_
    refine mx_ti (ah_hitI eh3) ?_
    refine mx_if_le (tgt := 27) dX8_last_20 rfl (fun _ => absurd ‹_› (by decide)) (fun _ => ?_)
    refine mx_ldc2 q1986 dX8_last_23 ?_
    exact mx_lret rfl dX8_last_26 H
  · have H := H.2 c2
    refine mx_lload_n dX8_isIn_6 rfl rfl ?_
    refine mx_lload dX8_isIn_7 rfl ?_
    refine mx_lif_gt (tgt := 17) dX8_isIn_9 dX8_isIn_10 rfl (fun c4 => ?_) (fun c4 => ?_)
    · have H := H.1 c4
      refine mx_iconst dX8_isIn_17 ic_0 ?_
      refine mx_zretK rfl dX8_isIn_18 (Or.inl rfl) ?_
      refine mx_zretK rfl dX8_isFarm_13 (Or.inl rfl) ?_
      refine mx_if_ne (tgt := 12) dX8_asksFarm_5 rfl (fun _ => absurd ‹_› (by decide)) (fun _ => ?_)
      refine mx_iconst dX8_asksFarm_8 ic_2 ?_
      refine mx_goto (tgt := 31) dX8_asksFarm_9 rfl ?_
      refine mx_iretK rfl dX8_asksFarm_31 ?_
      refine mx_putI 8 0 (ref := "PrairiePoolModel") cl_8 (Nat.le_of_ble_eq_true rfl) (Or.inl q1627) (Or.inl rfl) dX8_last_13 (Or.inl rfl) rfl (ly8_k La0_h1) ?_
      refine mx_nmI  (fun h5 eh5 Xh5 Kh5 Lh5 => ?_)
      have H := H h5 eh5 Xh5
      have Kh5 := Kh5.trans Kh1
      have Lh5 := Lh5.trans Lh1
      have La0_h5 := La0_h1.ext Xh5
      refine mx_aload_n dX8_last_16 rfl rfl ?_
      refine mx_get 8 0 (ref := "PrairiePoolModel") cl_8 (Nat.le_of_ble_eq_true rfl) (Or.inl q1627) (Or.inl rfl) dX8_last_17 (fv_8_0 _ _) (ly8_k La0_h5) ?_
      refine mx_ti (ah_hitI eh5) ?_
      refine mx_if_le (tgt := 27) dX8_last_20 rfl (fun _ => absurd ‹_› (by decide)) (fun _ => ?_)
      refine mx_ldc2 q1986 dX8_last_23 ?_
      exact mx_lret rfl dX8_last_26 H
    · have H := H.2 c4
      refine mx_iconst dX8_isIn_13 ic_1 ?_
      refine mx_goto (tgt := 18) dX8_isIn_14 rfl ?_
      refine mx_zretK rfl dX8_isIn_18 (Or.inr rfl) ?_
      refine mx_zretK rfl dX8_isFarm_13 (Or.inr rfl) ?_
      refine mx_if_ne (tgt := 12) dX8_asksFarm_5 rfl (fun _ => ?_) (fun _ => absurd ‹_› (by decide))
      refine mx_iload_n dX8_asksFarm_12 rfl rfl ?_
      refine mx_callS (y' := mi_X8_isYear) (vs := [iv x2]) (st := []) (al' := [some (iv x2)]) S_X8_isYear q2039 dX8_asksFarm_13 rfl rfl (Nat.le_of_ble_eq_true rfl) (Nat.le_of_ble_eq_true rfl) ?_
      refine mx_iload_n dX8_isYear_0 rfl rfl ?_
      refine mx_i2l dX8_isYear_1 ?_
      refine mx_lconst dX8_isYear_2 lc_0 ?_
      refine mx_ldc2 q2042 dX8_isYear_3 ?_
      refine mx_callS (y' := mi_X8_isIn) (vs := [jv x2.toInt64, jv (0 : Int64), jv (9 : Int64)]) (st := []) (al' := [some (jv x2.toInt64), none, some (jv (0 : Int64)), none, some (jv (9 : Int64)), none]) S_X8_isIn q1996 dX8_isYear_6 rfl rfl (Nat.le_of_ble_eq_true rfl) (Nat.le_of_ble_eq_true rfl) ?_
      refine mx_lload_n dX8_isIn_0 rfl rfl ?_
      refine mx_lload_n dX8_isIn_1 rfl rfl ?_
      refine mx_lif_lt (tgt := 17) dX8_isIn_2 dX8_isIn_3 rfl (fun c6 => ?_) (fun c6 => ?_)
      · have H := H.1 c6
        refine mx_iconst dX8_isIn_17 ic_0 ?_
        refine mx_zretK rfl dX8_isIn_18 (Or.inl rfl) ?_
        refine mx_zretK rfl dX8_isYear_9 (Or.inl rfl) ?_
        refine mx_if_eq (tgt := 26) dX8_asksFarm_16 rfl (fun _ => ?_) (fun _ => absurd ‹_› (by decide))
        refine mx_iconst dX8_asksFarm_26 ic_5 ?_
        refine mx_goto (tgt := 31) dX8_asksFarm_27 rfl ?_
        refine mx_iretK rfl dX8_asksFarm_31 ?_
        refine mx_putI 8 0 (ref := "PrairiePoolModel") cl_8 (Nat.le_of_ble_eq_true rfl) (Or.inl q1627) (Or.inl rfl) dX8_last_13 (Or.inl rfl) rfl (ly8_k La0_h1) ?_
        refine mx_nmI  (fun h7 eh7 Xh7 Kh7 Lh7 => ?_)
        have H := H h7 eh7 Xh7
        have Kh7 := Kh7.trans Kh1
        have Lh7 := Lh7.trans Lh1
        have La0_h7 := La0_h1.ext Xh7
        refine mx_aload_n dX8_last_16 rfl rfl ?_
        refine mx_get 8 0 (ref := "PrairiePoolModel") cl_8 (Nat.le_of_ble_eq_true rfl) (Or.inl q1627) (Or.inl rfl) dX8_last_17 (fv_8_0 _ _) (ly8_k La0_h7) ?_
        refine mx_ti (ah_hitI eh7) ?_
        refine mx_if_le (tgt := 27) dX8_last_20 rfl (fun _ => absurd ‹_› (by decide)) (fun _ => ?_)
        refine mx_ldc2 q1986 dX8_last_23 ?_
        exact mx_lret rfl dX8_last_26 H
      · have H := H.2 c6
        refine mx_lload_n dX8_isIn_6 rfl rfl ?_
        refine mx_lload dX8_isIn_7 rfl ?_
        refine mx_lif_gt (tgt := 17) dX8_isIn_9 dX8_isIn_10 rfl (fun c8 => ?_) (fun c8 => ?_)
        · have H := H.1 c8
          refine mx_iconst dX8_isIn_17 ic_0 ?_
          refine mx_zretK rfl dX8_isIn_18 (Or.inl rfl) ?_
          refine mx_zretK rfl dX8_isYear_9 (Or.inl rfl) ?_
          refine mx_if_eq (tgt := 26) dX8_asksFarm_16 rfl (fun _ => ?_) (fun _ => absurd ‹_› (by decide))
          refine mx_iconst dX8_asksFarm_26 ic_5 ?_
          refine mx_goto (tgt := 31) dX8_asksFarm_27 rfl ?_
          refine mx_iretK rfl dX8_asksFarm_31 ?_
          refine mx_putI 8 0 (ref := "PrairiePoolModel") cl_8 (Nat.le_of_ble_eq_true rfl) (Or.inl q1627) (Or.inl rfl) dX8_last_13 (Or.inl rfl) rfl (ly8_k La0_h1) ?_
          refine mx_nmI  (fun h9 eh9 Xh9 Kh9 Lh9 => ?_)
          have H := H h9 eh9 Xh9
          have Kh9 := Kh9.trans Kh1
          have Lh9 := Lh9.trans Lh1
          have La0_h9 := La0_h1.ext Xh9
          refine mx_aload_n dX8_last_16 rfl rfl ?_
          refine mx_get 8 0 (ref := "PrairiePoolModel") cl_8 (Nat.le_of_ble_eq_true rfl) (Or.inl q1627) (Or.inl rfl) dX8_last_17 (fv_8_0 _ _) (ly8_k La0_h9) ?_
          refine mx_ti (ah_hitI eh9) ?_
          refine mx_if_le (tgt := 27) dX8_last_20 rfl (fun _ => absurd ‹_› (by decide)) (fun _ => ?_)
          refine mx_ldc2 q1986 dX8_last_23 ?_
          exact mx_lret rfl dX8_last_26 H
        · have H := H.2 c8
          refine mx_iconst dX8_isIn_13 ic_1 ?_
          refine mx_goto (tgt := 18) dX8_isIn_14 rfl ?_
          refine mx_zretK rfl dX8_isIn_18 (Or.inr rfl) ?_
          refine mx_zretK rfl dX8_isYear_9 (Or.inr rfl) ?_
          refine mx_if_eq (tgt := 26) dX8_asksFarm_16 rfl (fun _ => absurd ‹_› (by decide)) (fun _ => ?_)
          refine mx_iload_n dX8_asksFarm_19 rfl rfl ?_
          refine mx_callS (y' := mi_X8_isDay) (vs := [iv x3]) (st := []) (al' := [some (iv x3)]) S_X8_isDay q2028 dX8_asksFarm_20 rfl rfl (Nat.le_of_ble_eq_true rfl) (Nat.le_of_ble_eq_true rfl) ?_
          refine mx_iload_n dX8_isDay_0 rfl rfl ?_
          refine mx_i2l dX8_isDay_1 ?_
          refine mx_lconst dX8_isDay_2 lc_0 ?_
          refine mx_ldc2 q2031 dX8_isDay_3 ?_
          refine mx_callS (y' := mi_X8_isIn) (vs := [jv x3.toInt64, jv (0 : Int64), jv (519 : Int64)]) (st := []) (al' := [some (jv x3.toInt64), none, some (jv (0 : Int64)), none, some (jv (519 : Int64)), none]) S_X8_isIn q1996 dX8_isDay_6 rfl rfl (Nat.le_of_ble_eq_true rfl) (Nat.le_of_ble_eq_true rfl) ?_
          refine mx_lload_n dX8_isIn_0 rfl rfl ?_
          refine mx_lload_n dX8_isIn_1 rfl rfl ?_
          refine mx_lif_lt (tgt := 17) dX8_isIn_2 dX8_isIn_3 rfl (fun c10 => ?_) (fun c10 => ?_)
          · have H := H.1 c10
            refine mx_iconst dX8_isIn_17 ic_0 ?_
            refine mx_zretK rfl dX8_isIn_18 (Or.inl rfl) ?_
            refine mx_zretK rfl dX8_isDay_9 (Or.inl rfl) ?_
            refine mx_if_ne (tgt := 30) dX8_asksFarm_23 rfl (fun _ => absurd ‹_› (by decide)) (fun _ => ?_)
            refine mx_iconst dX8_asksFarm_26 ic_5 ?_
            refine mx_goto (tgt := 31) dX8_asksFarm_27 rfl ?_
            refine mx_iretK rfl dX8_asksFarm_31 ?_
            refine mx_putI 8 0 (ref := "PrairiePoolModel") cl_8 (Nat.le_of_ble_eq_true rfl) (Or.inl q1627) (Or.inl rfl) dX8_last_13 (Or.inl rfl) rfl (ly8_k La0_h1) ?_
            refine mx_nmI  (fun h11 eh11 Xh11 Kh11 Lh11 => ?_)
            have H := H h11 eh11 Xh11
            have Kh11 := Kh11.trans Kh1
            have Lh11 := Lh11.trans Lh1
            have La0_h11 := La0_h1.ext Xh11
            refine mx_aload_n dX8_last_16 rfl rfl ?_
            refine mx_get 8 0 (ref := "PrairiePoolModel") cl_8 (Nat.le_of_ble_eq_true rfl) (Or.inl q1627) (Or.inl rfl) dX8_last_17 (fv_8_0 _ _) (ly8_k La0_h11) ?_
            refine mx_ti (ah_hitI eh11) ?_
            refine mx_if_le (tgt := 27) dX8_last_20 rfl (fun _ => absurd ‹_› (by decide)) (fun _ => ?_)
            refine mx_ldc2 q1986 dX8_last_23 ?_
            exact mx_lret rfl dX8_last_26 H
          · have H := H.2 c10
            refine mx_lload_n dX8_isIn_6 rfl rfl ?_
            refine mx_lload dX8_isIn_7 rfl ?_
            refine mx_lif_gt (tgt := 17) dX8_isIn_9 dX8_isIn_10 rfl (fun c12 => ?_) (fun c12 => ?_)
            · have H := H.1 c12
              refine mx_iconst dX8_isIn_17 ic_0 ?_
              refine mx_zretK rfl dX8_isIn_18 (Or.inl rfl) ?_
              refine mx_zretK rfl dX8_isDay_9 (Or.inl rfl) ?_
              refine mx_if_ne (tgt := 30) dX8_asksFarm_23 rfl (fun _ => absurd ‹_› (by decide)) (fun _ => ?_)
              refine mx_iconst dX8_asksFarm_26 ic_5 ?_
              refine mx_goto (tgt := 31) dX8_asksFarm_27 rfl ?_
              refine mx_iretK rfl dX8_asksFarm_31 ?_
              refine mx_putI 8 0 (ref := "PrairiePoolModel") cl_8 (Nat.le_of_ble_eq_true rfl) (Or.inl q1627) (Or.inl rfl) dX8_last_13 (Or.inl rfl) rfl (ly8_k La0_h1) ?_
              refine mx_nmI  (fun h13 eh13 Xh13 Kh13 Lh13 => ?_)
              have H := H h13 eh13 Xh13
              have Kh13 := Kh13.trans Kh1
              have Lh13 := Lh13.trans Lh1
              have La0_h13 := La0_h1.ext Xh13
              refine mx_aload_n dX8_last_16 rfl rfl ?_
              refine mx_get 8 0 (ref := "PrairiePoolModel") cl_8 (Nat.le_of_ble_eq_true rfl) (Or.inl q1627) (Or.inl rfl) dX8_last_17 (fv_8_0 _ _) (ly8_k La0_h13) ?_
              refine mx_ti (ah_hitI eh13) ?_
              refine mx_if_le (tgt := 27) dX8_last_20 rfl (fun _ => absurd ‹_› (by decide)) (fun _ => ?_)
              refine mx_ldc2 q1986 dX8_last_23 ?_
              exact mx_lret rfl dX8_last_26 H
            · have H := H.2 c12
              refine mx_iconst dX8_isIn_13 ic_1 ?_
              refine mx_goto (tgt := 18) dX8_isIn_14 rfl ?_
              refine mx_zretK rfl dX8_isIn_18 (Or.inr rfl) ?_
              refine mx_zretK rfl dX8_isDay_9 (Or.inr rfl) ?_
              refine mx_if_ne (tgt := 30) dX8_asksFarm_23 rfl (fun _ => ?_) (fun _ => absurd ‹_› (by decide))
              refine mx_iconst dX8_asksFarm_30 ic_0 ?_
              refine mx_iretK rfl dX8_asksFarm_31 ?_
              refine mx_putI 8 0 (ref := "PrairiePoolModel") cl_8 (Nat.le_of_ble_eq_true rfl) (Or.inl q1627) (Or.inl rfl) dX8_last_13 (Or.inl rfl) rfl (ly8_k La0_h1) ?_
              refine mx_nmI  (fun h14 eh14 Xh14 Kh14 Lh14 => ?_)
              have H := H h14 eh14 Xh14
              have Kh14 := Kh14.trans Kh1
              have Lh14 := Lh14.trans Lh1
              have La0_h14 := La0_h1.ext Xh14
              refine mx_aload_n dX8_last_16 rfl rfl ?_
              refine mx_get 8 0 (ref := "PrairiePoolModel") cl_8 (Nat.le_of_ble_eq_true rfl) (Or.inl q1627) (Or.inl rfl) dX8_last_17 (fv_8_0 _ _) (ly8_k La0_h14) ?_
              refine mx_ti (ah_hitI eh14) ?_
              refine mx_if_le (tgt := 27) dX8_last_20 rfl (fun _ => ?_) (fun _ => absurd ‹_› (by decide))
              refine mx_aload_n dX8_last_27 rfl rfl ?_
              refine mx_iload_n dX8_last_28 rfl rfl ?_
              refine mx_iload_n dX8_last_29 rfl rfl ?_
              refine mx_callV 8 (y' := mi_X8_pay) (vs := [iv x2, iv x3]) (st := []) (al' := [some (rv a0), some (iv x2), some (iv x3), none, none, none, none, none, none]) cl_8 V_X8_pay (Or.inl q2332) dX8_last_30 rfl rfl (Nat.le_of_ble_eq_true rfl) (Nat.le_of_ble_eq_true rfl) (ly8_k La0_h14) ?_
              refine ma_kv H (fun h15 Xh15 H => ?_) (fun x1 h1 X1 H => mt_out rfl H)
              have H := H Xh15
              have La0_h15 := La0_h14.ext Xh15
              refine mx_aload_n dX8_last_33 rfl rfl ?_
              refine mx_get 8 75 (ref := "PrairiePoolModel") cl_8 (Nat.le_of_ble_eq_true rfl) (Or.inl q1702) (Or.inl rfl) dX8_last_34 (fv_8_75 _ _) (ly8_k La0_h15) ?_
              refine mx_tr (ly8_R_0_75 La0_h15) ?_
              refine mx_iload_n dX8_last_37 rfl rfl ?_
              obtain ⟨k17, H⟩ := H
              refine my_lald dX8_last_38 rfl (ly8_A_51 La0_h15 k17) ?_
              exact mx_lret rfl dX8_last_39 H

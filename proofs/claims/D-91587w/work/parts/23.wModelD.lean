/-! walks -/
set_option maxRecDepth 100000
theorem v_X8_asksFarm {G : ma_G} {d : Nat} {a0 : Nat} {x1 : Int32} {x2 : Int32} {x3 : Int32} {h : ah_T} {Q : Option ma_V → ah_T → Prop} {E : Nat → ah_T → Prop} (La0_h : LY8 h a0) (H : (x1.toInt64 < (0 : Int64) → Q (some (iv (2 : Int32))) h) ∧ (¬ x1.toInt64 < (0 : Int64) → (((ah_I h a0 5) - (1 : Int32)).toInt64 < x1.toInt64 → Q (some (iv (2 : Int32))) h) ∧ (¬ ((ah_I h a0 5) - (1 : Int32)).toInt64 < x1.toInt64 → (x2.toInt64 < (0 : Int64) → Q (some (iv (5 : Int32))) h) ∧ (¬ x2.toInt64 < (0 : Int64) → ((9 : Int64) < x2.toInt64 → Q (some (iv (5 : Int32))) h) ∧ (¬ (9 : Int64) < x2.toInt64 → (x3.toInt64 < (0 : Int64) → Q (some (iv (5 : Int32))) h) ∧ (¬ x3.toInt64 < (0 : Int64) → ((519 : Int64) < x3.toInt64 → Q (some (iv (5 : Int32))) h) ∧ (¬ (519 : Int64) < x3.toInt64 → Q (some (iv (0 : Int32))) h))))))) : MX G mi_X8_asksFarm (d + 2) 0 [some (rv a0), some (iv x1), some (iv x2), some (iv x3)] [] h Q E := by
  refine mx_aload_n dX8_asksFarm_0 rfl rfl ?_
  refine mx_iload_n dX8_asksFarm_1 rfl rfl ?_
  refine mx_callV 8 (y' := mi_X8_isFarm) (vs := [iv x1]) (st := []) (al' := [some (rv a0), some (iv x1)]) cl_8 V_X8_isFarm (Or.inl q2014) dX8_asksFarm_2 rfl rfl (Nat.le_of_ble_eq_true rfl) (Nat.le_of_ble_eq_true rfl) (ly8_k La0_h) ?_
  refine mx_iload_n dX8_isFarm_0 rfl rfl ?_
  refine mx_i2l dX8_isFarm_1 ?_
  refine mx_lconst dX8_isFarm_2 lc_0 ?_
  refine mx_aload_n dX8_isFarm_3 rfl rfl ?_
  refine mx_get 8 5 (ref := "PrairiePoolModel") cl_8 (Nat.le_of_ble_eq_true rfl) (Or.inl q1632) (Or.inl rfl) dX8_isFarm_4 (fv_8_5 _ _) (ly8_k La0_h) ?_
  refine mx_iconst dX8_isFarm_7 ic_1 ?_
  refine mx_isub dX8_isFarm_8 ?_
  refine mx_i2l dX8_isFarm_9 ?_
  refine mx_callS (y' := mi_X8_isIn) (vs := [jv x1.toInt64, jv (0 : Int64), jv ((ah_I h a0 5) - (1 : Int32)).toInt64]) (st := []) (al' := [some (jv x1.toInt64), none, some (jv (0 : Int64)), none, some (jv ((ah_I h a0 5) - (1 : Int32)).toInt64), none]) S_X8_isIn q1996 dX8_isFarm_10 rfl rfl (Nat.le_of_ble_eq_true rfl) (Nat.le_of_ble_eq_true rfl) ?_
  refine mx_lload_n dX8_isIn_0 rfl rfl ?_
  refine mx_lload_n dX8_isIn_1 rfl rfl ?_
  refine mx_lif_lt (tgt := 17) dX8_isIn_2 dX8_isIn_3 rfl (fun c1 => ?_) (fun c1 => ?_)
  · have H := H.1 c1
    refine mx_iconst dX8_isIn_17 ic_0 ?_
    refine mx_zretK rfl dX8_isIn_18 (Or.inl rfl) ?_
    refine mx_zretK rfl dX8_isFarm_13 (Or.inl rfl) ?_
    refine mx_if_ne (tgt := 12) dX8_asksFarm_5 rfl (fun _ => absurd ‹_› (by decide)) (fun _ => ?_)
    refine mx_iconst dX8_asksFarm_8 ic_2 ?_
    refine mx_goto (tgt := 31) dX8_asksFarm_9 rfl ?_
    exact mx_iret rfl dX8_asksFarm_31 H
  · have H := H.2 c1
    refine mx_lload_n dX8_isIn_6 rfl rfl ?_
    refine mx_lload dX8_isIn_7 rfl ?_
    refine mx_lif_gt (tgt := 17) dX8_isIn_9 dX8_isIn_10 rfl (fun c2 => ?_) (fun c2 => ?_)
    · have H := H.1 c2
      refine mx_iconst dX8_isIn_17 ic_0 ?_
      refine mx_zretK rfl dX8_isIn_18 (Or.inl rfl) ?_
      refine mx_zretK rfl dX8_isFarm_13 (Or.inl rfl) ?_
      refine mx_if_ne (tgt := 12) dX8_asksFarm_5 rfl (fun _ => absurd ‹_› (by decide)) (fun _ => ?_)
      refine mx_iconst dX8_asksFarm_8 ic_2 ?_
      refine mx_goto (tgt := 31) dX8_asksFarm_9 rfl ?_
      exact mx_iret rfl dX8_asksFarm_31 H
    · have H := H.2 c2
      refine mx_iconst dX8_isIn_13 ic_1 ?_
      refine mx_goto (tgt := 18) dX8_isIn_14 rfl ?_
      refine mx_zretK rfl dX8_isIn_18 (Or.inr rfl) ?_
      refine mx_zretK rfl dX8_isFarm_13 (Or.inr rfl) ?_
      refine mx_if_ne (tgt := 12) dX8_asksFarm_5 rfl (fun _ => ?_) (fun _ => absurd ‹_› (by decide))
      refine mx_iload_n dX8_asksFarm_12 rfl rfl ?_
      refine mx_callS (y' := mi_X8_isYear) (vs := [iv x2]) (st := []) (al' := [some (iv x2)]) S_X8_isYear q2039 dX8_asksFarm_13 rfl rfl (Nat.le_of_ble_eq_true rfl) (Nat.le_of_ble_eq_true rfl) ?_
      refine mx_iload_n dX8_isYear_0 rfl rfl ?_
      refine mx_i2l dX8_isYear_1 ?_
      refine mx_lconst dX8_isYear_2 lc_0 ?_
      refine mx_ldc2 q2042 dX8_isYear_3 ?_
      refine mx_callS (y' := mi_X8_isIn) (vs := [jv x2.toInt64, jv (0 : Int64), jv (9 : Int64)]) (st := []) (al' := [some (jv x2.toInt64), none, some (jv (0 : Int64)), none, some (jv (9 : Int64)), none]) S_X8_isIn q1996 dX8_isYear_6 rfl rfl (Nat.le_of_ble_eq_true rfl) (Nat.le_of_ble_eq_true rfl) ?_
      refine mx_lload_n dX8_isIn_0 rfl rfl ?_
      refine mx_lload_n dX8_isIn_1 rfl rfl ?_
      refine mx_lif_lt (tgt := 17) dX8_isIn_2 dX8_isIn_3 rfl (fun c3 => ?_) (fun c3 => ?_)
      · have H := H.1 c3
        refine mx_iconst dX8_isIn_17 ic_0 ?_
        refine mx_zretK rfl dX8_isIn_18 (Or.inl rfl) ?_
        refine mx_zretK rfl dX8_isYear_9 (Or.inl rfl) ?_
        refine mx_if_eq (tgt := 26) dX8_asksFarm_16 rfl (fun _ => ?_) (fun _ => absurd ‹_› (by decide))
        refine mx_iconst dX8_asksFarm_26 ic_5 ?_
        refine mx_goto (tgt := 31) dX8_asksFarm_27 rfl ?_
        exact mx_iret rfl dX8_asksFarm_31 H
      · have H := H.2 c3
        refine mx_lload_n dX8_isIn_6 rfl rfl ?_
        refine mx_lload dX8_isIn_7 rfl ?_
        refine mx_lif_gt (tgt := 17) dX8_isIn_9 dX8_isIn_10 rfl (fun c4 => ?_) (fun c4 => ?_)
        · have H := H.1 c4
          refine mx_iconst dX8_isIn_17 ic_0 ?_
          refine mx_zretK rfl dX8_isIn_18 (Or.inl rfl) ?_
          refine mx_zretK rfl dX8_isYear_9 (Or.inl rfl) ?_
          refine mx_if_eq (tgt := 26) dX8_asksFarm_16 rfl (fun _ => ?_) (fun _ => absurd ‹_› (by decide))
          refine mx_iconst dX8_asksFarm_26 ic_5 ?_
          refine mx_goto (tgt := 31) dX8_asksFarm_27 rfl ?_
          exact mx_iret rfl dX8_asksFarm_31 H
        · have H := H.2 c4
          refine mx_iconst dX8_isIn_13 ic_1 ?_
          refine mx_goto (tgt := 18) dX8_isIn_14 rfl ?_
          refine mx_zretK rfl dX8_isIn_18 (Or.inr rfl) ?_
          refine mx_zretK rfl dX8_isYear_9 (Or.inr rfl) ?_
          refine mx_if_eq (tgt := 26) dX8_asksFarm_16 rfl (fun _ => absurd ‹_› (by decide)) (fun _ => ?_)
          refine mx_iload_n dX8_asksFarm_19 rfl rfl ?_
          refine mx_callS (y' := mi_X8_isDay) (vs := [iv x3]) (st := []) (al' := [some (iv x3)]) S_X8_isDay q2028 dX8_asksFarm_20 rfl rfl (Nat.le_of_ble_eq_true rfl) (Nat.le_of_ble_eq_true rfl) ?_
          refine mx_iload_n dX8_isDay_0 rfl rfl ?_
          refine mx_i2l dX8_isDay_1 ?_
          refine mx_lconst dX8_isDay_2 lc_0 ?_
          refine mx_ldc2 q2031 dX8_isDay_3 ?_
          refine mx_callS (y' := mi_X8_isIn) (vs := [jv x3.toInt64, jv (0 : Int64), jv (519 : Int64)]) (st := []) (al' := [some (jv x3.toInt64), none, some (jv (0 : Int64)), none, some (jv (519 : Int64)), none]) S_X8_isIn q1996 dX8_isDay_6 rfl rfl (Nat.le_of_ble_eq_true rfl) (Nat.le_of_ble_eq_true rfl) ?_
          refine mx_lload_n dX8_isIn_0 rfl rfl ?_
          refine mx_lload_n dX8_isIn_1 rfl rfl ?_
          refine mx_lif_lt (tgt := 17) dX8_isIn_2 dX8_isIn_3 rfl (fun c5 => ?_) (fun c5 => ?_)
          · have H := H.1 c5
            refine mx_iconst dX8_isIn_17 ic_0 ?_
            refine mx_zretK rfl dX8_isIn_18 (Or.inl rfl) ?_
            refine mx_zretK rfl dX8_isDay_9 (Or.inl rfl) ?_
            refine mx_if_ne (tgt := 30) dX8_asksFarm_23 rfl (fun _ => absurd ‹_› (by decide)) (fun _ => ?_)
            refine mx_iconst dX8_asksFarm_26 ic_5 ?_
            refine mx_goto (tgt := 31) dX8_asksFarm_27 rfl ?_
            exact mx_iret rfl dX8_asksFarm_31 H
          · have H := H.2 c5
            refine mx_lload_n dX8_isIn_6 rfl rfl ?_
            refine mx_lload dX8_isIn_7 rfl ?_
            refine mx_lif_gt (tgt := 17) dX8_isIn_9 dX8_isIn_10 rfl (fun c6 => ?_) (fun c6 => ?_)
            · have H := H.1 c6
              refine mx_iconst dX8_isIn_17 ic_0 ?_
              refine mx_zretK rfl dX8_isIn_18 (Or.inl rfl) ?_
              refine mx_zretK rfl dX8_isDay_9 (Or.inl rfl) ?_
              refine mx_if_ne (tgt := 30) dX8_asksFarm_23 rfl (fun _ => absurd ‹_› (by decide)) (fun _ => ?_)
              refine mx_iconst dX8_asksFarm_26 ic_5 ?_
              refine mx_goto (tgt := 31) dX8_asksFarm_27 rfl ?_
              exact mx_iret rfl dX8_asksFarm_31 H
            · have H := H.2 c6
              refine mx_iconst dX8_isIn_13 ic_1 ?_
              refine mx_goto (tgt := 18) dX8_isIn_14 rfl ?_
              refine mx_zretK rfl dX8_isIn_18 (Or.inr rfl) ?_
              refine mx_zretK rfl dX8_isDay_9 (Or.inr rfl) ?_
              refine mx_if_ne (tgt := 30) dX8_asksFarm_23 rfl (fun _ => ?_) (fun _ => absurd ‹_› (by decide))
              refine mx_iconst dX8_asksFarm_30 ic_0 ?_
              exact mx_iret rfl dX8_asksFarm_31 H
theorem dX8_pay_0 : decode mi_X8_pay.2.1 0 = .ok (.aload_n 0, 1) := by decide +kernel
theorem dX8_pay_1 : decode mi_X8_pay.2.1 1 = .ok (.iload_n 2, 1) := by decide +kernel
theorem dX8_pay_2 : decode mi_X8_pay.2.1 2 = .ok (.invokevirtual 403, 3) := by decide +kernel
theorem dX8_pay_5 : decode mi_X8_pay.2.1 5 = .ok (.iconst 0, 1) := by decide +kernel
theorem dX8_pay_6 : decode mi_X8_pay.2.1 6 = .ok (.istore_n 3, 1) := by decide +kernel
theorem dX8_pay_7 : decode mi_X8_pay.2.1 7 = .ok (.iload_n 3, 1) := by decide +kernel
theorem dX8_pay_8 : decode mi_X8_pay.2.1 8 = .ok (.bipush 20, 2) := by decide +kernel
theorem dX8_pay_10 : decode mi_X8_pay.2.1 10 = .ok (.if_icmp .ge 30, 3) := by decide +kernel
theorem dX8_pay_13 : decode mi_X8_pay.2.1 13 = .ok (.aload_n 0, 1) := by decide +kernel
theorem dX8_pay_14 : decode mi_X8_pay.2.1 14 = .ok (.getfield 167, 3) := by decide +kernel
theorem dX8_pay_17 : decode mi_X8_pay.2.1 17 = .ok (.iload_n 3, 1) := by decide +kernel
theorem dX8_pay_18 : decode mi_X8_pay.2.1 18 = .ok (.lconst 0, 1) := by decide +kernel
theorem dX8_pay_19 : decode mi_X8_pay.2.1 19 = .ok (.lastore, 1) := by decide +kernel
theorem dX8_pay_20 : decode mi_X8_pay.2.1 20 = .ok (.aload_n 0, 1) := by decide +kernel
theorem dX8_pay_21 : decode mi_X8_pay.2.1 21 = .ok (.getfield 170, 3) := by decide +kernel
theorem dX8_pay_24 : decode mi_X8_pay.2.1 24 = .ok (.iload_n 3, 1) := by decide +kernel
theorem dX8_pay_25 : decode mi_X8_pay.2.1 25 = .ok (.lconst 0, 1) := by decide +kernel
theorem dX8_pay_26 : decode mi_X8_pay.2.1 26 = .ok (.lastore, 1) := by decide +kernel
theorem dX8_pay_27 : decode mi_X8_pay.2.1 27 = .ok (.aload_n 0, 1) := by decide +kernel
theorem dX8_pay_28 : decode mi_X8_pay.2.1 28 = .ok (.getfield 173, 3) := by decide +kernel
theorem dX8_pay_31 : decode mi_X8_pay.2.1 31 = .ok (.iload_n 3, 1) := by decide +kernel
theorem dX8_pay_32 : decode mi_X8_pay.2.1 32 = .ok (.lconst 0, 1) := by decide +kernel
theorem dX8_pay_33 : decode mi_X8_pay.2.1 33 = .ok (.lastore, 1) := by decide +kernel
theorem dX8_pay_34 : decode mi_X8_pay.2.1 34 = .ok (.iinc 3 1, 3) := by decide +kernel
theorem dX8_pay_37 : decode mi_X8_pay.2.1 37 = .ok (.goto (-30), 3) := by decide +kernel
theorem dX8_pay_40 : decode mi_X8_pay.2.1 40 = .ok (.iconst 0, 1) := by decide +kernel
theorem dX8_pay_41 : decode mi_X8_pay.2.1 41 = .ok (.istore_n 3, 1) := by decide +kernel
theorem dX8_pay_42 : decode mi_X8_pay.2.1 42 = .ok (.iload_n 3, 1) := by decide +kernel
theorem dX8_pay_43 : decode mi_X8_pay.2.1 43 = .ok (.bipush 6, 2) := by decide +kernel
theorem dX8_pay_45 : decode mi_X8_pay.2.1 45 = .ok (.if_icmp .ge 158, 3) := by decide +kernel
theorem dX8_pay_48 : decode mi_X8_pay.2.1 48 = .ok (.aload_n 0, 1) := by decide +kernel
theorem dX8_pay_49 : decode mi_X8_pay.2.1 49 = .ok (.iload_n 1, 1) := by decide +kernel
theorem dX8_pay_50 : decode mi_X8_pay.2.1 50 = .ok (.iload_n 3, 1) := by decide +kernel
theorem dX8_pay_51 : decode mi_X8_pay.2.1 51 = .ok (.iload_n 2, 1) := by decide +kernel
theorem dX8_pay_52 : decode mi_X8_pay.2.1 52 = .ok (.invokevirtual 596, 3) := by decide +kernel
theorem dX8_pay_55 : decode mi_X8_pay.2.1 55 = .ok (.aload_n 0, 1) := by decide +kernel
theorem dX8_pay_56 : decode mi_X8_pay.2.1 56 = .ok (.iload_n 1, 1) := by decide +kernel
theorem dX8_pay_57 : decode mi_X8_pay.2.1 57 = .ok (.iload_n 3, 1) := by decide +kernel
theorem dX8_pay_58 : decode mi_X8_pay.2.1 58 = .ok (.iload_n 2, 1) := by decide +kernel
theorem dX8_pay_59 : decode mi_X8_pay.2.1 59 = .ok (.invokevirtual 606, 3) := by decide +kernel
theorem dX8_pay_62 : decode mi_X8_pay.2.1 62 = .ok (.lsub, 1) := by decide +kernel
theorem dX8_pay_63 : decode mi_X8_pay.2.1 63 = .ok (.lstore 4, 2) := by decide +kernel
theorem dX8_pay_65 : decode mi_X8_pay.2.1 65 = .ok (.aload_n 0, 1) := by decide +kernel
theorem dX8_pay_66 : decode mi_X8_pay.2.1 66 = .ok (.bipush 102, 2) := by decide +kernel
theorem dX8_pay_68 : decode mi_X8_pay.2.1 68 = .ok (.bipush 105, 2) := by decide +kernel
theorem dX8_pay_70 : decode mi_X8_pay.2.1 70 = .ok (.bipush 114, 2) := by decide +kernel
theorem dX8_pay_72 : decode mi_X8_pay.2.1 72 = .ok (.bipush 115, 2) := by decide +kernel
theorem dX8_pay_74 : decode mi_X8_pay.2.1 74 = .ok (.bipush 116, 2) := by decide +kernel
theorem dX8_pay_76 : decode mi_X8_pay.2.1 76 = .ok (.iconst 0, 1) := by decide +kernel
theorem dX8_pay_77 : decode mi_X8_pay.2.1 77 = .ok (.invokestatic 350, 3) := by decide +kernel
theorem dX8_pay_80 : decode mi_X8_pay.2.1 80 = .ok (.iload_n 1, 1) := by decide +kernel
theorem dX8_pay_81 : decode mi_X8_pay.2.1 81 = .ok (.iload_n 3, 1) := by decide +kernel
theorem dX8_pay_82 : decode mi_X8_pay.2.1 82 = .ok (.invokevirtual 600, 3) := by decide +kernel
theorem dX8_pay_85 : decode mi_X8_pay.2.1 85 = .ok (.lstore 6, 2) := by decide +kernel
theorem dX8_pay_87 : decode mi_X8_pay.2.1 87 = .ok (.aload_n 0, 1) := by decide +kernel
theorem dX8_pay_88 : decode mi_X8_pay.2.1 88 = .ok (.iload_n 1, 1) := by decide +kernel
theorem dX8_pay_89 : decode mi_X8_pay.2.1 89 = .ok (.iload_n 3, 1) := by decide +kernel
theorem dX8_pay_90 : decode mi_X8_pay.2.1 90 = .ok (.iload_n 2, 1) := by decide +kernel
theorem dX8_pay_91 : decode mi_X8_pay.2.1 91 = .ok (.invokevirtual 609, 3) := by decide +kernel
theorem dX8_pay_94 : decode mi_X8_pay.2.1 94 = .ok (.pop2, 1) := by decide +kernel
theorem dX8_pay_95 : decode mi_X8_pay.2.1 95 = .ok (.iconst 0, 1) := by decide +kernel
theorem dX8_pay_96 : decode mi_X8_pay.2.1 96 = .ok (.istore 8, 2) := by decide +kernel
theorem dX8_pay_98 : decode mi_X8_pay.2.1 98 = .ok (.iload 8, 2) := by decide +kernel
theorem dX8_pay_100 : decode mi_X8_pay.2.1 100 = .ok (.bipush 20, 2) := by decide +kernel
theorem dX8_pay_102 : decode mi_X8_pay.2.1 102 = .ok (.if_icmp .ge 23, 3) := by decide +kernel
theorem dX8_pay_105 : decode mi_X8_pay.2.1 105 = .ok (.aload_n 0, 1) := by decide +kernel
theorem dX8_pay_106 : decode mi_X8_pay.2.1 106 = .ok (.getfield 104, 3) := by decide +kernel
theorem dX8_pay_109 : decode mi_X8_pay.2.1 109 = .ok (.iload 8, 2) := by decide +kernel
theorem dX8_pay_111 : decode mi_X8_pay.2.1 111 = .ok (.aload_n 0, 1) := by decide +kernel
theorem dX8_pay_112 : decode mi_X8_pay.2.1 112 = .ok (.getfield 164, 3) := by decide +kernel
theorem dX8_pay_115 : decode mi_X8_pay.2.1 115 = .ok (.iload 8, 2) := by decide +kernel
theorem dX8_pay_117 : decode mi_X8_pay.2.1 117 = .ok (.laload, 1) := by decide +kernel
theorem dX8_pay_118 : decode mi_X8_pay.2.1 118 = .ok (.lastore, 1) := by decide +kernel
theorem dX8_pay_119 : decode mi_X8_pay.2.1 119 = .ok (.iinc 8 1, 3) := by decide +kernel
theorem dX8_pay_122 : decode mi_X8_pay.2.1 122 = .ok (.goto (-24), 3) := by decide +kernel
theorem dX8_pay_125 : decode mi_X8_pay.2.1 125 = .ok (.aload_n 0, 1) := by decide +kernel
theorem dX8_pay_126 : decode mi_X8_pay.2.1 126 = .ok (.lload 4, 2) := by decide +kernel
theorem dX8_pay_128 : decode mi_X8_pay.2.1 128 = .ok (.invokevirtual 374, 3) := by decide +kernel
theorem dX8_pay_131 : decode mi_X8_pay.2.1 131 = .ok (.iconst 0, 1) := by decide +kernel
theorem dX8_pay_132 : decode mi_X8_pay.2.1 132 = .ok (.istore 8, 2) := by decide +kernel
theorem dX8_pay_134 : decode mi_X8_pay.2.1 134 = .ok (.iload 8, 2) := by decide +kernel
theorem dX8_pay_136 : decode mi_X8_pay.2.1 136 = .ok (.aload_n 0, 1) := by decide +kernel
theorem dX8_pay_137 : decode mi_X8_pay.2.1 137 = .ok (.getfield 291, 3) := by decide +kernel
theorem dX8_pay_140 : decode mi_X8_pay.2.1 140 = .ok (.if_icmp .ge 57, 3) := by decide +kernel
theorem dX8_pay_143 : decode mi_X8_pay.2.1 143 = .ok (.aload_n 0, 1) := by decide +kernel
theorem dX8_pay_144 : decode mi_X8_pay.2.1 144 = .ok (.getfield 167, 3) := by decide +kernel
theorem dX8_pay_147 : decode mi_X8_pay.2.1 147 = .ok (.iload 8, 2) := by decide +kernel
theorem dX8_pay_149 : decode mi_X8_pay.2.1 149 = .ok (.dup2, 1) := by decide +kernel
theorem dX8_pay_150 : decode mi_X8_pay.2.1 150 = .ok (.laload, 1) := by decide +kernel
theorem dX8_pay_151 : decode mi_X8_pay.2.1 151 = .ok (.lload 6, 2) := by decide +kernel
theorem dX8_pay_153 : decode mi_X8_pay.2.1 153 = .ok (.aload_n 0, 1) := by decide +kernel
theorem dX8_pay_154 : decode mi_X8_pay.2.1 154 = .ok (.getfield 164, 3) := by decide +kernel
theorem dX8_pay_157 : decode mi_X8_pay.2.1 157 = .ok (.iload 8, 2) := by decide +kernel
theorem dX8_pay_159 : decode mi_X8_pay.2.1 159 = .ok (.laload, 1) := by decide +kernel
theorem dX8_pay_160 : decode mi_X8_pay.2.1 160 = .ok (.lmul, 1) := by decide +kernel
theorem dX8_pay_161 : decode mi_X8_pay.2.1 161 = .ok (.ladd, 1) := by decide +kernel
theorem dX8_pay_162 : decode mi_X8_pay.2.1 162 = .ok (.lastore, 1) := by decide +kernel
theorem dX8_pay_163 : decode mi_X8_pay.2.1 163 = .ok (.aload_n 0, 1) := by decide +kernel
theorem dX8_pay_164 : decode mi_X8_pay.2.1 164 = .ok (.getfield 170, 3) := by decide +kernel
theorem dX8_pay_167 : decode mi_X8_pay.2.1 167 = .ok (.iload 8, 2) := by decide +kernel
theorem dX8_pay_169 : decode mi_X8_pay.2.1 169 = .ok (.dup2, 1) := by decide +kernel
theorem dX8_pay_170 : decode mi_X8_pay.2.1 170 = .ok (.laload, 1) := by decide +kernel
theorem dX8_pay_171 : decode mi_X8_pay.2.1 171 = .ok (.aload_n 0, 1) := by decide +kernel
theorem dX8_pay_172 : decode mi_X8_pay.2.1 172 = .ok (.getfield 107, 3) := by decide +kernel
theorem dX8_pay_175 : decode mi_X8_pay.2.1 175 = .ok (.iload 8, 2) := by decide +kernel
theorem dX8_pay_177 : decode mi_X8_pay.2.1 177 = .ok (.laload, 1) := by decide +kernel
theorem dX8_pay_178 : decode mi_X8_pay.2.1 178 = .ok (.lload 6, 2) := by decide +kernel
theorem dX8_pay_180 : decode mi_X8_pay.2.1 180 = .ok (.aload_n 0, 1) := by decide +kernel
theorem dX8_pay_181 : decode mi_X8_pay.2.1 181 = .ok (.getfield 164, 3) := by decide +kernel
theorem dX8_pay_184 : decode mi_X8_pay.2.1 184 = .ok (.iload 8, 2) := by decide +kernel
theorem dX8_pay_186 : decode mi_X8_pay.2.1 186 = .ok (.laload, 1) := by decide +kernel
theorem dX8_pay_187 : decode mi_X8_pay.2.1 187 = .ok (.lmul, 1) := by decide +kernel
theorem dX8_pay_188 : decode mi_X8_pay.2.1 188 = .ok (.lsub, 1) := by decide +kernel
theorem dX8_pay_189 : decode mi_X8_pay.2.1 189 = .ok (.ladd, 1) := by decide +kernel
theorem dX8_pay_190 : decode mi_X8_pay.2.1 190 = .ok (.lastore, 1) := by decide +kernel
theorem dX8_pay_191 : decode mi_X8_pay.2.1 191 = .ok (.iinc 8 1, 3) := by decide +kernel
theorem dX8_pay_194 : decode mi_X8_pay.2.1 194 = .ok (.goto (-60), 3) := by decide +kernel
theorem dX8_pay_197 : decode mi_X8_pay.2.1 197 = .ok (.iinc 3 1, 3) := by decide +kernel
theorem dX8_pay_200 : decode mi_X8_pay.2.1 200 = .ok (.goto (-158), 3) := by decide +kernel
theorem dX8_pay_203 : decode mi_X8_pay.2.1 203 = .ok (.lconst 0, 1) := by decide +kernel
theorem dX8_pay_204 : decode mi_X8_pay.2.1 204 = .ok (.lstore_n 3, 1) := by decide +kernel
theorem dX8_pay_205 : decode mi_X8_pay.2.1 205 = .ok (.iconst 0, 1) := by decide +kernel
theorem dX8_pay_206 : decode mi_X8_pay.2.1 206 = .ok (.istore 5, 2) := by decide +kernel
theorem dX8_pay_208 : decode mi_X8_pay.2.1 208 = .ok (.iload 5, 2) := by decide +kernel
theorem dX8_pay_210 : decode mi_X8_pay.2.1 210 = .ok (.bipush 20, 2) := by decide +kernel
theorem dX8_pay_212 : decode mi_X8_pay.2.1 212 = .ok (.if_icmp .ge 38, 3) := by decide +kernel
theorem dX8_pay_215 : decode mi_X8_pay.2.1 215 = .ok (.lload_n 3, 1) := by decide +kernel
theorem dX8_pay_216 : decode mi_X8_pay.2.1 216 = .ok (.aload_n 0, 1) := by decide +kernel
theorem dX8_pay_217 : decode mi_X8_pay.2.1 217 = .ok (.getfield 170, 3) := by decide +kernel
theorem dX8_pay_220 : decode mi_X8_pay.2.1 220 = .ok (.iload 5, 2) := by decide +kernel
theorem dX8_pay_222 : decode mi_X8_pay.2.1 222 = .ok (.laload, 1) := by decide +kernel
theorem dX8_pay_223 : decode mi_X8_pay.2.1 223 = .ok (.ladd, 1) := by decide +kernel
theorem dX8_pay_224 : decode mi_X8_pay.2.1 224 = .ok (.lstore_n 3, 1) := by decide +kernel
theorem dX8_pay_225 : decode mi_X8_pay.2.1 225 = .ok (.aload_n 0, 1) := by decide +kernel
theorem dX8_pay_226 : decode mi_X8_pay.2.1 226 = .ok (.getfield 104, 3) := by decide +kernel
theorem dX8_pay_229 : decode mi_X8_pay.2.1 229 = .ok (.iload 5, 2) := by decide +kernel
theorem dX8_pay_231 : decode mi_X8_pay.2.1 231 = .ok (.lconst 0, 1) := by decide +kernel
theorem dX8_pay_232 : decode mi_X8_pay.2.1 232 = .ok (.aload_n 0, 1) := by decide +kernel
theorem dX8_pay_233 : decode mi_X8_pay.2.1 233 = .ok (.getfield 170, 3) := by decide +kernel
theorem dX8_pay_236 : decode mi_X8_pay.2.1 236 = .ok (.iload 5, 2) := by decide +kernel
theorem dX8_pay_238 : decode mi_X8_pay.2.1 238 = .ok (.laload, 1) := by decide +kernel
theorem dX8_pay_239 : decode mi_X8_pay.2.1 239 = .ok (.lneg, 1) := by decide +kernel
theorem dX8_pay_240 : decode mi_X8_pay.2.1 240 = .ok (.invokestatic 594, 3) := by decide +kernel
theorem dX8_pay_243 : decode mi_X8_pay.2.1 243 = .ok (.lastore, 1) := by decide +kernel
theorem dX8_pay_244 : decode mi_X8_pay.2.1 244 = .ok (.iinc 5 1, 3) := by decide +kernel
theorem dX8_pay_247 : decode mi_X8_pay.2.1 247 = .ok (.goto (-39), 3) := by decide +kernel
theorem dX8_pay_250 : decode mi_X8_pay.2.1 250 = .ok (.aload_n 0, 1) := by decide +kernel
theorem dX8_pay_251 : decode mi_X8_pay.2.1 251 = .ok (.lconst 0, 1) := by decide +kernel
theorem dX8_pay_252 : decode mi_X8_pay.2.1 252 = .ok (.lload_n 3, 1) := by decide +kernel
theorem dX8_pay_253 : decode mi_X8_pay.2.1 253 = .ok (.lneg, 1) := by decide +kernel
theorem dX8_pay_254 : decode mi_X8_pay.2.1 254 = .ok (.invokestatic 594, 3) := by decide +kernel
theorem dX8_pay_257 : decode mi_X8_pay.2.1 257 = .ok (.putfield 612, 3) := by decide +kernel
theorem dX8_pay_260 : decode mi_X8_pay.2.1 260 = .ok (.aload_n 0, 1) := by decide +kernel
theorem dX8_pay_261 : decode mi_X8_pay.2.1 261 = .ok (.aload_n 0, 1) := by decide +kernel
theorem dX8_pay_262 : decode mi_X8_pay.2.1 262 = .ok (.getfield 612, 3) := by decide +kernel
theorem dX8_pay_265 : decode mi_X8_pay.2.1 265 = .ok (.aload_n 0, 1) := by decide +kernel
theorem dX8_pay_266 : decode mi_X8_pay.2.1 266 = .ok (.bipush 115, 2) := by decide +kernel
theorem dX8_pay_268 : decode mi_X8_pay.2.1 268 = .ok (.bipush 116, 2) := by decide +kernel
theorem dX8_pay_270 : decode mi_X8_pay.2.1 270 = .ok (.bipush 97, 2) := by decide +kernel
theorem dX8_pay_272 : decode mi_X8_pay.2.1 272 = .ok (.bipush 110, 2) := by decide +kernel
theorem dX8_pay_274 : decode mi_X8_pay.2.1 274 = .ok (.bipush 100, 2) := by decide +kernel
theorem dX8_pay_276 : decode mi_X8_pay.2.1 276 = .ok (.iconst 0, 1) := by decide +kernel
theorem dX8_pay_277 : decode mi_X8_pay.2.1 277 = .ok (.invokestatic 350, 3) := by decide +kernel
theorem dX8_pay_280 : decode mi_X8_pay.2.1 280 = .ok (.iload_n 1, 1) := by decide +kernel
theorem dX8_pay_281 : decode mi_X8_pay.2.1 281 = .ok (.iconst 0, 1) := by decide +kernel
theorem dX8_pay_282 : decode mi_X8_pay.2.1 282 = .ok (.invokevirtual 600, 3) := by decide +kernel
theorem dX8_pay_285 : decode mi_X8_pay.2.1 285 = .ok (.lmul, 1) := by decide +kernel
theorem dX8_pay_286 : decode mi_X8_pay.2.1 286 = .ok (.ldc2_w 326, 3) := by decide +kernel
theorem dX8_pay_289 : decode mi_X8_pay.2.1 289 = .ok (.ldiv, 1) := by decide +kernel
theorem dX8_pay_290 : decode mi_X8_pay.2.1 290 = .ok (.putfield 615, 3) := by decide +kernel
theorem dX8_pay_293 : decode mi_X8_pay.2.1 293 = .ok (.aload_n 0, 1) := by decide +kernel
theorem dX8_pay_294 : decode mi_X8_pay.2.1 294 = .ok (.aload_n 0, 1) := by decide +kernel
theorem dX8_pay_295 : decode mi_X8_pay.2.1 295 = .ok (.getfield 612, 3) := by decide +kernel
theorem dX8_pay_298 : decode mi_X8_pay.2.1 298 = .ok (.aload_n 0, 1) := by decide +kernel
theorem dX8_pay_299 : decode mi_X8_pay.2.1 299 = .ok (.getfield 615, 3) := by decide +kernel
theorem dX8_pay_302 : decode mi_X8_pay.2.1 302 = .ok (.lsub, 1) := by decide +kernel
theorem dX8_pay_303 : decode mi_X8_pay.2.1 303 = .ok (.invokevirtual 374, 3) := by decide +kernel
theorem dX8_pay_306 : decode mi_X8_pay.2.1 306 = .ok (.iconst 0, 1) := by decide +kernel
theorem dX8_pay_307 : decode mi_X8_pay.2.1 307 = .ok (.istore 5, 2) := by decide +kernel
theorem dX8_pay_309 : decode mi_X8_pay.2.1 309 = .ok (.iload 5, 2) := by decide +kernel
theorem dX8_pay_311 : decode mi_X8_pay.2.1 311 = .ok (.aload_n 0, 1) := by decide +kernel
theorem dX8_pay_312 : decode mi_X8_pay.2.1 312 = .ok (.getfield 291, 3) := by decide +kernel
theorem dX8_pay_315 : decode mi_X8_pay.2.1 315 = .ok (.if_icmp .ge 23, 3) := by decide +kernel
theorem dX8_pay_318 : decode mi_X8_pay.2.1 318 = .ok (.aload_n 0, 1) := by decide +kernel
theorem dX8_pay_319 : decode mi_X8_pay.2.1 319 = .ok (.getfield 173, 3) := by decide +kernel
theorem dX8_pay_322 : decode mi_X8_pay.2.1 322 = .ok (.iload 5, 2) := by decide +kernel
theorem dX8_pay_324 : decode mi_X8_pay.2.1 324 = .ok (.aload_n 0, 1) := by decide +kernel
theorem dX8_pay_325 : decode mi_X8_pay.2.1 325 = .ok (.getfield 107, 3) := by decide +kernel
theorem dX8_pay_328 : decode mi_X8_pay.2.1 328 = .ok (.iload 5, 2) := by decide +kernel
theorem dX8_pay_330 : decode mi_X8_pay.2.1 330 = .ok (.laload, 1) := by decide +kernel
theorem dX8_pay_331 : decode mi_X8_pay.2.1 331 = .ok (.lastore, 1) := by decide +kernel
theorem dX8_pay_332 : decode mi_X8_pay.2.1 332 = .ok (.iinc 5 1, 3) := by decide +kernel
theorem dX8_pay_335 : decode mi_X8_pay.2.1 335 = .ok (.goto (-26), 3) := by decide +kernel
theorem dX8_pay_338 : decode mi_X8_pay.2.1 338 = .ok (.return_, 1) := by decide +kernel
theorem v_X8_pay {G : ma_G} {d : Nat} {a0 : Nat} {x1 : Int32} {x2 : Int32} {h : ah_T} {Q : Option ma_V → ah_T → Prop} {E : Nat → ah_T → Prop} (La0_h : LY8 h a0) (H : MX G mi_X8_play d 0 [some (rv a0), some (iv x2), none] [] h (Qv fun h1 => ah_ext h h1 → MX G mi_X8_pay (d + 1) 7 [some (rv a0), some (iv x1), some (iv x2), some (iv (0 : Int32)), none, none, none, none, none] [] h1 Q E) E) : MX G mi_X8_pay (d + 1) 0 [some (rv a0), some (iv x1), some (iv x2), none, none, none, none, none, none] [] h Q E := by
  refine mx_aload_n dX8_pay_0 rfl rfl ?_
  refine mx_iload_n dX8_pay_1 rfl rfl ?_
  refine mx_callV 8 (y' := mi_X8_play) (vs := [iv x2]) (st := []) (al' := [some (rv a0), some (iv x2), none]) cl_8 V_X8_play (Or.inl q2119) dX8_pay_2 rfl rfl (Nat.le_of_ble_eq_true rfl) (Nat.le_of_ble_eq_true rfl) (ly8_k La0_h) ?_
  refine ma_kv H (fun h1 Xh1 H => ?_) (fun x1 h1 X1 H => mt_out rfl H)
  have H := H Xh1
  have La0_h1 := La0_h.ext Xh1
  refine mx_iconst dX8_pay_5 ic_0 ?_
  refine mx_istore_n (al' := [some (rv a0), some (iv x1), some (iv x2), some (iv (0 : Int32)), none, none, none, none, none]) dX8_pay_6 rfl (Nat.le_of_ble_eq_true rfl) rfl ?_
  exact mx_weak (al' := [some (rv a0), some (iv x1), some (iv x2), some (iv (0 : Int32)), none, none, none, none, none]) ⟨rfl, ⟨rfl, ⟨rfl, ⟨rfl, trivial⟩⟩⟩⟩ H
theorem v_X8_pay_7 {G : ma_G} {d : Nat} {a0 : Nat} {x1 : Int32} {x2 : Int32} {x3 : Int32} {h : ah_T} {Q : Option ma_V → ah_T → Prop} {E : Nat → ah_T → Prop} (La0_h : LY8 h a0) (H : ((20 : Int32) ≤ x3 → MX G mi_X8_pay (d + 1) 42 [some (rv a0), some (iv x1), some (iv x2), some (iv (0 : Int32)), none, none, none, none, none] [] h Q E) ∧ (¬ (20 : Int32) ≤ x3 → vp_in x3 20 ∧ ∀ h3 : ah_T, h3 = ah_wJ h (a0 + 50) x3.toNatClampNeg (0 : Int64) → ah_ext h h3 → ∀ h4 : ah_T, h4 = ah_wJ h3 (a0 + 51) x3.toNatClampNeg (0 : Int64) → ah_ext h3 h4 → ∀ h5 : ah_T, h5 = ah_wJ h4 (a0 + 52) x3.toNatClampNeg (0 : Int64) → ah_ext h4 h5 → MX G mi_X8_pay (d + 1) 7 [some (rv a0), some (iv x1), some (iv x2), some (iv (x3 + (1 : Int32))), none, none, none, none, none] [] h5 Q E)) : MX G mi_X8_pay (d + 1) 7 [some (rv a0), some (iv x1), some (iv x2), some (iv x3), none, none, none, none, none] [] h Q E := by
  refine mx_iload_n dX8_pay_7 rfl rfl ?_
  refine mx_bipush dX8_pay_8 ib_20 ?_
  refine mx_icmp_ge (tgt := 40) dX8_pay_10 rfl (fun c1 => ?_) (fun c1 => ?_)
  · have H := H.1 c1
    refine mx_iconst dX8_pay_40 ic_0 ?_
    refine mx_istore_n (al' := [some (rv a0), some (iv x1), some (iv x2), some (iv (0 : Int32)), none, none, none, none, none]) dX8_pay_41 rfl (Nat.le_of_ble_eq_true rfl) rfl ?_
    exact mx_weak (al' := [some (rv a0), some (iv x1), some (iv x2), some (iv (0 : Int32)), none, none, none, none, none]) ⟨rfl, ⟨rfl, ⟨rfl, ⟨rfl, trivial⟩⟩⟩⟩ H
  · have H := H.2 c1
    refine mx_aload_n dX8_pay_13 rfl rfl ?_
    refine mx_get 8 74 (ref := "PrairiePoolModel") cl_8 (Nat.le_of_ble_eq_true rfl) (Or.inl q1701) (Or.inl rfl) dX8_pay_14 (fv_8_74 _ _) (ly8_k La0_h) ?_
    refine mx_tr (ly8_R_0_74 La0_h) ?_
    refine mx_iload_n dX8_pay_17 rfl rfl ?_
    refine mx_lconst dX8_pay_18 lc_0 ?_
    obtain ⟨k2, H⟩ := H
    refine my_last dX8_pay_19 rfl (ly8_A_50 La0_h k2) ?_
    refine mx_nmJ  (fun h3 eh3 Xh3 Kh3 Lh3 => ?_)
    have H := H h3 eh3 Xh3
    have La0_h3 := La0_h.ext Xh3
    refine mx_aload_n dX8_pay_20 rfl rfl ?_
    refine mx_get 8 75 (ref := "PrairiePoolModel") cl_8 (Nat.le_of_ble_eq_true rfl) (Or.inl q1702) (Or.inl rfl) dX8_pay_21 (fv_8_75 _ _) (ly8_k La0_h3) ?_
    refine mx_tr (ly8_R_0_75 La0_h3) ?_
    refine mx_iload_n dX8_pay_24 rfl rfl ?_
    refine mx_lconst dX8_pay_25 lc_0 ?_
    refine my_last dX8_pay_26 rfl (ly8_A_51 La0_h3 k2) ?_
    refine mx_nmJ  (fun h4 eh4 Xh4 Kh4 Lh4 => ?_)
    have H := H h4 eh4 Xh4
    have Kh4 := Kh4.trans Kh3
    have Lh4 := Lh4.trans Lh3
    have La0_h4 := La0_h3.ext Xh4
    refine mx_aload_n dX8_pay_27 rfl rfl ?_
    refine mx_get 8 76 (ref := "PrairiePoolModel") cl_8 (Nat.le_of_ble_eq_true rfl) (Or.inl q1703) (Or.inl rfl) dX8_pay_28 (fv_8_76 _ _) (ly8_k La0_h4) ?_
    refine mx_tr (ly8_R_0_76 La0_h4) ?_
    refine mx_iload_n dX8_pay_31 rfl rfl ?_
    refine mx_lconst dX8_pay_32 lc_0 ?_
    refine my_last dX8_pay_33 rfl (ly8_A_52 La0_h4 k2) ?_
    refine mx_nmJ  (fun h5 eh5 Xh5 Kh5 Lh5 => ?_)
    have H := H h5 eh5 Xh5
    have Kh5 := Kh5.trans Kh4
    have Lh5 := Lh5.trans Lh4
    have La0_h5 := La0_h4.ext Xh5
    refine mx_iinc (al' := [some (rv a0), some (iv x1), some (iv x2), some (iv (x3 + (1 : Int32))), none, none, none, none, none]) dX8_pay_34 rfl ic_1 rfl ?_
    refine mx_goto (tgt := 7) dX8_pay_37 rfl ?_
    exact mx_weak (al' := [some (rv a0), some (iv x1), some (iv x2), some (iv (x3 + (1 : Int32))), none, none, none, none, none]) ⟨rfl, ⟨rfl, ⟨rfl, ⟨rfl, trivial⟩⟩⟩⟩ H
theorem v_X8_pay_42 {G : ma_G} {d : Nat} {a0 : Nat} {x1 : Int32} {x2 : Int32} {x3 : Int32} {h : ah_T} {Q : Option ma_V → ah_T → Prop} {E : Nat → ah_T → Prop} (La0_h : LY8 h a0) (H : ((6 : Int32) ≤ x3 → MX G mi_X8_pay (d + 1) 208 [some (rv a0), some (iv x1), none, some (jv (0 : Int64)), none, some (iv (0 : Int32)), none, none, none] [] h Q E) ∧ (¬ (6 : Int32) ≤ x3 → MX G mi_X8_came d 0 [some (rv a0), some (iv x1), some (iv x3), some (iv x2), none, none, none] [] h (Ql fun r3 h2 => ah_ext h h2 → MX G mi_X8_kept d 0 [some (rv a0), some (iv x1), some (iv x3), some (iv x2)] [] h2 (Ql fun r5 h4 => ah_ext h2 h4 → MX G mi_X8_ofYear d 0 [some (rv a0), some (jv (6605428 : Int64)), none, some (iv x1), some (iv x3)] [] h4 (Ql fun r7 h6 => ah_ext h4 h6 → MX G mi_X8_bring d 0 [some (rv a0), some (iv x1), some (iv x3), some (iv x2), none, none, none] [] h6 (Ql fun r9 h8 => ah_ext h6 h8 → MX G mi_X8_pay (d + 1) 98 [some (rv a0), some (iv x1), some (iv x2), some (iv x3), some (jv (r3 - r5)), none, some (jv r7), none, some (iv (0 : Int32))] [] h8 Q E) E) E) E) E)) : MX G mi_X8_pay (d + 1) 42 [some (rv a0), some (iv x1), some (iv x2), some (iv x3), none, none, none, none, none] [] h Q E := by
  refine mx_iload_n dX8_pay_42 rfl rfl ?_
  refine mx_bipush dX8_pay_43 ib_6 ?_
  refine mx_icmp_ge (tgt := 203) dX8_pay_45 rfl (fun c1 => ?_) (fun c1 => ?_)
  · have H := H.1 c1
    refine mx_lconst dX8_pay_203 lc_0 ?_
    refine mx_lstore_n (al' := [some (rv a0), some (iv x1), some (iv x2), some (jv (0 : Int64)), none, none, none, none, none]) dX8_pay_204 rfl (Nat.le_of_ble_eq_true rfl) rfl ?_
    refine mx_iconst dX8_pay_205 ic_0 ?_
    refine mx_istore (al' := [some (rv a0), some (iv x1), some (iv x2), some (jv (0 : Int64)), none, some (iv (0 : Int32)), none, none, none]) dX8_pay_206 (Nat.le_of_ble_eq_true rfl) rfl ?_
    exact mx_weak (al' := [some (rv a0), some (iv x1), none, some (jv (0 : Int64)), none, some (iv (0 : Int32)), none, none, none]) ⟨rfl, ⟨rfl, ⟨rfl, ⟨rfl, trivial⟩⟩⟩⟩ H
  · have H := H.2 c1
    refine mx_aload_n dX8_pay_48 rfl rfl ?_
    refine mx_iload_n dX8_pay_49 rfl rfl ?_
    refine mx_iload_n dX8_pay_50 rfl rfl ?_
    refine mx_iload_n dX8_pay_51 rfl rfl ?_
    refine mx_callV 8 (y' := mi_X8_came) (vs := [iv x1, iv x3, iv x2]) (st := []) (al' := [some (rv a0), some (iv x1), some (iv x3), some (iv x2), none, none, none]) cl_8 V_X8_came (Or.inl q2308) dX8_pay_52 rfl rfl (Nat.le_of_ble_eq_true rfl) (Nat.le_of_ble_eq_true rfl) (ly8_k La0_h) ?_
    refine ma_kl H (fun r3 h2 Xh2 H => ?_) (fun x1 h1 X1 H => mt_out rfl H)
    have H := H Xh2
    have La0_h2 := La0_h.ext Xh2
    refine mx_aload_n dX8_pay_55 rfl rfl ?_
    refine mx_iload_n dX8_pay_56 rfl rfl ?_
    refine mx_iload_n dX8_pay_57 rfl rfl ?_
    refine mx_iload_n dX8_pay_58 rfl rfl ?_
    refine mx_callV 8 (y' := mi_X8_kept) (vs := [iv x1, iv x3, iv x2]) (st := [jv r3]) (al' := [some (rv a0), some (iv x1), some (iv x3), some (iv x2)]) cl_8 V_X8_kept (Or.inl q2312) dX8_pay_59 rfl rfl (Nat.le_of_ble_eq_true rfl) (Nat.le_of_ble_eq_true rfl) (ly8_k La0_h2) ?_
    refine ma_kl H (fun r5 h4 Xh4 H => ?_) (fun x1 h1 X1 H => mt_out rfl H)
    have H := H Xh4
    have La0_h4 := La0_h2.ext Xh4
    refine mx_lsub dX8_pay_62 ?_
    refine mx_lstore (al' := [some (rv a0), some (iv x1), some (iv x2), some (iv x3), some (jv (r3 - r5)), none, none, none, none]) dX8_pay_63 (Nat.le_of_ble_eq_true rfl) rfl ?_
    refine mx_aload_n dX8_pay_65 rfl rfl ?_
    refine mx_bipush dX8_pay_66 ib_102 ?_
    refine mx_bipush dX8_pay_68 ib_105 ?_
    refine mx_bipush dX8_pay_70 ib_114 ?_
    refine mx_bipush dX8_pay_72 ib_115 ?_
    refine mx_bipush dX8_pay_74 ib_116 ?_
    refine mx_iconst dX8_pay_76 ic_0 ?_
    refine mx_callS (y' := mi_X8_spelled) (vs := [iv (102 : Int32), iv (105 : Int32), iv (114 : Int32), iv (115 : Int32), iv (116 : Int32), iv (0 : Int32)]) (st := [rv a0]) (al' := [some (iv (102 : Int32)), some (iv (105 : Int32)), some (iv (114 : Int32)), some (iv (115 : Int32)), some (iv (116 : Int32)), some (iv (0 : Int32)), none, none]) S_X8_spelled q2075 dX8_pay_77 rfl rfl (Nat.le_of_ble_eq_true rfl) (Nat.le_of_ble_eq_true rfl) ?_
    refine mx_iload_n dX8_spelled_0 rfl rfl ?_
    refine mx_i2l dX8_spelled_1 ?_
    refine mx_ldc2 q2078 dX8_spelled_2 ?_
    refine mx_lsub dX8_spelled_5 ?_
    refine mx_lstore (al' := [some (iv (102 : Int32)), some (iv (105 : Int32)), some (iv (114 : Int32)), some (iv (115 : Int32)), some (iv (116 : Int32)), some (iv (0 : Int32)), some (jv ((102 : Int32).toInt64 - (96 : Int64))), none]) dX8_spelled_6 (Nat.le_of_ble_eq_true rfl) rfl ?_
    refine mx_lload dX8_spelled_8 rfl ?_
    refine mx_ldc2 q2079 dX8_spelled_10 ?_
    refine mx_lmul dX8_spelled_13 ?_
    refine mx_iload_n dX8_spelled_14 rfl rfl ?_
    refine mx_i2l dX8_spelled_15 ?_
    refine mx_ladd dX8_spelled_16 ?_
    refine mx_ldc2 q2078 dX8_spelled_17 ?_
    refine mx_lsub dX8_spelled_20 ?_
    refine mx_lstore (al' := [some (iv (102 : Int32)), some (iv (105 : Int32)), some (iv (114 : Int32)), some (iv (115 : Int32)), some (iv (116 : Int32)), some (iv (0 : Int32)), some (jv (((((102 : Int32).toInt64 - (96 : Int64)) * (32 : Int64)) + (105 : Int32).toInt64) - (96 : Int64))), none]) dX8_spelled_21 (Nat.le_of_ble_eq_true rfl) rfl ?_
    refine mx_iload_n dX8_spelled_23 rfl rfl ?_
    refine mx_if_le (tgt := 43) dX8_spelled_24 rfl (fun _ => absurd ‹_› (by decide)) (fun _ => ?_)
    refine mx_lload dX8_spelled_27 rfl ?_
    refine mx_ldc2 q2079 dX8_spelled_29 ?_
    refine mx_lmul dX8_spelled_32 ?_
    refine mx_iload_n dX8_spelled_33 rfl rfl ?_
    refine mx_i2l dX8_spelled_34 ?_
    refine mx_ladd dX8_spelled_35 ?_
    refine mx_ldc2 q2078 dX8_spelled_36 ?_
    refine mx_lsub dX8_spelled_39 ?_
    refine mx_goto (tgt := 45) dX8_spelled_40 rfl ?_
    refine mx_lstore (al' := [some (iv (102 : Int32)), some (iv (105 : Int32)), some (iv (114 : Int32)), some (iv (115 : Int32)), some (iv (116 : Int32)), some (iv (0 : Int32)), some (jv ((((((((102 : Int32).toInt64 - (96 : Int64)) * (32 : Int64)) + (105 : Int32).toInt64) - (96 : Int64)) * (32 : Int64)) + (114 : Int32).toInt64) - (96 : Int64))), none]) dX8_spelled_45 (Nat.le_of_ble_eq_true rfl) rfl ?_
    refine mx_iload_n dX8_spelled_47 rfl rfl ?_
    refine mx_if_le (tgt := 67) dX8_spelled_48 rfl (fun _ => absurd ‹_› (by decide)) (fun _ => ?_)
    refine mx_lload dX8_spelled_51 rfl ?_
    refine mx_ldc2 q2079 dX8_spelled_53 ?_
    refine mx_lmul dX8_spelled_56 ?_
    refine mx_iload_n dX8_spelled_57 rfl rfl ?_
    refine mx_i2l dX8_spelled_58 ?_
    refine mx_ladd dX8_spelled_59 ?_
    refine mx_ldc2 q2078 dX8_spelled_60 ?_
    refine mx_lsub dX8_spelled_63 ?_
    refine mx_goto (tgt := 69) dX8_spelled_64 rfl ?_
    refine mx_lstore (al' := [some (iv (102 : Int32)), some (iv (105 : Int32)), some (iv (114 : Int32)), some (iv (115 : Int32)), some (iv (116 : Int32)), some (iv (0 : Int32)), some (jv (((((((((((102 : Int32).toInt64 - (96 : Int64)) * (32 : Int64)) + (105 : Int32).toInt64) - (96 : Int64)) * (32 : Int64)) + (114 : Int32).toInt64) - (96 : Int64)) * (32 : Int64)) + (115 : Int32).toInt64) - (96 : Int64))), none]) dX8_spelled_69 (Nat.le_of_ble_eq_true rfl) rfl ?_
    refine mx_iload dX8_spelled_71 rfl ?_
    refine mx_if_le (tgt := 93) dX8_spelled_73 rfl (fun _ => absurd ‹_› (by decide)) (fun _ => ?_)
    refine mx_lload dX8_spelled_76 rfl ?_
    refine mx_ldc2 q2079 dX8_spelled_78 ?_
    refine mx_lmul dX8_spelled_81 ?_
    refine mx_iload dX8_spelled_82 rfl ?_
    refine mx_i2l dX8_spelled_84 ?_
    refine mx_ladd dX8_spelled_85 ?_
    refine mx_ldc2 q2078 dX8_spelled_86 ?_
    refine mx_lsub dX8_spelled_89 ?_
    refine mx_goto (tgt := 95) dX8_spelled_90 rfl ?_
    refine mx_lstore (al' := [some (iv (102 : Int32)), some (iv (105 : Int32)), some (iv (114 : Int32)), some (iv (115 : Int32)), some (iv (116 : Int32)), some (iv (0 : Int32)), some (jv ((((((((((((((102 : Int32).toInt64 - (96 : Int64)) * (32 : Int64)) + (105 : Int32).toInt64) - (96 : Int64)) * (32 : Int64)) + (114 : Int32).toInt64) - (96 : Int64)) * (32 : Int64)) + (115 : Int32).toInt64) - (96 : Int64)) * (32 : Int64)) + (116 : Int32).toInt64) - (96 : Int64))), none]) dX8_spelled_95 (Nat.le_of_ble_eq_true rfl) rfl ?_
    refine mx_iload dX8_spelled_97 rfl ?_
    refine mx_if_le (tgt := 119) dX8_spelled_99 rfl (fun _ => ?_) (fun _ => absurd ‹_› (by decide))
    refine mx_lload dX8_spelled_119 rfl ?_
    refine mx_lretK rfl dX8_spelled_121 ?_
    refine mx_tj (show ((((((((((((((102 : Int32).toInt64 - (96 : Int64)) * (32 : Int64)) + (105 : Int32).toInt64) - (96 : Int64)) * (32 : Int64)) + (114 : Int32).toInt64) - (96 : Int64)) * (32 : Int64)) + (115 : Int32).toInt64) - (96 : Int64)) * (32 : Int64)) + (116 : Int32).toInt64) - (96 : Int64)) = (6605428 : Int64) by decide) ?_
    refine mx_iload_n dX8_pay_80 rfl rfl ?_
    refine mx_iload_n dX8_pay_81 rfl rfl ?_
    refine mx_callV 8 (y' := mi_X8_ofYear) (vs := [jv (6605428 : Int64), iv x1, iv x3]) (st := []) (al' := [some (rv a0), some (jv (6605428 : Int64)), none, some (iv x1), some (iv x3)]) cl_8 V_X8_ofYear (Or.inl q2316) dX8_pay_82 rfl rfl (Nat.le_of_ble_eq_true rfl) (Nat.le_of_ble_eq_true rfl) (ly8_k La0_h4) ?_
    refine ma_kl H (fun r7 h6 Xh6 H => ?_) (fun x1 h1 X1 H => mt_out rfl H)
    have H := H Xh6
    have La0_h6 := La0_h4.ext Xh6
    refine mx_lstore (al' := [some (rv a0), some (iv x1), some (iv x2), some (iv x3), some (jv (r3 - r5)), none, some (jv r7), none, none]) dX8_pay_85 (Nat.le_of_ble_eq_true rfl) rfl ?_
    refine mx_aload_n dX8_pay_87 rfl rfl ?_
    refine mx_iload_n dX8_pay_88 rfl rfl ?_
    refine mx_iload_n dX8_pay_89 rfl rfl ?_
    refine mx_iload_n dX8_pay_90 rfl rfl ?_
    refine mx_callV 8 (y' := mi_X8_bring) (vs := [iv x1, iv x3, iv x2]) (st := []) (al' := [some (rv a0), some (iv x1), some (iv x3), some (iv x2), none, none, none]) cl_8 V_X8_bring (Or.inl q2320) dX8_pay_91 rfl rfl (Nat.le_of_ble_eq_true rfl) (Nat.le_of_ble_eq_true rfl) (ly8_k La0_h6) ?_
    refine ma_kl H (fun r9 h8 Xh8 H => ?_) (fun x1 h1 X1 H => mt_out rfl H)
    have H := H Xh8
    have La0_h8 := La0_h6.ext Xh8
    refine mx_pop2_l dX8_pay_94 ?_
    refine mx_iconst dX8_pay_95 ic_0 ?_
    refine mx_istore (al' := [some (rv a0), some (iv x1), some (iv x2), some (iv x3), some (jv (r3 - r5)), none, some (jv r7), none, some (iv (0 : Int32))]) dX8_pay_96 (Nat.le_of_ble_eq_true rfl) rfl ?_
    exact mx_weak (al' := [some (rv a0), some (iv x1), some (iv x2), some (iv x3), some (jv (r3 - r5)), none, some (jv r7), none, some (iv (0 : Int32))]) ⟨rfl, ⟨rfl, ⟨rfl, ⟨rfl, ⟨rfl, ⟨rfl, ⟨rfl, trivial⟩⟩⟩⟩⟩⟩⟩ H
theorem v_X8_pay_208 {G : ma_G} {d : Nat} {a0 : Nat} {x1 : Int32} {x3 : Int64} {x5 : Int32} {h : ah_T} {Q : Option ma_V → ah_T → Prop} {E : Nat → ah_T → Prop} (La0_h : LY8 h a0) (H : ((20 : Int32) ≤ x5 → ∀ h2 : ah_T, h2 = ah_wJ h a0 77 (jMax (0 : Int64) (-x3)) → ah_ext h h2 → MX G mi_X8_ofYear d 0 [some (rv a0), some (jv (20579780 : Int64)), none, some (iv x1), some (iv (0 : Int32))] [] h2 (Ql fun r4 h3 => ah_ext h2 h3 → ∀ h5 : ah_T, h5 = ah_wJ h3 a0 78 (((jMax (0 : Int64) (-x3)) * r4) / (1000 : Int64)) → ah_ext h3 h5 → MX G mi_X8_parts d 0 [some (rv a0), some (jv ((ah_J h3 a0 77) - (((jMax (0 : Int64) (-x3)) * r4) / (1000 : Int64)))), none, none, none, none, none, none, none] [] h5 (Qv fun h6 => ah_ext h5 h6 → MX G mi_X8_pay (d + 1) 309 [some (rv a0), none, none, none, none, some (iv (0 : Int32)), none, none, none] [] h6 Q E) E) E) ∧ (¬ (20 : Int32) ≤ x5 → vp_in x5 20 ∧ ∀ h9 : ah_T, h9 = ah_wJ h (a0 + 32) x5.toNatClampNeg (jMax (0 : Int64) (-(ah_J h (a0 + 51) x5.toNatClampNeg))) → ah_ext h h9 → MX G mi_X8_pay (d + 1) 208 [some (rv a0), some (iv x1), none, some (jv (x3 + (ah_J h (a0 + 51) x5.toNatClampNeg))), none, some (iv (x5 + (1 : Int32))), none, none, none] [] h9 Q E)) : MX G mi_X8_pay (d + 1) 208 [some (rv a0), some (iv x1), none, some (jv x3), none, some (iv x5), none, none, none] [] h Q E := by
  refine mx_iload dX8_pay_208 rfl ?_
  refine mx_bipush dX8_pay_210 ib_20 ?_
  refine mx_icmp_ge (tgt := 250) dX8_pay_212 rfl (fun c1 => ?_) (fun c1 => ?_)
  · have H := H.1 c1
    refine mx_aload_n dX8_pay_250 rfl rfl ?_
    refine mx_lconst dX8_pay_251 lc_0 ?_
    refine mx_lload_n dX8_pay_252 rfl rfl ?_
    refine mx_lneg dX8_pay_253 ?_
    refine mx_callS (y' := mi_J8_max) (vs := [jv (0 : Int64), jv (-x3)]) (st := [rv a0]) (al' := [some (jv (0 : Int64)), none, some (jv (-x3)), none]) S_J8_max q2106 dX8_pay_254 rfl rfl (Nat.le_of_ble_eq_true rfl) (Nat.le_of_ble_eq_true rfl) ?_
    refine pv_J8_max ?_
    refine mx_putJ 8 77 (ref := "PrairiePoolModel") cl_8 (Nat.le_of_ble_eq_true rfl) (Or.inl q1704) (Or.inl rfl) dX8_pay_257 (Or.inl rfl) rfl (ly8_k La0_h) ?_
    refine mx_nmJ  (fun h2 eh2 Xh2 Kh2 Lh2 => ?_)
    have H := H h2 eh2 Xh2
    have La0_h2 := La0_h.ext Xh2
    refine mx_aload_n dX8_pay_260 rfl rfl ?_
    refine mx_aload_n dX8_pay_261 rfl rfl ?_
    refine mx_get 8 77 (ref := "PrairiePoolModel") cl_8 (Nat.le_of_ble_eq_true rfl) (Or.inl q1704) (Or.inl rfl) dX8_pay_262 (fv_8_77 _ _) (ly8_k La0_h2) ?_
    refine mx_tj (ah_hitJ eh2) ?_
    refine mx_aload_n dX8_pay_265 rfl rfl ?_
    refine mx_bipush dX8_pay_266 ib_115 ?_
    refine mx_bipush dX8_pay_268 ib_116 ?_
    refine mx_bipush dX8_pay_270 ib_97 ?_
    refine mx_bipush dX8_pay_272 ib_110 ?_
    refine mx_bipush dX8_pay_274 ib_100 ?_
    refine mx_iconst dX8_pay_276 ic_0 ?_
    refine mx_callS (y' := mi_X8_spelled) (vs := [iv (115 : Int32), iv (116 : Int32), iv (97 : Int32), iv (110 : Int32), iv (100 : Int32), iv (0 : Int32)]) (st := [rv a0, jv (jMax (0 : Int64) (-x3)), rv a0]) (al' := [some (iv (115 : Int32)), some (iv (116 : Int32)), some (iv (97 : Int32)), some (iv (110 : Int32)), some (iv (100 : Int32)), some (iv (0 : Int32)), none, none]) S_X8_spelled q2075 dX8_pay_277 rfl rfl (Nat.le_of_ble_eq_true rfl) (Nat.le_of_ble_eq_true rfl) ?_
    refine mx_iload_n dX8_spelled_0 rfl rfl ?_
    refine mx_i2l dX8_spelled_1 ?_
    refine mx_ldc2 q2078 dX8_spelled_2 ?_
    refine mx_lsub dX8_spelled_5 ?_
    refine mx_lstore (al' := [some (iv (115 : Int32)), some (iv (116 : Int32)), some (iv (97 : Int32)), some (iv (110 : Int32)), some (iv (100 : Int32)), some (iv (0 : Int32)), some (jv ((115 : Int32).toInt64 - (96 : Int64))), none]) dX8_spelled_6 (Nat.le_of_ble_eq_true rfl) rfl ?_
    refine mx_lload dX8_spelled_8 rfl ?_
    refine mx_ldc2 q2079 dX8_spelled_10 ?_
    refine mx_lmul dX8_spelled_13 ?_
    refine mx_iload_n dX8_spelled_14 rfl rfl ?_
    refine mx_i2l dX8_spelled_15 ?_
    refine mx_ladd dX8_spelled_16 ?_
    refine mx_ldc2 q2078 dX8_spelled_17 ?_
    refine mx_lsub dX8_spelled_20 ?_
    refine mx_lstore (al' := [some (iv (115 : Int32)), some (iv (116 : Int32)), some (iv (97 : Int32)), some (iv (110 : Int32)), some (iv (100 : Int32)), some (iv (0 : Int32)), some (jv (((((115 : Int32).toInt64 - (96 : Int64)) * (32 : Int64)) + (116 : Int32).toInt64) - (96 : Int64))), none]) dX8_spelled_21 (Nat.le_of_ble_eq_true rfl) rfl ?_
    refine mx_iload_n dX8_spelled_23 rfl rfl ?_
    refine mx_if_le (tgt := 43) dX8_spelled_24 rfl (fun _ => absurd ‹_› (by decide)) (fun _ => ?_)
    refine mx_lload dX8_spelled_27 rfl ?_
    refine mx_ldc2 q2079 dX8_spelled_29 ?_
    refine mx_lmul dX8_spelled_32 ?_
    refine mx_iload_n dX8_spelled_33 rfl rfl ?_
    refine mx_i2l dX8_spelled_34 ?_
    refine mx_ladd dX8_spelled_35 ?_
    refine mx_ldc2 q2078 dX8_spelled_36 ?_
    refine mx_lsub dX8_spelled_39 ?_
    refine mx_goto (tgt := 45) dX8_spelled_40 rfl ?_
    refine mx_lstore (al' := [some (iv (115 : Int32)), some (iv (116 : Int32)), some (iv (97 : Int32)), some (iv (110 : Int32)), some (iv (100 : Int32)), some (iv (0 : Int32)), some (jv ((((((((115 : Int32).toInt64 - (96 : Int64)) * (32 : Int64)) + (116 : Int32).toInt64) - (96 : Int64)) * (32 : Int64)) + (97 : Int32).toInt64) - (96 : Int64))), none]) dX8_spelled_45 (Nat.le_of_ble_eq_true rfl) rfl ?_
    refine mx_iload_n dX8_spelled_47 rfl rfl ?_
    refine mx_if_le (tgt := 67) dX8_spelled_48 rfl (fun _ => absurd ‹_› (by decide)) (fun _ => ?_)
    refine mx_lload dX8_spelled_51 rfl ?_
    refine mx_ldc2 q2079 dX8_spelled_53 ?_
    refine mx_lmul dX8_spelled_56 ?_
    refine mx_iload_n dX8_spelled_57 rfl rfl ?_
    refine mx_i2l dX8_spelled_58 ?_
    refine mx_ladd dX8_spelled_59 ?_
    refine mx_ldc2 q2078 dX8_spelled_60 ?_
    refine mx_lsub dX8_spelled_63 ?_
    refine mx_goto (tgt := 69) dX8_spelled_64 rfl ?_
    refine mx_lstore (al' := [some (iv (115 : Int32)), some (iv (116 : Int32)), some (iv (97 : Int32)), some (iv (110 : Int32)), some (iv (100 : Int32)), some (iv (0 : Int32)), some (jv (((((((((((115 : Int32).toInt64 - (96 : Int64)) * (32 : Int64)) + (116 : Int32).toInt64) - (96 : Int64)) * (32 : Int64)) + (97 : Int32).toInt64) - (96 : Int64)) * (32 : Int64)) + (110 : Int32).toInt64) - (96 : Int64))), none]) dX8_spelled_69 (Nat.le_of_ble_eq_true rfl) rfl ?_
    refine mx_iload dX8_spelled_71 rfl ?_
    refine mx_if_le (tgt := 93) dX8_spelled_73 rfl (fun _ => absurd ‹_› (by decide)) (fun _ => ?_)
    refine mx_lload dX8_spelled_76 rfl ?_
    refine mx_ldc2 q2079 dX8_spelled_78 ?_
    refine mx_lmul dX8_spelled_81 ?_
    refine mx_iload dX8_spelled_82 rfl ?_
    refine mx_i2l dX8_spelled_84 ?_
    refine mx_ladd dX8_spelled_85 ?_
    refine mx_ldc2 q2078 dX8_spelled_86 ?_
    refine mx_lsub dX8_spelled_89 ?_
    refine mx_goto (tgt := 95) dX8_spelled_90 rfl ?_
    refine mx_lstore (al' := [some (iv (115 : Int32)), some (iv (116 : Int32)), some (iv (97 : Int32)), some (iv (110 : Int32)), some (iv (100 : Int32)), some (iv (0 : Int32)), some (jv ((((((((((((((115 : Int32).toInt64 - (96 : Int64)) * (32 : Int64)) + (116 : Int32).toInt64) - (96 : Int64)) * (32 : Int64)) + (97 : Int32).toInt64) - (96 : Int64)) * (32 : Int64)) + (110 : Int32).toInt64) - (96 : Int64)) * (32 : Int64)) + (100 : Int32).toInt64) - (96 : Int64))), none]) dX8_spelled_95 (Nat.le_of_ble_eq_true rfl) rfl ?_
    refine mx_iload dX8_spelled_97 rfl ?_
    refine mx_if_le (tgt := 119) dX8_spelled_99 rfl (fun _ => ?_) (fun _ => absurd ‹_› (by decide))
    refine mx_lload dX8_spelled_119 rfl ?_
    refine mx_lretK rfl dX8_spelled_121 ?_
    refine mx_tj (show ((((((((((((((115 : Int32).toInt64 - (96 : Int64)) * (32 : Int64)) + (116 : Int32).toInt64) - (96 : Int64)) * (32 : Int64)) + (97 : Int32).toInt64) - (96 : Int64)) * (32 : Int64)) + (110 : Int32).toInt64) - (96 : Int64)) * (32 : Int64)) + (100 : Int32).toInt64) - (96 : Int64)) = (20579780 : Int64) by decide) ?_
    refine mx_iload_n dX8_pay_280 rfl rfl ?_
    refine mx_iconst dX8_pay_281 ic_0 ?_
    refine mx_callV 8 (y' := mi_X8_ofYear) (vs := [jv (20579780 : Int64), iv x1, iv (0 : Int32)]) (st := [jv (jMax (0 : Int64) (-x3)), rv a0]) (al' := [some (rv a0), some (jv (20579780 : Int64)), none, some (iv x1), some (iv (0 : Int32))]) cl_8 V_X8_ofYear (Or.inl q2316) dX8_pay_282 rfl rfl (Nat.le_of_ble_eq_true rfl) (Nat.le_of_ble_eq_true rfl) (ly8_k La0_h2) ?_
    refine ma_kl H (fun r4 h3 Xh3 H => ?_) (fun x1 h1 X1 H => mt_out rfl H)
    have H := H Xh3
    have La0_h3 := La0_h2.ext Xh3
    refine mx_lmul dX8_pay_285 ?_
    refine mx_ldc2 q2023 dX8_pay_286 ?_
    refine mx_ldiv dX8_pay_289 (by decide) ?_
    refine mx_putJ 8 78 (ref := "PrairiePoolModel") cl_8 (Nat.le_of_ble_eq_true rfl) (Or.inl q1705) (Or.inl rfl) dX8_pay_290 (Or.inl rfl) rfl (ly8_k La0_h3) ?_
    refine mx_nmJ  (fun h5 eh5 Xh5 Kh5 Lh5 => ?_)
    have H := H h5 eh5 Xh5
    have La0_h5 := La0_h3.ext Xh5
    refine mx_aload_n dX8_pay_293 rfl rfl ?_
    refine mx_aload_n dX8_pay_294 rfl rfl ?_
    refine mx_get 8 77 (ref := "PrairiePoolModel") cl_8 (Nat.le_of_ble_eq_true rfl) (Or.inl q1704) (Or.inl rfl) dX8_pay_295 (fv_8_77 _ _) (ly8_k La0_h5) ?_
    refine mx_tj (ah_skJK eh5 (by decide)) ?_
    refine mx_aload_n dX8_pay_298 rfl rfl ?_
    refine mx_get 8 78 (ref := "PrairiePoolModel") cl_8 (Nat.le_of_ble_eq_true rfl) (Or.inl q1705) (Or.inl rfl) dX8_pay_299 (fv_8_78 _ _) (ly8_k La0_h5) ?_
    refine mx_tj (ah_hitJ eh5) ?_
    refine mx_lsub dX8_pay_302 ?_
    refine mx_callV 8 (y' := mi_X8_parts) (vs := [jv ((ah_J h3 a0 77) - (((jMax (0 : Int64) (-x3)) * r4) / (1000 : Int64)))]) (st := []) (al' := [some (rv a0), some (jv ((ah_J h3 a0 77) - (((jMax (0 : Int64) (-x3)) * r4) / (1000 : Int64)))), none, none, none, none, none, none, none]) cl_8 V_X8_parts (Or.inl q2144) dX8_pay_303 rfl rfl (Nat.le_of_ble_eq_true rfl) (Nat.le_of_ble_eq_true rfl) (ly8_k La0_h5) ?_
    refine ma_kv H (fun h6 Xh6 H => ?_) (fun x1 h1 X1 H => mt_out rfl H)
    have H := H Xh6
    have La0_h6 := La0_h5.ext Xh6
    refine mx_iconst dX8_pay_306 ic_0 ?_
    refine mx_istore (al' := [some (rv a0), some (iv x1), none, some (jv x3), none, some (iv (0 : Int32)), none, none, none]) dX8_pay_307 (Nat.le_of_ble_eq_true rfl) rfl ?_
    exact mx_weak (al' := [some (rv a0), none, none, none, none, some (iv (0 : Int32)), none, none, none]) ⟨rfl, ⟨rfl, trivial⟩⟩ H
  · have H := H.2 c1
    refine mx_lload_n dX8_pay_215 rfl rfl ?_
    refine mx_aload_n dX8_pay_216 rfl rfl ?_
    refine mx_get 8 75 (ref := "PrairiePoolModel") cl_8 (Nat.le_of_ble_eq_true rfl) (Or.inl q1702) (Or.inl rfl) dX8_pay_217 (fv_8_75 _ _) (ly8_k La0_h) ?_
    refine mx_tr (ly8_R_0_75 La0_h) ?_
    refine mx_iload dX8_pay_220 rfl ?_
    obtain ⟨k8, H⟩ := H
    refine my_lald dX8_pay_222 rfl (ly8_A_51 La0_h k8) ?_
    refine mx_ladd dX8_pay_223 ?_
    refine mx_lstore_n (al' := [some (rv a0), some (iv x1), none, some (jv (x3 + (ah_J h (a0 + 51) x5.toNatClampNeg))), none, some (iv x5), none, none, none]) dX8_pay_224 rfl (Nat.le_of_ble_eq_true rfl) rfl ?_
    refine mx_aload_n dX8_pay_225 rfl rfl ?_
    refine mx_get 8 40 (ref := "PrairiePoolModel") cl_8 (Nat.le_of_ble_eq_true rfl) (Or.inl q1667) (Or.inl rfl) dX8_pay_226 (fv_8_40 _ _) (ly8_k La0_h) ?_
    refine mx_tr (ly8_R_0_40 La0_h) ?_
    refine mx_iload dX8_pay_229 rfl ?_
    refine mx_lconst dX8_pay_231 lc_0 ?_
    refine mx_aload_n dX8_pay_232 rfl rfl ?_
    refine mx_get 8 75 (ref := "PrairiePoolModel") cl_8 (Nat.le_of_ble_eq_true rfl) (Or.inl q1702) (Or.inl rfl) dX8_pay_233 (fv_8_75 _ _) (ly8_k La0_h) ?_
    refine mx_tr (ly8_R_0_75 La0_h) ?_
    refine mx_iload dX8_pay_236 rfl ?_
    refine my_lald dX8_pay_238 rfl (ly8_A_51 La0_h k8) ?_
    refine mx_lneg dX8_pay_239 ?_
    refine mx_callS (y' := mi_J8_max) (vs := [jv (0 : Int64), jv (-(ah_J h (a0 + 51) x5.toNatClampNeg))]) (st := [iv x5, rv (a0 + 32)]) (al' := [some (jv (0 : Int64)), none, some (jv (-(ah_J h (a0 + 51) x5.toNatClampNeg))), none]) S_J8_max q2106 dX8_pay_240 rfl rfl (Nat.le_of_ble_eq_true rfl) (Nat.le_of_ble_eq_true rfl) ?_
    refine pv_J8_max ?_
    refine my_last dX8_pay_243 rfl (ly8_A_32 La0_h k8) ?_
    refine mx_nmJ  (fun h9 eh9 Xh9 Kh9 Lh9 => ?_)
    have H := H h9 eh9 Xh9
    have La0_h9 := La0_h.ext Xh9
    refine mx_iinc (al' := [some (rv a0), some (iv x1), none, some (jv (x3 + (ah_J h (a0 + 51) x5.toNatClampNeg))), none, some (iv (x5 + (1 : Int32))), none, none, none]) dX8_pay_244 rfl ic_1 rfl ?_
    refine mx_goto (tgt := 208) dX8_pay_247 rfl ?_
    exact mx_weak (al' := [some (rv a0), some (iv x1), none, some (jv (x3 + (ah_J h (a0 + 51) x5.toNatClampNeg))), none, some (iv (x5 + (1 : Int32))), none, none, none]) ⟨rfl, ⟨rfl, ⟨rfl, ⟨rfl, trivial⟩⟩⟩⟩ H
theorem v_X8_pay_98 {G : ma_G} {d : Nat} {a0 : Nat} {x1 : Int32} {x2 : Int32} {x3 : Int32} {x4 : Int64} {x6 : Int64} {x8 : Int32} {h : ah_T} {Q : Option ma_V → ah_T → Prop} {E : Nat → ah_T → Prop} (La0_h : LY8 h a0) (H : ((20 : Int32) ≤ x8 → MX G mi_X8_parts d 0 [some (rv a0), some (jv x4), none, none, none, none, none, none, none] [] h (Qv fun h2 => ah_ext h h2 → MX G mi_X8_pay (d + 1) 134 [some (rv a0), some (iv x1), some (iv x2), some (iv x3), none, none, some (jv x6), none, some (iv (0 : Int32))] [] h2 Q E) E) ∧ (¬ (20 : Int32) ≤ x8 → vp_in x8 20 ∧ ∀ h5 : ah_T, h5 = ah_wJ h (a0 + 32) x8.toNatClampNeg (ah_J h (a0 + 49) x8.toNatClampNeg) → ah_ext h h5 → MX G mi_X8_pay (d + 1) 98 [some (rv a0), some (iv x1), some (iv x2), some (iv x3), some (jv x4), none, some (jv x6), none, some (iv (x8 + (1 : Int32)))] [] h5 Q E)) : MX G mi_X8_pay (d + 1) 98 [some (rv a0), some (iv x1), some (iv x2), some (iv x3), some (jv x4), none, some (jv x6), none, some (iv x8)] [] h Q E := by
  refine mx_iload dX8_pay_98 rfl ?_
  refine mx_bipush dX8_pay_100 ib_20 ?_
  refine mx_icmp_ge (tgt := 125) dX8_pay_102 rfl (fun c1 => ?_) (fun c1 => ?_)
  · have H := H.1 c1
    refine mx_aload_n dX8_pay_125 rfl rfl ?_
    refine mx_lload dX8_pay_126 rfl ?_
    refine mx_callV 8 (y' := mi_X8_parts) (vs := [jv x4]) (st := []) (al' := [some (rv a0), some (jv x4), none, none, none, none, none, none, none]) cl_8 V_X8_parts (Or.inl q2144) dX8_pay_128 rfl rfl (Nat.le_of_ble_eq_true rfl) (Nat.le_of_ble_eq_true rfl) (ly8_k La0_h) ?_
    refine ma_kv H (fun h2 Xh2 H => ?_) (fun x1 h1 X1 H => mt_out rfl H)
    have H := H Xh2
    have La0_h2 := La0_h.ext Xh2
    refine mx_iconst dX8_pay_131 ic_0 ?_
    refine mx_istore (al' := [some (rv a0), some (iv x1), some (iv x2), some (iv x3), some (jv x4), none, some (jv x6), none, some (iv (0 : Int32))]) dX8_pay_132 (Nat.le_of_ble_eq_true rfl) rfl ?_
    exact mx_weak (al' := [some (rv a0), some (iv x1), some (iv x2), some (iv x3), none, none, some (jv x6), none, some (iv (0 : Int32))]) ⟨rfl, ⟨rfl, ⟨rfl, ⟨rfl, ⟨rfl, ⟨rfl, trivial⟩⟩⟩⟩⟩⟩ H
  · have H := H.2 c1
    refine mx_aload_n dX8_pay_105 rfl rfl ?_
    refine mx_get 8 40 (ref := "PrairiePoolModel") cl_8 (Nat.le_of_ble_eq_true rfl) (Or.inl q1667) (Or.inl rfl) dX8_pay_106 (fv_8_40 _ _) (ly8_k La0_h) ?_
    refine mx_tr (ly8_R_0_40 La0_h) ?_
    refine mx_iload dX8_pay_109 rfl ?_
    refine mx_aload_n dX8_pay_111 rfl rfl ?_
    refine mx_get 8 73 (ref := "PrairiePoolModel") cl_8 (Nat.le_of_ble_eq_true rfl) (Or.inl q1700) (Or.inl rfl) dX8_pay_112 (fv_8_73 _ _) (ly8_k La0_h) ?_
    refine mx_tr (ly8_R_0_73 La0_h) ?_
    refine mx_iload dX8_pay_115 rfl ?_
    obtain ⟨k4, H⟩ := H
    refine my_lald dX8_pay_117 rfl (ly8_A_49 La0_h k4) ?_
    refine my_last dX8_pay_118 rfl (ly8_A_32 La0_h k4) ?_
    refine mx_nmJ  (fun h5 eh5 Xh5 Kh5 Lh5 => ?_)
    have H := H h5 eh5 Xh5
    have La0_h5 := La0_h.ext Xh5
    refine mx_iinc (al' := [some (rv a0), some (iv x1), some (iv x2), some (iv x3), some (jv x4), none, some (jv x6), none, some (iv (x8 + (1 : Int32)))]) dX8_pay_119 rfl ic_1 rfl ?_
    refine mx_goto (tgt := 98) dX8_pay_122 rfl ?_
    exact mx_weak (al' := [some (rv a0), some (iv x1), some (iv x2), some (iv x3), some (jv x4), none, some (jv x6), none, some (iv (x8 + (1 : Int32)))]) ⟨rfl, ⟨rfl, ⟨rfl, ⟨rfl, ⟨rfl, ⟨rfl, ⟨rfl, trivial⟩⟩⟩⟩⟩⟩⟩ H
theorem v_X8_pay_309 {G : ma_G} {d : Nat} {a0 : Nat} {x5 : Int32} {h : ah_T} {Q : Option ma_V → ah_T → Prop} {E : Nat → ah_T → Prop} (La0_h : LY8 h a0) (H : ((ah_I h a0 5) ≤ x5 → Q none h) ∧ (¬ (ah_I h a0 5) ≤ x5 → vp_in x5 20 ∧ ∀ h3 : ah_T, h3 = ah_wJ h (a0 + 52) x5.toNatClampNeg (ah_J h (a0 + 33) x5.toNatClampNeg) → ah_ext h h3 → MX G mi_X8_pay (d + 1) 309 [some (rv a0), none, none, none, none, some (iv (x5 + (1 : Int32))), none, none, none] [] h3 Q E)) : MX G mi_X8_pay (d + 1) 309 [some (rv a0), none, none, none, none, some (iv x5), none, none, none] [] h Q E := by
  refine mx_iload dX8_pay_309 rfl ?_
  refine mx_aload_n dX8_pay_311 rfl rfl ?_
  refine mx_get 8 5 (ref := "PrairiePoolModel") cl_8 (Nat.le_of_ble_eq_true rfl) (Or.inl q1632) (Or.inl rfl) dX8_pay_312 (fv_8_5 _ _) (ly8_k La0_h) ?_
  refine mx_icmp_ge (tgt := 338) dX8_pay_315 rfl (fun c1 => ?_) (fun c1 => ?_)
  · have H := H.1 c1
    exact mx_vret rfl dX8_pay_338 H
  · have H := H.2 c1
    refine mx_aload_n dX8_pay_318 rfl rfl ?_
    refine mx_get 8 76 (ref := "PrairiePoolModel") cl_8 (Nat.le_of_ble_eq_true rfl) (Or.inl q1703) (Or.inl rfl) dX8_pay_319 (fv_8_76 _ _) (ly8_k La0_h) ?_
    refine mx_tr (ly8_R_0_76 La0_h) ?_
    refine mx_iload dX8_pay_322 rfl ?_
    refine mx_aload_n dX8_pay_324 rfl rfl ?_
    refine mx_get 8 41 (ref := "PrairiePoolModel") cl_8 (Nat.le_of_ble_eq_true rfl) (Or.inl q1668) (Or.inl rfl) dX8_pay_325 (fv_8_41 _ _) (ly8_k La0_h) ?_
    refine mx_tr (ly8_R_0_41 La0_h) ?_
    refine mx_iload dX8_pay_328 rfl ?_
    obtain ⟨k2, H⟩ := H
    refine my_lald dX8_pay_330 rfl (ly8_A_33 La0_h k2) ?_
    refine my_last dX8_pay_331 rfl (ly8_A_52 La0_h k2) ?_
    refine mx_nmJ  (fun h3 eh3 Xh3 Kh3 Lh3 => ?_)
    have H := H h3 eh3 Xh3
    have La0_h3 := La0_h.ext Xh3
    refine mx_iinc (al' := [some (rv a0), none, none, none, none, some (iv (x5 + (1 : Int32))), none, none, none]) dX8_pay_332 rfl ic_1 rfl ?_
    refine mx_goto (tgt := 309) dX8_pay_335 rfl ?_
    exact mx_weak (al' := [some (rv a0), none, none, none, none, some (iv (x5 + (1 : Int32))), none, none, none]) ⟨rfl, ⟨rfl, trivial⟩⟩ H
theorem v_X8_pay_134 {G : ma_G} {d : Nat} {a0 : Nat} {x1 : Int32} {x2 : Int32} {x3 : Int32} {x6 : Int64} {x8 : Int32} {h : ah_T} {Q : Option ma_V → ah_T → Prop} {E : Nat → ah_T → Prop} (La0_h : LY8 h a0) (H : ((ah_I h a0 5) ≤ x8 → MX G mi_X8_pay (d + 1) 42 [some (rv a0), some (iv x1), some (iv x2), some (iv (x3 + (1 : Int32))), none, none, none, none, none] [] h Q E) ∧ (¬ (ah_I h a0 5) ≤ x8 → vp_in x8 20 ∧ ∀ h3 : ah_T, h3 = ah_wJ h (a0 + 50) x8.toNatClampNeg ((ah_J h (a0 + 50) x8.toNatClampNeg) + (x6 * (ah_J h (a0 + 49) x8.toNatClampNeg))) → ah_ext h h3 → ∀ h4 : ah_T, h4 = ah_wJ h3 (a0 + 51) x8.toNatClampNeg ((ah_J h (a0 + 51) x8.toNatClampNeg) + ((ah_J h (a0 + 33) x8.toNatClampNeg) - (x6 * (ah_J h (a0 + 49) x8.toNatClampNeg)))) → ah_ext h3 h4 → MX G mi_X8_pay (d + 1) 134 [some (rv a0), some (iv x1), some (iv x2), some (iv x3), none, none, some (jv x6), none, some (iv (x8 + (1 : Int32)))] [] h4 Q E)) : MX G mi_X8_pay (d + 1) 134 [some (rv a0), some (iv x1), some (iv x2), some (iv x3), none, none, some (jv x6), none, some (iv x8)] [] h Q E := by
  refine mx_iload dX8_pay_134 rfl ?_
  refine mx_aload_n dX8_pay_136 rfl rfl ?_
  refine mx_get 8 5 (ref := "PrairiePoolModel") cl_8 (Nat.le_of_ble_eq_true rfl) (Or.inl q1632) (Or.inl rfl) dX8_pay_137 (fv_8_5 _ _) (ly8_k La0_h) ?_
  refine mx_icmp_ge (tgt := 197) dX8_pay_140 rfl (fun c1 => ?_) (fun c1 => ?_)
  · have H := H.1 c1
    refine mx_iinc (al' := [some (rv a0), some (iv x1), some (iv x2), some (iv (x3 + (1 : Int32))), none, none, some (jv x6), none, some (iv x8)]) dX8_pay_197 rfl ic_1 rfl ?_
    refine mx_goto (tgt := 42) dX8_pay_200 rfl ?_
    exact mx_weak (al' := [some (rv a0), some (iv x1), some (iv x2), some (iv (x3 + (1 : Int32))), none, none, none, none, none]) ⟨rfl, ⟨rfl, ⟨rfl, ⟨rfl, trivial⟩⟩⟩⟩ H
  · have H := H.2 c1
    refine mx_aload_n dX8_pay_143 rfl rfl ?_
    refine mx_get 8 74 (ref := "PrairiePoolModel") cl_8 (Nat.le_of_ble_eq_true rfl) (Or.inl q1701) (Or.inl rfl) dX8_pay_144 (fv_8_74 _ _) (ly8_k La0_h) ?_
    refine mx_tr (ly8_R_0_74 La0_h) ?_
    refine mx_iload dX8_pay_147 rfl ?_
    refine mx_dup2_ir dX8_pay_149 ?_
    obtain ⟨k2, H⟩ := H
    refine my_lald dX8_pay_150 rfl (ly8_A_50 La0_h k2) ?_
    refine mx_lload dX8_pay_151 rfl ?_
    refine mx_aload_n dX8_pay_153 rfl rfl ?_
    refine mx_get 8 73 (ref := "PrairiePoolModel") cl_8 (Nat.le_of_ble_eq_true rfl) (Or.inl q1700) (Or.inl rfl) dX8_pay_154 (fv_8_73 _ _) (ly8_k La0_h) ?_
    refine mx_tr (ly8_R_0_73 La0_h) ?_
    refine mx_iload dX8_pay_157 rfl ?_
    refine my_lald dX8_pay_159 rfl (ly8_A_49 La0_h k2) ?_
    refine mx_lmul dX8_pay_160 ?_
    refine mx_ladd dX8_pay_161 ?_
    refine my_last dX8_pay_162 rfl (ly8_A_50 La0_h k2) ?_
    refine mx_nmJ  (fun h3 eh3 Xh3 Kh3 Lh3 => ?_)
    have H := H h3 eh3 Xh3
    have La0_h3 := La0_h.ext Xh3
    refine mx_aload_n dX8_pay_163 rfl rfl ?_
    refine mx_get 8 75 (ref := "PrairiePoolModel") cl_8 (Nat.le_of_ble_eq_true rfl) (Or.inl q1702) (Or.inl rfl) dX8_pay_164 (fv_8_75 _ _) (ly8_k La0_h3) ?_
    refine mx_tr (ly8_R_0_75 La0_h3) ?_
    refine mx_iload dX8_pay_167 rfl ?_
    refine mx_dup2_ir dX8_pay_169 ?_
    refine my_lald dX8_pay_170 rfl (ly8_A_51 La0_h3 k2) ?_
    refine mx_tj (ah_skJA eh3 (by omega)) ?_
    refine mx_aload_n dX8_pay_171 rfl rfl ?_
    refine mx_get 8 41 (ref := "PrairiePoolModel") cl_8 (Nat.le_of_ble_eq_true rfl) (Or.inl q1668) (Or.inl rfl) dX8_pay_172 (fv_8_41 _ _) (ly8_k La0_h3) ?_
    refine mx_tr (ly8_R_0_41 La0_h3) ?_
    refine mx_iload dX8_pay_175 rfl ?_
    refine my_lald dX8_pay_177 rfl (ly8_A_33 La0_h3 k2) ?_
    refine mx_tj (ah_skJA eh3 (by omega)) ?_
    refine mx_lload dX8_pay_178 rfl ?_
    refine mx_aload_n dX8_pay_180 rfl rfl ?_
    refine mx_get 8 73 (ref := "PrairiePoolModel") cl_8 (Nat.le_of_ble_eq_true rfl) (Or.inl q1700) (Or.inl rfl) dX8_pay_181 (fv_8_73 _ _) (ly8_k La0_h3) ?_
    refine mx_tr (ly8_R_0_73 La0_h3) ?_
    refine mx_iload dX8_pay_184 rfl ?_
    refine my_lald dX8_pay_186 rfl (ly8_A_49 La0_h3 k2) ?_
    refine mx_tj (ah_skJA eh3 (by omega)) ?_
    refine mx_lmul dX8_pay_187 ?_
    refine mx_lsub dX8_pay_188 ?_
    refine mx_ladd dX8_pay_189 ?_
    refine my_last dX8_pay_190 rfl (ly8_A_51 La0_h3 k2) ?_
    refine mx_nmJ  (fun h4 eh4 Xh4 Kh4 Lh4 => ?_)
    have H := H h4 eh4 Xh4
    have Kh4 := Kh4.trans Kh3
    have Lh4 := Lh4.trans Lh3
    have La0_h4 := La0_h3.ext Xh4
    refine mx_iinc (al' := [some (rv a0), some (iv x1), some (iv x2), some (iv x3), none, none, some (jv x6), none, some (iv (x8 + (1 : Int32)))]) dX8_pay_191 rfl ic_1 rfl ?_
    refine mx_goto (tgt := 134) dX8_pay_194 rfl ?_
    exact mx_weak (al' := [some (rv a0), some (iv x1), some (iv x2), some (iv x3), none, none, some (jv x6), none, some (iv (x8 + (1 : Int32)))]) ⟨rfl, ⟨rfl, ⟨rfl, ⟨rfl, ⟨rfl, ⟨rfl, trivial⟩⟩⟩⟩⟩⟩ H
theorem dX8_first_0 : decode mi_X8_first.2.1 0 = .ok (.aload_n 0, 1) := by decide +kernel
theorem dX8_first_1 : decode mi_X8_first.2.1 1 = .ok (.iconst 0, 1) := by decide +kernel
theorem dX8_first_2 : decode mi_X8_first.2.1 2 = .ok (.putfield 257, 3) := by decide +kernel
theorem dX8_first_5 : decode mi_X8_first.2.1 5 = .ok (.aload_n 0, 1) := by decide +kernel
theorem dX8_first_6 : decode mi_X8_first.2.1 6 = .ok (.aload_n 0, 1) := by decide +kernel
theorem dX8_first_7 : decode mi_X8_first.2.1 7 = .ok (.iload_n 1, 1) := by decide +kernel
theorem dX8_first_8 : decode mi_X8_first.2.1 8 = .ok (.iload_n 2, 1) := by decide +kernel
theorem dX8_first_9 : decode mi_X8_first.2.1 9 = .ok (.iload_n 3, 1) := by decide +kernel
theorem dX8_first_10 : decode mi_X8_first.2.1 10 = .ok (.invokevirtual 618, 3) := by decide +kernel
theorem dX8_first_13 : decode mi_X8_first.2.1 13 = .ok (.putfield 260, 3) := by decide +kernel
theorem dX8_first_16 : decode mi_X8_first.2.1 16 = .ok (.aload_n 0, 1) := by decide +kernel
theorem dX8_first_17 : decode mi_X8_first.2.1 17 = .ok (.getfield 260, 3) := by decide +kernel
theorem dX8_first_20 : decode mi_X8_first.2.1 20 = .ok (.ifCond .le 7, 3) := by decide +kernel
theorem dX8_first_23 : decode mi_X8_first.2.1 23 = .ok (.ldc2_w 289, 3) := by decide +kernel
theorem dX8_first_26 : decode mi_X8_first.2.1 26 = .ok (.lreturn, 1) := by decide +kernel
theorem dX8_first_27 : decode mi_X8_first.2.1 27 = .ok (.aload_n 0, 1) := by decide +kernel
theorem dX8_first_28 : decode mi_X8_first.2.1 28 = .ok (.iload_n 2, 1) := by decide +kernel
theorem dX8_first_29 : decode mi_X8_first.2.1 29 = .ok (.iload_n 3, 1) := by decide +kernel
theorem dX8_first_30 : decode mi_X8_first.2.1 30 = .ok (.invokevirtual 621, 3) := by decide +kernel
theorem dX8_first_33 : decode mi_X8_first.2.1 33 = .ok (.aload_n 0, 1) := by decide +kernel
theorem dX8_first_34 : decode mi_X8_first.2.1 34 = .ok (.getfield 167, 3) := by decide +kernel
theorem dX8_first_37 : decode mi_X8_first.2.1 37 = .ok (.iload_n 1, 1) := by decide +kernel
theorem dX8_first_38 : decode mi_X8_first.2.1 38 = .ok (.laload, 1) := by decide +kernel
theorem dX8_first_39 : decode mi_X8_first.2.1 39 = .ok (.lreturn, 1) := by decide +kernel
theorem v_X8_first {G : ma_G} {d : Nat} {a0 : Nat} {x1 : Int32} {x2 : Int32} {x3 : Int32} {h : ah_T} {Q : Option ma_V → ah_T → Prop} {E : Nat → ah_T → Prop} (La0_h : LY8 h a0) (H : ∀ h1 : ah_T, h1 = ah_wI h a0 1 (0 : Int32) → ah_ext h h1 → (x1.toInt64 < (0 : Int64) → ∀ h3 : ah_T, h3 = ah_wI h1 a0 0 (2 : Int32) → ah_ext h1 h3 → Q (some (jv (-1 : Int64))) h3) ∧ (¬ x1.toInt64 < (0 : Int64) → (((ah_I h a0 5) - (1 : Int32)).toInt64 < x1.toInt64 → ∀ h5 : ah_T, h5 = ah_wI h1 a0 0 (2 : Int32) → ah_ext h1 h5 → Q (some (jv (-1 : Int64))) h5) ∧ (¬ ((ah_I h a0 5) - (1 : Int32)).toInt64 < x1.toInt64 → (x2.toInt64 < (0 : Int64) → ∀ h7 : ah_T, h7 = ah_wI h1 a0 0 (5 : Int32) → ah_ext h1 h7 → Q (some (jv (-1 : Int64))) h7) ∧ (¬ x2.toInt64 < (0 : Int64) → ((9 : Int64) < x2.toInt64 → ∀ h9 : ah_T, h9 = ah_wI h1 a0 0 (5 : Int32) → ah_ext h1 h9 → Q (some (jv (-1 : Int64))) h9) ∧ (¬ (9 : Int64) < x2.toInt64 → (x3.toInt64 < (0 : Int64) → ∀ h11 : ah_T, h11 = ah_wI h1 a0 0 (5 : Int32) → ah_ext h1 h11 → Q (some (jv (-1 : Int64))) h11) ∧ (¬ x3.toInt64 < (0 : Int64) → ((519 : Int64) < x3.toInt64 → ∀ h13 : ah_T, h13 = ah_wI h1 a0 0 (5 : Int32) → ah_ext h1 h13 → Q (some (jv (-1 : Int64))) h13) ∧ (¬ (519 : Int64) < x3.toInt64 → ∀ h14 : ah_T, h14 = ah_wI h1 a0 0 (0 : Int32) → ah_ext h1 h14 → MX G mi_X8_pay (d + 2) 0 [some (rv a0), some (iv x2), some (iv x3), none, none, none, none, none, none] [] h14 (Qv fun h15 => ah_ext h14 h15 → vp_in x1 20 ∧ Q (some (jv (ah_J h15 (a0 + 50) x1.toNatClampNeg))) h15) E))))))) : MX G mi_X8_first (d + 3) 0 [some (rv a0), some (iv x1), some (iv x2), some (iv x3)] [] h Q E := by
  refine mx_aload_n dX8_first_0 rfl rfl ?_
  refine mx_iconst dX8_first_1 ic_0 ?_
  refine mx_putI 8 1 (ref := "PrairiePoolModel") cl_8 (Nat.le_of_ble_eq_true rfl) (Or.inl q1628) (Or.inl rfl) dX8_first_2 (Or.inl rfl) rfl (ly8_k La0_h) ?_
  refine mx_nmI  (fun h1 eh1 Xh1 Kh1 Lh1 => ?_)
  have H := H h1 eh1 Xh1
  have La0_h1 := La0_h.ext Xh1
  refine mx_aload_n dX8_first_5 rfl rfl ?_
  refine mx_aload_n dX8_first_6 rfl rfl ?_
  refine mx_iload_n dX8_first_7 rfl rfl ?_
  refine mx_iload_n dX8_first_8 rfl rfl ?_
  refine mx_iload_n dX8_first_9 rfl rfl ?_
  refine mx_callV 8 (y' := mi_X8_asksFarm) (vs := [iv x1, iv x2, iv x3]) (st := [rv a0]) (al' := [some (rv a0), some (iv x1), some (iv x2), some (iv x3)]) cl_8 V_X8_asksFarm (Or.inl q2328) dX8_first_10 rfl rfl (Nat.le_of_ble_eq_true rfl) (Nat.le_of_ble_eq_true rfl) (ly8_k La0_h1) ?_
  refine mx_aload_n dX8_asksFarm_0 rfl rfl ?_
  refine mx_iload_n dX8_asksFarm_1 rfl rfl ?_
  refine mx_callV 8 (y' := mi_X8_isFarm) (vs := [iv x1]) (st := []) (al' := [some (rv a0), some (iv x1)]) cl_8 V_X8_isFarm (Or.inl q2014) dX8_asksFarm_2 rfl rfl (Nat.le_of_ble_eq_true rfl) (Nat.le_of_ble_eq_true rfl) (ly8_k La0_h1) ?_
  refine mx_iload_n dX8_isFarm_0 rfl rfl ?_
  refine mx_i2l dX8_isFarm_1 ?_
  refine mx_lconst dX8_isFarm_2 lc_0 ?_
  refine mx_aload_n dX8_isFarm_3 rfl rfl ?_
  refine mx_get 8 5 (ref := "PrairiePoolModel") cl_8 (Nat.le_of_ble_eq_true rfl) (Or.inl q1632) (Or.inl rfl) dX8_isFarm_4 (fv_8_5 _ _) (ly8_k La0_h1) ?_
  refine mx_ti (ah_skIK eh1 (by decide)) ?_
  refine mx_iconst dX8_isFarm_7 ic_1 ?_
  refine mx_isub dX8_isFarm_8 ?_
  refine mx_i2l dX8_isFarm_9 ?_
  refine mx_callS (y' := mi_X8_isIn) (vs := [jv x1.toInt64, jv (0 : Int64), jv ((ah_I h a0 5) - (1 : Int32)).toInt64]) (st := []) (al' := [some (jv x1.toInt64), none, some (jv (0 : Int64)), none, some (jv ((ah_I h a0 5) - (1 : Int32)).toInt64), none]) S_X8_isIn q1996 dX8_isFarm_10 rfl rfl (Nat.le_of_ble_eq_true rfl) (Nat.le_of_ble_eq_true rfl) ?_
  refine mx_lload_n dX8_isIn_0 rfl rfl ?_
  refine mx_lload_n dX8_isIn_1 rfl rfl ?_
  refine mx_lif_lt (tgt := 17) dX8_isIn_2 dX8_isIn_3 rfl (fun c2 => ?_) (fun c2 => ?_)
  · have H := H.1 c2
    refine mx_iconst dX8_isIn_17 ic_0 ?_
    refine mx_zretK rfl dX8_isIn_18 (Or.inl rfl) ?_
    refine mx_zretK rfl dX8_isFarm_13 (Or.inl rfl) ?_
    refine mx_if_ne (tgt := 12) dX8_asksFarm_5 rfl (fun _ => absurd ‹_› (by decide)) (fun _ => ?_)
    refine mx_iconst dX8_asksFarm_8 ic_2 ?_
    refine mx_goto (tgt := 31) dX8_asksFarm_9 rfl ?_
    refine mx_iretK rfl dX8_asksFarm_31 ?_
    refine mx_putI 8 0 (ref := "PrairiePoolModel") cl_8 (Nat.le_of_ble_eq_true rfl) (Or.inl q1627) (Or.inl rfl) dX8_first_13 (Or.inl rfl) rfl (ly8_k La0_h1) ?_
    refine mx_nmI  (fun h3 eh3 Xh3 Kh3 Lh3 => ?_)
    have H := H h3 eh3 Xh3
    have Kh3 := Kh3.trans Kh1
    have Lh3 := Lh3.trans Lh1
    have La0_h3 := La0_h1.ext Xh3
    refine mx_aload_n dX8_first_16 rfl rfl ?_
    refine mx_get 8 0 (ref := "PrairiePoolModel") cl_8 (Nat.le_of_ble_eq_true rfl) (Or.inl q1627) (Or.inl rfl) dX8_first_17 (fv_8_0 _ _) (ly8_k La0_h3) ?_
    refine mx_ti (ah_hitI eh3) ?_
    refine mx_if_le (tgt := 27) dX8_first_20 rfl (fun _ => absurd ‹_› (by decide)) (fun _ => ?_)
    refine mx_ldc2 q1986 dX8_first_23 ?_
    exact mx_lret rfl dX8_first_26 H
  · have H := H.2 c2
    refine mx_lload_n dX8_isIn_6 rfl rfl ?_
    refine mx_lload dX8_isIn_7 rfl ?_
    refine mx_lif_gt (tgt := 17) dX8_isIn_9 dX8_isIn_10 rfl (fun c4 => ?_) (fun c4 => ?_)
    · have H := H.1 c4
      refine mx_iconst dX8_isIn_17 ic_0 ?_
      refine mx_zretK rfl dX8_isIn_18 (Or.inl rfl) ?_
      refine mx_zretK rfl dX8_isFarm_13 (Or.inl rfl) ?_
      refine mx_if_ne (tgt := 12) dX8_asksFarm_5 rfl (fun _ => absurd ‹_› (by decide)) (fun _ => ?_)
      refine mx_iconst dX8_asksFarm_8 ic_2 ?_
      refine mx_goto (tgt := 31) dX8_asksFarm_9 rfl ?_
      refine mx_iretK rfl dX8_asksFarm_31 ?_
      refine mx_putI 8 0 (ref := "PrairiePoolModel") cl_8 (Nat.le_of_ble_eq_true rfl) (Or.inl q1627) (Or.inl rfl) dX8_first_13 (Or.inl rfl) rfl (ly8_k La0_h1) ?_
      refine mx_nmI  (fun h5 eh5 Xh5 Kh5 Lh5 => ?_)
      have H := H h5 eh5 Xh5
      have Kh5 := Kh5.trans Kh1
      have Lh5 := Lh5.trans Lh1
      have La0_h5 := La0_h1.ext Xh5
      refine mx_aload_n dX8_first_16 rfl rfl ?_
      refine mx_get 8 0 (ref := "PrairiePoolModel") cl_8 (Nat.le_of_ble_eq_true rfl) (Or.inl q1627) (Or.inl rfl) dX8_first_17 (fv_8_0 _ _) (ly8_k La0_h5) ?_
      refine mx_ti (ah_hitI eh5) ?_
      refine mx_if_le (tgt := 27) dX8_first_20 rfl (fun _ => absurd ‹_› (by decide)) (fun _ => ?_)
      refine mx_ldc2 q1986 dX8_first_23 ?_
      exact mx_lret rfl dX8_first_26 H
    · have H := H.2 c4
      refine mx_iconst dX8_isIn_13 ic_1 ?_
      refine mx_goto (tgt := 18) dX8_isIn_14 rfl ?_
      refine mx_zretK rfl dX8_isIn_18 (Or.inr rfl) ?_
      refine mx_zretK rfl dX8_isFarm_13 (Or.inr rfl) ?_
      refine mx_if_ne (tgt := 12) dX8_asksFarm_5 rfl (fun _ => ?_) (fun _ => absurd ‹_› (by decide))
      refine mx_iload_n dX8_asksFarm_12 rfl rfl ?_
      refine mx_callS (y' := mi_X8_isYear) (vs := [iv x2]) (st := []) (al' := [some (iv x2)]) S_X8_isYear q2039 dX8_asksFarm_13 rfl rfl (Nat.le_of_ble_eq_true rfl) (Nat.le_of_ble_eq_true rfl) ?_
      refine mx_iload_n dX8_isYear_0 rfl rfl ?_
      refine mx_i2l dX8_isYear_1 ?_
      refine mx_lconst dX8_isYear_2 lc_0 ?_
      refine mx_ldc2 q2042 dX8_isYear_3 ?_
      refine mx_callS (y' := mi_X8_isIn) (vs := [jv x2.toInt64, jv (0 : Int64), jv (9 : Int64)]) (st := []) (al' := [some (jv x2.toInt64), none, some (jv (0 : Int64)), none, some (jv (9 : Int64)), none]) S_X8_isIn q1996 dX8_isYear_6 rfl rfl (Nat.le_of_ble_eq_true rfl) (Nat.le_of_ble_eq_true rfl) ?_
      refine mx_lload_n dX8_isIn_0 rfl rfl ?_
      refine mx_lload_n dX8_isIn_1 rfl rfl ?_
      refine mx_lif_lt (tgt := 17) dX8_isIn_2 dX8_isIn_3 rfl (fun c6 => ?_) (fun c6 => ?_)
      · have H := H.1 c6
        refine mx_iconst dX8_isIn_17 ic_0 ?_
        refine mx_zretK rfl dX8_isIn_18 (Or.inl rfl) ?_
        refine mx_zretK rfl dX8_isYear_9 (Or.inl rfl) ?_
        refine mx_if_eq (tgt := 26) dX8_asksFarm_16 rfl (fun _ => ?_) (fun _ => absurd ‹_› (by decide))
        refine mx_iconst dX8_asksFarm_26 ic_5 ?_
        refine mx_goto (tgt := 31) dX8_asksFarm_27 rfl ?_
        refine mx_iretK rfl dX8_asksFarm_31 ?_
        refine mx_putI 8 0 (ref := "PrairiePoolModel") cl_8 (Nat.le_of_ble_eq_true rfl) (Or.inl q1627) (Or.inl rfl) dX8_first_13 (Or.inl rfl) rfl (ly8_k La0_h1) ?_
        refine mx_nmI  (fun h7 eh7 Xh7 Kh7 Lh7 => ?_)
        have H := H h7 eh7 Xh7
        have Kh7 := Kh7.trans Kh1
        have Lh7 := Lh7.trans Lh1
        have La0_h7 := La0_h1.ext Xh7
        refine mx_aload_n dX8_first_16 rfl rfl ?_
        refine mx_get 8 0 (ref := "PrairiePoolModel") cl_8 (Nat.le_of_ble_eq_true rfl) (Or.inl q1627) (Or.inl rfl) dX8_first_17 (fv_8_0 _ _) (ly8_k La0_h7) ?_
        refine mx_ti (ah_hitI eh7) ?_
        refine mx_if_le (tgt := 27) dX8_first_20 rfl (fun _ => absurd ‹_› (by decide)) (fun _ => ?_)
        refine mx_ldc2 q1986 dX8_first_23 ?_
        exact mx_lret rfl dX8_first_26 H
      · have H := H.2 c6
        refine mx_lload_n dX8_isIn_6 rfl rfl ?_
        refine mx_lload dX8_isIn_7 rfl ?_
        refine mx_lif_gt (tgt := 17) dX8_isIn_9 dX8_isIn_10 rfl (fun c8 => ?_) (fun c8 => ?_)
        · have H := H.1 c8
          refine mx_iconst dX8_isIn_17 ic_0 ?_
          refine mx_zretK rfl dX8_isIn_18 (Or.inl rfl) ?_
          refine mx_zretK rfl dX8_isYear_9 (Or.inl rfl) ?_
          refine mx_if_eq (tgt := 26) dX8_asksFarm_16 rfl (fun _ => ?_) (fun _ => absurd ‹_› (by decide))
          refine mx_iconst dX8_asksFarm_26 ic_5 ?_
          refine mx_goto (tgt := 31) dX8_asksFarm_27 rfl ?_
          refine mx_iretK rfl dX8_asksFarm_31 ?_
          refine mx_putI 8 0 (ref := "PrairiePoolModel") cl_8 (Nat.le_of_ble_eq_true rfl) (Or.inl q1627) (Or.inl rfl) dX8_first_13 (Or.inl rfl) rfl (ly8_k La0_h1) ?_
          refine mx_nmI  (fun h9 eh9 Xh9 Kh9 Lh9 => ?_)
          have H := H h9 eh9 Xh9
          have Kh9 := Kh9.trans Kh1
          have Lh9 := Lh9.trans Lh1
          have La0_h9 := La0_h1.ext Xh9
          refine mx_aload_n dX8_first_16 rfl rfl ?_
          refine mx_get 8 0 (ref := "PrairiePoolModel") cl_8 (Nat.le_of_ble_eq_true rfl) (Or.inl q1627) (Or.inl rfl) dX8_first_17 (fv_8_0 _ _) (ly8_k La0_h9) ?_
          refine mx_ti (ah_hitI eh9) ?_
          refine mx_if_le (tgt := 27) dX8_first_20 rfl (fun _ => absurd ‹_› (by decide)) (fun _ => ?_)
          refine mx_ldc2 q1986 dX8_first_23 ?_
          exact mx_lret rfl dX8_first_26 H
        · have H := H.2 c8
          refine mx_iconst dX8_isIn_13 ic_1 ?_
          refine mx_goto (tgt := 18) dX8_isIn_14 rfl ?_
          refine mx_zretK rfl dX8_isIn_18 (Or.inr rfl) ?_
          refine mx_zretK rfl dX8_isYear_9 (Or.inr rfl) ?_
          refine mx_if_eq (tgt := 26) dX8_asksFarm_16 rfl (fun _ => absurd ‹_› (by decide)) (fun _ => ?_)
          refine mx_iload_n dX8_asksFarm_19 rfl rfl ?_
          refine mx_callS (y' := mi_X8_isDay) (vs := [iv x3]) (st := []) (al' := [some (iv x3)]) S_X8_isDay q2028 dX8_asksFarm_20 rfl rfl (Nat.le_of_ble_eq_true rfl) (Nat.le_of_ble_eq_true rfl) ?_
          refine mx_iload_n dX8_isDay_0 rfl rfl ?_
          refine mx_i2l dX8_isDay_1 ?_
          refine mx_lconst dX8_isDay_2 lc_0 ?_
          refine mx_ldc2 q2031 dX8_isDay_3 ?_
          refine mx_callS (y' := mi_X8_isIn) (vs := [jv x3.toInt64, jv (0 : Int64), jv (519 : Int64)]) (st := []) (al' := [some (jv x3.toInt64), none, some (jv (0 : Int64)), none, some (jv (519 : Int64)), none]) S_X8_isIn q1996 dX8_isDay_6 rfl rfl (Nat.le_of_ble_eq_true rfl) (Nat.le_of_ble_eq_true rfl) ?_
          refine mx_lload_n dX8_isIn_0 rfl rfl ?_
          refine mx_lload_n dX8_isIn_1 rfl rfl ?_
          refine mx_lif_lt (tgt := 17) dX8_isIn_2 dX8_isIn_3 rfl (fun c10 => ?_) (fun c10 => ?_)
          · have H := H.1 c10
            refine mx_iconst dX8_isIn_17 ic_0 ?_
            refine mx_zretK rfl dX8_isIn_18 (Or.inl rfl) ?_
            refine mx_zretK rfl dX8_isDay_9 (Or.inl rfl) ?_
            refine mx_if_ne (tgt := 30) dX8_asksFarm_23 rfl (fun _ => absurd ‹_› (by decide)) (fun _ => ?_)
            refine mx_iconst dX8_asksFarm_26 ic_5 ?_
            refine mx_goto (tgt := 31) dX8_asksFarm_27 rfl ?_
            refine mx_iretK rfl dX8_asksFarm_31 ?_
            refine mx_putI 8 0 (ref := "PrairiePoolModel") cl_8 (Nat.le_of_ble_eq_true rfl) (Or.inl q1627) (Or.inl rfl) dX8_first_13 (Or.inl rfl) rfl (ly8_k La0_h1) ?_
            refine mx_nmI  (fun h11 eh11 Xh11 Kh11 Lh11 => ?_)
            have H := H h11 eh11 Xh11
            have Kh11 := Kh11.trans Kh1
            have Lh11 := Lh11.trans Lh1
            have La0_h11 := La0_h1.ext Xh11
            refine mx_aload_n dX8_first_16 rfl rfl ?_
            refine mx_get 8 0 (ref := "PrairiePoolModel") cl_8 (Nat.le_of_ble_eq_true rfl) (Or.inl q1627) (Or.inl rfl) dX8_first_17 (fv_8_0 _ _) (ly8_k La0_h11) ?_
            refine mx_ti (ah_hitI eh11) ?_
            refine mx_if_le (tgt := 27) dX8_first_20 rfl (fun _ => absurd ‹_› (by decide)) (fun _ => ?_)
            refine mx_ldc2 q1986 dX8_first_23 ?_
            exact mx_lret rfl dX8_first_26 H
          · have H := H.2 c10
            refine mx_lload_n dX8_isIn_6 rfl rfl ?_
            refine mx_lload dX8_isIn_7 rfl ?_
            refine mx_lif_gt (tgt := 17) dX8_isIn_9 dX8_isIn_10 rfl (fun c12 => ?_) (fun c12 => ?_)
            · have H := H.1 c12
              refine mx_iconst dX8_isIn_17 ic_0 ?_
              refine mx_zretK rfl dX8_isIn_18 (Or.inl rfl) ?_
              refine mx_zretK rfl dX8_isDay_9 (Or.inl rfl) ?_
              refine mx_if_ne (tgt := 30) dX8_asksFarm_23 rfl (fun _ => absurd ‹_› (by decide)) (fun _ => ?_)
              refine mx_iconst dX8_asksFarm_26 ic_5 ?_
              refine mx_goto (tgt := 31) dX8_asksFarm_27 rfl ?_
              refine mx_iretK rfl dX8_asksFarm_31 ?_
              refine mx_putI 8 0 (ref := "PrairiePoolModel") cl_8 (Nat.le_of_ble_eq_true rfl) (Or.inl q1627) (Or.inl rfl) dX8_first_13 (Or.inl rfl) rfl (ly8_k La0_h1) ?_
              refine mx_nmI  (fun h13 eh13 Xh13 Kh13 Lh13 => ?_)
              have H := H h13 eh13 Xh13
              have Kh13 := Kh13.trans Kh1
              have Lh13 := Lh13.trans Lh1
              have La0_h13 := La0_h1.ext Xh13
              refine mx_aload_n dX8_first_16 rfl rfl ?_
              refine mx_get 8 0 (ref := "PrairiePoolModel") cl_8 (Nat.le_of_ble_eq_true rfl) (Or.inl q1627) (Or.inl rfl) dX8_first_17 (fv_8_0 _ _) (ly8_k La0_h13) ?_
              refine mx_ti (ah_hitI eh13) ?_
              refine mx_if_le (tgt := 27) dX8_first_20 rfl (fun _ => absurd ‹_› (by decide)) (fun _ => ?_)
              refine mx_ldc2 q1986 dX8_first_23 ?_
              exact mx_lret rfl dX8_first_26 H
            · have H := H.2 c12
              refine mx_iconst dX8_isIn_13 ic_1 ?_
              refine mx_goto (tgt := 18) dX8_isIn_14 rfl ?_
              refine mx_zretK rfl dX8_isIn_18 (Or.inr rfl) ?_
              refine mx_zretK rfl dX8_isDay_9 (Or.inr rfl) ?_
              refine mx_if_ne (tgt := 30) dX8_asksFarm_23 rfl (fun _ => ?_) (fun _ => absurd ‹_› (by decide))
              refine mx_iconst dX8_asksFarm_30 ic_0 ?_
              refine mx_iretK rfl dX8_asksFarm_31 ?_
              refine mx_putI 8 0 (ref := "PrairiePoolModel") cl_8 (Nat.le_of_ble_eq_true rfl) (Or.inl q1627) (Or.inl rfl) dX8_first_13 (Or.inl rfl) rfl (ly8_k La0_h1) ?_
              refine mx_nmI  (fun h14 eh14 Xh14 Kh14 Lh14 => ?_)
              have H := H h14 eh14 Xh14
              have Kh14 := Kh14.trans Kh1
              have Lh14 := Lh14.trans Lh1
              have La0_h14 := La0_h1.ext Xh14
              refine mx_aload_n dX8_first_16 rfl rfl ?_
              refine mx_get 8 0 (ref := "PrairiePoolModel") cl_8 (Nat.le_of_ble_eq_true rfl) (Or.inl q1627) (Or.inl rfl) dX8_first_17 (fv_8_0 _ _) (ly8_k La0_h14) ?_
              refine mx_ti (ah_hitI eh14) ?_
              refine mx_if_le (tgt := 27) dX8_first_20 rfl (fun _ => ?_) (fun _ => absurd ‹_› (by decide))
              refine mx_aload_n dX8_first_27 rfl rfl ?_
              refine mx_iload_n dX8_first_28 rfl rfl ?_
              refine mx_iload_n dX8_first_29 rfl rfl ?_
              refine mx_callV 8 (y' := mi_X8_pay) (vs := [iv x2, iv x3]) (st := []) (al' := [some (rv a0), some (iv x2), some (iv x3), none, none, none, none, none, none]) cl_8 V_X8_pay (Or.inl q2332) dX8_first_30 rfl rfl (Nat.le_of_ble_eq_true rfl) (Nat.le_of_ble_eq_true rfl) (ly8_k La0_h14) ?_
              refine ma_kv H (fun h15 Xh15 H => ?_) (fun x1 h1 X1 H => mt_out rfl H)
              have H := H Xh15
              have La0_h15 := La0_h14.ext Xh15
              refine mx_aload_n dX8_first_33 rfl rfl ?_
              refine mx_get 8 74 (ref := "PrairiePoolModel") cl_8 (Nat.le_of_ble_eq_true rfl) (Or.inl q1701) (Or.inl rfl) dX8_first_34 (fv_8_74 _ _) (ly8_k La0_h15) ?_
              refine mx_tr (ly8_R_0_74 La0_h15) ?_
              refine mx_iload_n dX8_first_37 rfl rfl ?_
              obtain ⟨k17, H⟩ := H
              refine my_lald dX8_first_38 rfl (ly8_A_50 La0_h15 k17) ?_
              exact mx_lret rfl dX8_first_39 H
theorem dX8_below_0 : decode mi_X8_below.2.1 0 = .ok (.aload_n 0, 1) := by decide +kernel
theorem dX8_below_1 : decode mi_X8_below.2.1 1 = .ok (.iconst 0, 1) := by decide +kernel
theorem dX8_below_2 : decode mi_X8_below.2.1 2 = .ok (.putfield 257, 3) := by decide +kernel
theorem dX8_below_5 : decode mi_X8_below.2.1 5 = .ok (.aload_n 0, 1) := by decide +kernel
theorem dX8_below_6 : decode mi_X8_below.2.1 6 = .ok (.iconst 0, 1) := by decide +kernel
theorem dX8_below_7 : decode mi_X8_below.2.1 7 = .ok (.putfield 260, 3) := by decide +kernel
theorem dX8_below_10 : decode mi_X8_below.2.1 10 = .ok (.iload_n 1, 1) := by decide +kernel
theorem dX8_below_11 : decode mi_X8_below.2.1 11 = .ok (.invokestatic 335, 3) := by decide +kernel
theorem dX8_below_14 : decode mi_X8_below.2.1 14 = .ok (.ifCond .eq 20, 3) := by decide +kernel
theorem dX8_below_17 : decode mi_X8_below.2.1 17 = .ok (.iload_n 2, 1) := by decide +kernel
theorem dX8_below_18 : decode mi_X8_below.2.1 18 = .ok (.i2l, 1) := by decide +kernel
theorem dX8_below_19 : decode mi_X8_below.2.1 19 = .ok (.lconst 0, 1) := by decide +kernel
theorem dX8_below_20 : decode mi_X8_below.2.1 20 = .ok (.lconst 1, 1) := by decide +kernel
theorem dX8_below_21 : decode mi_X8_below.2.1 21 = .ok (.invokestatic 265, 3) := by decide +kernel
theorem dX8_below_24 : decode mi_X8_below.2.1 24 = .ok (.ifCond .eq 10, 3) := by decide +kernel
theorem dX8_below_27 : decode mi_X8_below.2.1 27 = .ok (.iload_n 3, 1) := by decide +kernel
theorem dX8_below_28 : decode mi_X8_below.2.1 28 = .ok (.invokestatic 306, 3) := by decide +kernel
theorem dX8_below_31 : decode mi_X8_below.2.1 31 = .ok (.ifCond .ne 10, 3) := by decide +kernel
theorem dX8_below_34 : decode mi_X8_below.2.1 34 = .ok (.aload_n 0, 1) := by decide +kernel
theorem dX8_below_35 : decode mi_X8_below.2.1 35 = .ok (.iconst 5, 1) := by decide +kernel
theorem dX8_below_36 : decode mi_X8_below.2.1 36 = .ok (.invokevirtual 297, 3) := by decide +kernel
theorem dX8_below_39 : decode mi_X8_below.2.1 39 = .ok (.i2l, 1) := by decide +kernel
theorem dX8_below_40 : decode mi_X8_below.2.1 40 = .ok (.lreturn, 1) := by decide +kernel
theorem dX8_below_41 : decode mi_X8_below.2.1 41 = .ok (.aload_n 0, 1) := by decide +kernel
theorem dX8_below_42 : decode mi_X8_below.2.1 42 = .ok (.iload_n 1, 1) := by decide +kernel
theorem dX8_below_43 : decode mi_X8_below.2.1 43 = .ok (.iload_n 3, 1) := by decide +kernel
theorem dX8_below_44 : decode mi_X8_below.2.1 44 = .ok (.invokevirtual 621, 3) := by decide +kernel
theorem dX8_below_47 : decode mi_X8_below.2.1 47 = .ok (.iload_n 2, 1) := by decide +kernel
theorem dX8_below_48 : decode mi_X8_below.2.1 48 = .ok (.ifCond .ne 10, 3) := by decide +kernel
theorem dX8_below_51 : decode mi_X8_below.2.1 51 = .ok (.aload_n 0, 1) := by decide +kernel
theorem dX8_below_52 : decode mi_X8_below.2.1 52 = .ok (.getfield 612, 3) := by decide +kernel
theorem dX8_below_55 : decode mi_X8_below.2.1 55 = .ok (.goto 7, 3) := by decide +kernel
theorem dX8_below_58 : decode mi_X8_below.2.1 58 = .ok (.aload_n 0, 1) := by decide +kernel
theorem dX8_below_59 : decode mi_X8_below.2.1 59 = .ok (.getfield 615, 3) := by decide +kernel
theorem dX8_below_62 : decode mi_X8_below.2.1 62 = .ok (.lreturn, 1) := by decide +kernel
theorem v_X8_below {G : ma_G} {d : Nat} {a0 : Nat} {x1 : Int32} {x2 : Int32} {x3 : Int32} {h : ah_T} {Q : Option ma_V → ah_T → Prop} {E : Nat → ah_T → Prop} (La0_h : LY8 h a0) (H : ∀ h1 : ah_T, h1 = ah_wI h a0 1 (0 : Int32) → ah_ext h h1 → ∀ h2 : ah_T, h2 = ah_wI h1 a0 0 (0 : Int32) → ah_ext h1 h2 → (x1.toInt64 < (0 : Int64) → ∀ h4 : ah_T, h4 = ah_wI h2 a0 0 (5 : Int32) → ah_ext h2 h4 → Q (some (jv (-1 : Int32).toInt64)) h4) ∧ (¬ x1.toInt64 < (0 : Int64) → ((9 : Int64) < x1.toInt64 → ∀ h6 : ah_T, h6 = ah_wI h2 a0 0 (5 : Int32) → ah_ext h2 h6 → Q (some (jv (-1 : Int32).toInt64)) h6) ∧ (¬ (9 : Int64) < x1.toInt64 → (x2.toInt64 < (0 : Int64) → ∀ h8 : ah_T, h8 = ah_wI h2 a0 0 (5 : Int32) → ah_ext h2 h8 → Q (some (jv (-1 : Int32).toInt64)) h8) ∧ (¬ x2.toInt64 < (0 : Int64) → ((1 : Int64) < x2.toInt64 → ∀ h10 : ah_T, h10 = ah_wI h2 a0 0 (5 : Int32) → ah_ext h2 h10 → Q (some (jv (-1 : Int32).toInt64)) h10) ∧ (¬ (1 : Int64) < x2.toInt64 → (x3.toInt64 < (0 : Int64) → ∀ h12 : ah_T, h12 = ah_wI h2 a0 0 (5 : Int32) → ah_ext h2 h12 → Q (some (jv (-1 : Int32).toInt64)) h12) ∧ (¬ x3.toInt64 < (0 : Int64) → ((519 : Int64) < x3.toInt64 → ∀ h14 : ah_T, h14 = ah_wI h2 a0 0 (5 : Int32) → ah_ext h2 h14 → Q (some (jv (-1 : Int32).toInt64)) h14) ∧ (¬ (519 : Int64) < x3.toInt64 → MX G mi_X8_pay (d + 1) 0 [some (rv a0), some (iv x1), some (iv x3), none, none, none, none, none, none] [] h2 (Qv fun h15 => ah_ext h2 h15 → (¬ x2 = 0 → Q (some (jv (ah_J h15 a0 78))) h15) ∧ (x2 = 0 → Q (some (jv (ah_J h15 a0 77))) h15)) E))))))) : MX G mi_X8_below (d + 2) 0 [some (rv a0), some (iv x1), some (iv x2), some (iv x3)] [] h Q E := by
  refine mx_aload_n dX8_below_0 rfl rfl ?_
  refine mx_iconst dX8_below_1 ic_0 ?_
  refine mx_putI 8 1 (ref := "PrairiePoolModel") cl_8 (Nat.le_of_ble_eq_true rfl) (Or.inl q1628) (Or.inl rfl) dX8_below_2 (Or.inl rfl) rfl (ly8_k La0_h) ?_
  refine mx_nmI  (fun h1 eh1 Xh1 Kh1 Lh1 => ?_)
  have H := H h1 eh1 Xh1
  have La0_h1 := La0_h.ext Xh1
  refine mx_aload_n dX8_below_5 rfl rfl ?_
  refine mx_iconst dX8_below_6 ic_0 ?_
  refine mx_putI 8 0 (ref := "PrairiePoolModel") cl_8 (Nat.le_of_ble_eq_true rfl) (Or.inl q1627) (Or.inl rfl) dX8_below_7 (Or.inl rfl) rfl (ly8_k La0_h1) ?_
  refine mx_nmI  (fun h2 eh2 Xh2 Kh2 Lh2 => ?_)
  have H := H h2 eh2 Xh2
  have Kh2 := Kh2.trans Kh1
  have Lh2 := Lh2.trans Lh1
  have La0_h2 := La0_h1.ext Xh2
  refine mx_iload_n dX8_below_10 rfl rfl ?_
  refine mx_callS (y' := mi_X8_isYear) (vs := [iv x1]) (st := []) (al' := [some (iv x1)]) S_X8_isYear q2039 dX8_below_11 rfl rfl (Nat.le_of_ble_eq_true rfl) (Nat.le_of_ble_eq_true rfl) ?_
  refine mx_iload_n dX8_isYear_0 rfl rfl ?_
  refine mx_i2l dX8_isYear_1 ?_
  refine mx_lconst dX8_isYear_2 lc_0 ?_
  refine mx_ldc2 q2042 dX8_isYear_3 ?_
  refine mx_callS (y' := mi_X8_isIn) (vs := [jv x1.toInt64, jv (0 : Int64), jv (9 : Int64)]) (st := []) (al' := [some (jv x1.toInt64), none, some (jv (0 : Int64)), none, some (jv (9 : Int64)), none]) S_X8_isIn q1996 dX8_isYear_6 rfl rfl (Nat.le_of_ble_eq_true rfl) (Nat.le_of_ble_eq_true rfl) ?_
  refine mx_lload_n dX8_isIn_0 rfl rfl ?_
  refine mx_lload_n dX8_isIn_1 rfl rfl ?_
  refine mx_lif_lt (tgt := 17) dX8_isIn_2 dX8_isIn_3 rfl (fun c3 => ?_) (fun c3 => ?_)
  · have H := H.1 c3
    refine mx_iconst dX8_isIn_17 ic_0 ?_
    refine mx_zretK rfl dX8_isIn_18 (Or.inl rfl) ?_
    refine mx_zretK rfl dX8_isYear_9 (Or.inl rfl) ?_
    refine mx_if_eq (tgt := 34) dX8_below_14 rfl (fun _ => ?_) (fun _ => absurd ‹_› (by decide))
    refine mx_aload_n dX8_below_34 rfl rfl ?_
    refine mx_iconst dX8_below_35 ic_5 ?_
    refine mx_callV 8 (y' := mi_X8_refuse) (vs := [iv (5 : Int32)]) (st := []) (al' := [some (rv a0), some (iv (5 : Int32))]) cl_8 V_X8_refuse (Or.inl q1999) dX8_below_36 rfl rfl (Nat.le_of_ble_eq_true rfl) (Nat.le_of_ble_eq_true rfl) (ly8_k La0_h2) ?_
    refine mx_aload_n dX8_refuse_0 rfl rfl ?_
    refine mx_iload_n dX8_refuse_1 rfl rfl ?_
    refine mx_putI 8 0 (ref := "PrairiePoolModel") cl_8 (Nat.le_of_ble_eq_true rfl) (Or.inl q1627) (Or.inl rfl) dX8_refuse_2 (Or.inl rfl) rfl (ly8_k La0_h2) ?_
    refine mx_nmI  (fun h4 eh4 Xh4 Kh4 Lh4 => ?_)
    have H := H h4 eh4 Xh4
    have Kh4 := Kh4.trans Kh2
    have Lh4 := Lh4.trans Lh2
    have La0_h4 := La0_h2.ext Xh4
    refine mx_iconst dX8_refuse_5 ic_m1 ?_
    refine mx_iretK rfl dX8_refuse_6 ?_
    refine mx_i2l dX8_below_39 ?_
    exact mx_lret rfl dX8_below_40 H
  · have H := H.2 c3
    refine mx_lload_n dX8_isIn_6 rfl rfl ?_
    refine mx_lload dX8_isIn_7 rfl ?_
    refine mx_lif_gt (tgt := 17) dX8_isIn_9 dX8_isIn_10 rfl (fun c5 => ?_) (fun c5 => ?_)
    · have H := H.1 c5
      refine mx_iconst dX8_isIn_17 ic_0 ?_
      refine mx_zretK rfl dX8_isIn_18 (Or.inl rfl) ?_
      refine mx_zretK rfl dX8_isYear_9 (Or.inl rfl) ?_
      refine mx_if_eq (tgt := 34) dX8_below_14 rfl (fun _ => ?_) (fun _ => absurd ‹_› (by decide))
      refine mx_aload_n dX8_below_34 rfl rfl ?_
      refine mx_iconst dX8_below_35 ic_5 ?_
      refine mx_callV 8 (y' := mi_X8_refuse) (vs := [iv (5 : Int32)]) (st := []) (al' := [some (rv a0), some (iv (5 : Int32))]) cl_8 V_X8_refuse (Or.inl q1999) dX8_below_36 rfl rfl (Nat.le_of_ble_eq_true rfl) (Nat.le_of_ble_eq_true rfl) (ly8_k La0_h2) ?_
      refine mx_aload_n dX8_refuse_0 rfl rfl ?_
      refine mx_iload_n dX8_refuse_1 rfl rfl ?_
      refine mx_putI 8 0 (ref := "PrairiePoolModel") cl_8 (Nat.le_of_ble_eq_true rfl) (Or.inl q1627) (Or.inl rfl) dX8_refuse_2 (Or.inl rfl) rfl (ly8_k La0_h2) ?_
      refine mx_nmI  (fun h6 eh6 Xh6 Kh6 Lh6 => ?_)
      have H := H h6 eh6 Xh6
      have Kh6 := Kh6.trans Kh2
      have Lh6 := Lh6.trans Lh2
      have La0_h6 := La0_h2.ext Xh6
      refine mx_iconst dX8_refuse_5 ic_m1 ?_
      refine mx_iretK rfl dX8_refuse_6 ?_
      refine mx_i2l dX8_below_39 ?_
      exact mx_lret rfl dX8_below_40 H
    · have H := H.2 c5
      refine mx_iconst dX8_isIn_13 ic_1 ?_
      refine mx_goto (tgt := 18) dX8_isIn_14 rfl ?_
      refine mx_zretK rfl dX8_isIn_18 (Or.inr rfl) ?_
      refine mx_zretK rfl dX8_isYear_9 (Or.inr rfl) ?_
      refine mx_if_eq (tgt := 34) dX8_below_14 rfl (fun _ => absurd ‹_› (by decide)) (fun _ => ?_)
      refine mx_iload_n dX8_below_17 rfl rfl ?_
      refine mx_i2l dX8_below_18 ?_
      refine mx_lconst dX8_below_19 lc_0 ?_
      refine mx_lconst dX8_below_20 lc_1 ?_
      refine mx_callS (y' := mi_X8_isIn) (vs := [jv x2.toInt64, jv (0 : Int64), jv (1 : Int64)]) (st := []) (al' := [some (jv x2.toInt64), none, some (jv (0 : Int64)), none, some (jv (1 : Int64)), none]) S_X8_isIn q1996 dX8_below_21 rfl rfl (Nat.le_of_ble_eq_true rfl) (Nat.le_of_ble_eq_true rfl) ?_
      refine mx_lload_n dX8_isIn_0 rfl rfl ?_
      refine mx_lload_n dX8_isIn_1 rfl rfl ?_
      refine mx_lif_lt (tgt := 17) dX8_isIn_2 dX8_isIn_3 rfl (fun c7 => ?_) (fun c7 => ?_)
      · have H := H.1 c7
        refine mx_iconst dX8_isIn_17 ic_0 ?_
        refine mx_zretK rfl dX8_isIn_18 (Or.inl rfl) ?_
        refine mx_if_eq (tgt := 34) dX8_below_24 rfl (fun _ => ?_) (fun _ => absurd ‹_› (by decide))
        refine mx_aload_n dX8_below_34 rfl rfl ?_
        refine mx_iconst dX8_below_35 ic_5 ?_
        refine mx_callV 8 (y' := mi_X8_refuse) (vs := [iv (5 : Int32)]) (st := []) (al' := [some (rv a0), some (iv (5 : Int32))]) cl_8 V_X8_refuse (Or.inl q1999) dX8_below_36 rfl rfl (Nat.le_of_ble_eq_true rfl) (Nat.le_of_ble_eq_true rfl) (ly8_k La0_h2) ?_
        refine mx_aload_n dX8_refuse_0 rfl rfl ?_
        refine mx_iload_n dX8_refuse_1 rfl rfl ?_
        refine mx_putI 8 0 (ref := "PrairiePoolModel") cl_8 (Nat.le_of_ble_eq_true rfl) (Or.inl q1627) (Or.inl rfl) dX8_refuse_2 (Or.inl rfl) rfl (ly8_k La0_h2) ?_
        refine mx_nmI  (fun h8 eh8 Xh8 Kh8 Lh8 => ?_)
        have H := H h8 eh8 Xh8
        have Kh8 := Kh8.trans Kh2
        have Lh8 := Lh8.trans Lh2
        have La0_h8 := La0_h2.ext Xh8
        refine mx_iconst dX8_refuse_5 ic_m1 ?_
        refine mx_iretK rfl dX8_refuse_6 ?_
        refine mx_i2l dX8_below_39 ?_
        exact mx_lret rfl dX8_below_40 H
      · have H := H.2 c7
        refine mx_lload_n dX8_isIn_6 rfl rfl ?_
        refine mx_lload dX8_isIn_7 rfl ?_
        refine mx_lif_gt (tgt := 17) dX8_isIn_9 dX8_isIn_10 rfl (fun c9 => ?_) (fun c9 => ?_)
        · have H := H.1 c9
          refine mx_iconst dX8_isIn_17 ic_0 ?_
          refine mx_zretK rfl dX8_isIn_18 (Or.inl rfl) ?_
          refine mx_if_eq (tgt := 34) dX8_below_24 rfl (fun _ => ?_) (fun _ => absurd ‹_› (by decide))
          refine mx_aload_n dX8_below_34 rfl rfl ?_
          refine mx_iconst dX8_below_35 ic_5 ?_
          refine mx_callV 8 (y' := mi_X8_refuse) (vs := [iv (5 : Int32)]) (st := []) (al' := [some (rv a0), some (iv (5 : Int32))]) cl_8 V_X8_refuse (Or.inl q1999) dX8_below_36 rfl rfl (Nat.le_of_ble_eq_true rfl) (Nat.le_of_ble_eq_true rfl) (ly8_k La0_h2) ?_
          refine mx_aload_n dX8_refuse_0 rfl rfl ?_
          refine mx_iload_n dX8_refuse_1 rfl rfl ?_
          refine mx_putI 8 0 (ref := "PrairiePoolModel") cl_8 (Nat.le_of_ble_eq_true rfl) (Or.inl q1627) (Or.inl rfl) dX8_refuse_2 (Or.inl rfl) rfl (ly8_k La0_h2) ?_
          refine mx_nmI  (fun h10 eh10 Xh10 Kh10 Lh10 => ?_)
          have H := H h10 eh10 Xh10
          have Kh10 := Kh10.trans Kh2
          have Lh10 := Lh10.trans Lh2
          have La0_h10 := La0_h2.ext Xh10
          refine mx_iconst dX8_refuse_5 ic_m1 ?_
          refine mx_iretK rfl dX8_refuse_6 ?_
          refine mx_i2l dX8_below_39 ?_
          exact mx_lret rfl dX8_below_40 H
        · have H := H.2 c9
          refine mx_iconst dX8_isIn_13 ic_1 ?_
          refine mx_goto (tgt := 18) dX8_isIn_14 rfl ?_
          refine mx_zretK rfl dX8_isIn_18 (Or.inr rfl) ?_
          refine mx_if_eq (tgt := 34) dX8_below_24 rfl (fun _ => absurd ‹_› (by decide)) (fun _ => ?_)
          refine mx_iload_n dX8_below_27 rfl rfl ?_
          refine mx_callS (y' := mi_X8_isDay) (vs := [iv x3]) (st := []) (al' := [some (iv x3)]) S_X8_isDay q2028 dX8_below_28 rfl rfl (Nat.le_of_ble_eq_true rfl) (Nat.le_of_ble_eq_true rfl) ?_
          refine mx_iload_n dX8_isDay_0 rfl rfl ?_
          refine mx_i2l dX8_isDay_1 ?_
          refine mx_lconst dX8_isDay_2 lc_0 ?_
          refine mx_ldc2 q2031 dX8_isDay_3 ?_
          refine mx_callS (y' := mi_X8_isIn) (vs := [jv x3.toInt64, jv (0 : Int64), jv (519 : Int64)]) (st := []) (al' := [some (jv x3.toInt64), none, some (jv (0 : Int64)), none, some (jv (519 : Int64)), none]) S_X8_isIn q1996 dX8_isDay_6 rfl rfl (Nat.le_of_ble_eq_true rfl) (Nat.le_of_ble_eq_true rfl) ?_
          refine mx_lload_n dX8_isIn_0 rfl rfl ?_
          refine mx_lload_n dX8_isIn_1 rfl rfl ?_
          refine mx_lif_lt (tgt := 17) dX8_isIn_2 dX8_isIn_3 rfl (fun c11 => ?_) (fun c11 => ?_)
          · have H := H.1 c11
            refine mx_iconst dX8_isIn_17 ic_0 ?_
            refine mx_zretK rfl dX8_isIn_18 (Or.inl rfl) ?_
            refine mx_zretK rfl dX8_isDay_9 (Or.inl rfl) ?_
            refine mx_if_ne (tgt := 41) dX8_below_31 rfl (fun _ => absurd ‹_› (by decide)) (fun _ => ?_)
            refine mx_aload_n dX8_below_34 rfl rfl ?_
            refine mx_iconst dX8_below_35 ic_5 ?_
            refine mx_callV 8 (y' := mi_X8_refuse) (vs := [iv (5 : Int32)]) (st := []) (al' := [some (rv a0), some (iv (5 : Int32))]) cl_8 V_X8_refuse (Or.inl q1999) dX8_below_36 rfl rfl (Nat.le_of_ble_eq_true rfl) (Nat.le_of_ble_eq_true rfl) (ly8_k La0_h2) ?_
            refine mx_aload_n dX8_refuse_0 rfl rfl ?_
            refine mx_iload_n dX8_refuse_1 rfl rfl ?_
            refine mx_putI 8 0 (ref := "PrairiePoolModel") cl_8 (Nat.le_of_ble_eq_true rfl) (Or.inl q1627) (Or.inl rfl) dX8_refuse_2 (Or.inl rfl) rfl (ly8_k La0_h2) ?_
            refine mx_nmI  (fun h12 eh12 Xh12 Kh12 Lh12 => ?_)
            have H := H h12 eh12 Xh12
            have Kh12 := Kh12.trans Kh2
            have Lh12 := Lh12.trans Lh2
            have La0_h12 := La0_h2.ext Xh12
            refine mx_iconst dX8_refuse_5 ic_m1 ?_
            refine mx_iretK rfl dX8_refuse_6 ?_
            refine mx_i2l dX8_below_39 ?_
            exact mx_lret rfl dX8_below_40 H
          · have H := H.2 c11
            refine mx_lload_n dX8_isIn_6 rfl rfl ?_
            refine mx_lload dX8_isIn_7 rfl ?_
            refine mx_lif_gt (tgt := 17) dX8_isIn_9 dX8_isIn_10 rfl (fun c13 => ?_) (fun c13 => ?_)
            · have H := H.1 c13
              refine mx_iconst dX8_isIn_17 ic_0 ?_
              refine mx_zretK rfl dX8_isIn_18 (Or.inl rfl) ?_
              refine mx_zretK rfl dX8_isDay_9 (Or.inl rfl) ?_
              refine mx_if_ne (tgt := 41) dX8_below_31 rfl (fun _ => absurd ‹_› (by decide)) (fun _ => ?_)
              refine mx_aload_n dX8_below_34 rfl rfl ?_
              refine mx_iconst dX8_below_35 ic_5 ?_
              refine mx_callV 8 (y' := mi_X8_refuse) (vs := [iv (5 : Int32)]) (st := []) (al' := [some (rv a0), some (iv (5 : Int32))]) cl_8 V_X8_refuse (Or.inl q1999) dX8_below_36 rfl rfl (Nat.le_of_ble_eq_true rfl) (Nat.le_of_ble_eq_true rfl) (ly8_k La0_h2) ?_
              refine mx_aload_n dX8_refuse_0 rfl rfl ?_
              refine mx_iload_n dX8_refuse_1 rfl rfl ?_
              refine mx_putI 8 0 (ref := "PrairiePoolModel") cl_8 (Nat.le_of_ble_eq_true rfl) (Or.inl q1627) (Or.inl rfl) dX8_refuse_2 (Or.inl rfl) rfl (ly8_k La0_h2) ?_
              refine mx_nmI  (fun h14 eh14 Xh14 Kh14 Lh14 => ?_)
              have H := H h14 eh14 Xh14
              have Kh14 := Kh14.trans Kh2
              have Lh14 := Lh14.trans Lh2
              have La0_h14 := La0_h2.ext Xh14
              refine mx_iconst dX8_refuse_5 ic_m1 ?_
              refine mx_iretK rfl dX8_refuse_6 ?_
              refine mx_i2l dX8_below_39 ?_
              exact mx_lret rfl dX8_below_40 H
            · have H := H.2 c13
              refine mx_iconst dX8_isIn_13 ic_1 ?_
              refine mx_goto (tgt := 18) dX8_isIn_14 rfl ?_
              refine mx_zretK rfl dX8_isIn_18 (Or.inr rfl) ?_
              refine mx_zretK rfl dX8_isDay_9 (Or.inr rfl) ?_
              refine mx_if_ne (tgt := 41) dX8_below_31 rfl (fun _ => ?_) (fun _ => absurd ‹_› (by decide))
              refine mx_aload_n dX8_below_41 rfl rfl ?_
              refine mx_iload_n dX8_below_42 rfl rfl ?_
              refine mx_iload_n dX8_below_43 rfl rfl ?_
              refine mx_callV 8 (y' := mi_X8_pay) (vs := [iv x1, iv x3]) (st := []) (al' := [some (rv a0), some (iv x1), some (iv x3), none, none, none, none, none, none]) cl_8 V_X8_pay (Or.inl q2332) dX8_below_44 rfl rfl (Nat.le_of_ble_eq_true rfl) (Nat.le_of_ble_eq_true rfl) (ly8_k La0_h2) ?_
              refine ma_kv H (fun h15 Xh15 H => ?_) (fun x1 h1 X1 H => mt_out rfl H)
              have H := H Xh15
              have La0_h15 := La0_h2.ext Xh15
              refine mx_iload_n dX8_below_47 rfl rfl ?_
              refine mx_if_ne (tgt := 58) dX8_below_48 rfl (fun c17 => ?_) (fun c17 => ?_)
              · have H := H.1 c17
                refine mx_aload_n dX8_below_58 rfl rfl ?_
                refine mx_get 8 78 (ref := "PrairiePoolModel") cl_8 (Nat.le_of_ble_eq_true rfl) (Or.inl q1705) (Or.inl rfl) dX8_below_59 (fv_8_78 _ _) (ly8_k La0_h15) ?_
                exact mx_lret rfl dX8_below_62 H
              · have H := H.2 c17
                refine mx_aload_n dX8_below_51 rfl rfl ?_
                refine mx_get 8 77 (ref := "PrairiePoolModel") cl_8 (Nat.le_of_ble_eq_true rfl) (Or.inl q1704) (Or.inl rfl) dX8_below_52 (fv_8_77 _ _) (ly8_k La0_h15) ?_
                refine mx_goto (tgt := 62) dX8_below_55 rfl ?_
                exact mx_lret rfl dX8_below_62 H
theorem dX8_owed_0 : decode mi_X8_owed.2.1 0 = .ok (.aload_n 0, 1) := by decide +kernel
theorem dX8_owed_1 : decode mi_X8_owed.2.1 1 = .ok (.iconst 0, 1) := by decide +kernel
theorem dX8_owed_2 : decode mi_X8_owed.2.1 2 = .ok (.putfield 257, 3) := by decide +kernel
theorem dX8_owed_5 : decode mi_X8_owed.2.1 5 = .ok (.aload_n 0, 1) := by decide +kernel
theorem dX8_owed_6 : decode mi_X8_owed.2.1 6 = .ok (.aload_n 0, 1) := by decide +kernel
theorem dX8_owed_7 : decode mi_X8_owed.2.1 7 = .ok (.iload_n 1, 1) := by decide +kernel
theorem dX8_owed_8 : decode mi_X8_owed.2.1 8 = .ok (.iload_n 2, 1) := by decide +kernel
theorem dX8_owed_9 : decode mi_X8_owed.2.1 9 = .ok (.iload_n 3, 1) := by decide +kernel
theorem dX8_owed_10 : decode mi_X8_owed.2.1 10 = .ok (.invokevirtual 618, 3) := by decide +kernel
theorem dX8_owed_13 : decode mi_X8_owed.2.1 13 = .ok (.putfield 260, 3) := by decide +kernel
theorem dX8_owed_16 : decode mi_X8_owed.2.1 16 = .ok (.aload_n 0, 1) := by decide +kernel
theorem dX8_owed_17 : decode mi_X8_owed.2.1 17 = .ok (.getfield 260, 3) := by decide +kernel
theorem dX8_owed_20 : decode mi_X8_owed.2.1 20 = .ok (.ifCond .le 7, 3) := by decide +kernel
theorem dX8_owed_23 : decode mi_X8_owed.2.1 23 = .ok (.ldc2_w 289, 3) := by decide +kernel
theorem dX8_owed_26 : decode mi_X8_owed.2.1 26 = .ok (.lreturn, 1) := by decide +kernel
theorem dX8_owed_27 : decode mi_X8_owed.2.1 27 = .ok (.aload_n 0, 1) := by decide +kernel
theorem dX8_owed_28 : decode mi_X8_owed.2.1 28 = .ok (.iload_n 2, 1) := by decide +kernel
theorem dX8_owed_29 : decode mi_X8_owed.2.1 29 = .ok (.iload_n 3, 1) := by decide +kernel
theorem dX8_owed_30 : decode mi_X8_owed.2.1 30 = .ok (.invokevirtual 621, 3) := by decide +kernel
theorem dX8_owed_33 : decode mi_X8_owed.2.1 33 = .ok (.aload_n 0, 1) := by decide +kernel
theorem dX8_owed_34 : decode mi_X8_owed.2.1 34 = .ok (.getfield 173, 3) := by decide +kernel
theorem dX8_owed_37 : decode mi_X8_owed.2.1 37 = .ok (.iload_n 1, 1) := by decide +kernel
theorem dX8_owed_38 : decode mi_X8_owed.2.1 38 = .ok (.laload, 1) := by decide +kernel
theorem dX8_owed_39 : decode mi_X8_owed.2.1 39 = .ok (.lreturn, 1) := by decide +kernel
theorem v_X8_owed {G : ma_G} {d : Nat} {a0 : Nat} {x1 : Int32} {x2 : Int32} {x3 : Int32} {h : ah_T} {Q : Option ma_V → ah_T → Prop} {E : Nat → ah_T → Prop} (La0_h : LY8 h a0) (H : ∀ h1 : ah_T, h1 = ah_wI h a0 1 (0 : Int32) → ah_ext h h1 → (x1.toInt64 < (0 : Int64) → ∀ h3 : ah_T, h3 = ah_wI h1 a0 0 (2 : Int32) → ah_ext h1 h3 → Q (some (jv (-1 : Int64))) h3) ∧ (¬ x1.toInt64 < (0 : Int64) → (((ah_I h a0 5) - (1 : Int32)).toInt64 < x1.toInt64 → ∀ h5 : ah_T, h5 = ah_wI h1 a0 0 (2 : Int32) → ah_ext h1 h5 → Q (some (jv (-1 : Int64))) h5) ∧ (¬ ((ah_I h a0 5) - (1 : Int32)).toInt64 < x1.toInt64 → (x2.toInt64 < (0 : Int64) → ∀ h7 : ah_T, h7 = ah_wI h1 a0 0 (5 : Int32) → ah_ext h1 h7 → Q (some (jv (-1 : Int64))) h7) ∧ (¬ x2.toInt64 < (0 : Int64) → ((9 : Int64) < x2.toInt64 → ∀ h9 : ah_T, h9 = ah_wI h1 a0 0 (5 : Int32) → ah_ext h1 h9 → Q (some (jv (-1 : Int64))) h9) ∧ (¬ (9 : Int64) < x2.toInt64 → (x3.toInt64 < (0 : Int64) → ∀ h11 : ah_T, h11 = ah_wI h1 a0 0 (5 : Int32) → ah_ext h1 h11 → Q (some (jv (-1 : Int64))) h11) ∧ (¬ x3.toInt64 < (0 : Int64) → ((519 : Int64) < x3.toInt64 → ∀ h13 : ah_T, h13 = ah_wI h1 a0 0 (5 : Int32) → ah_ext h1 h13 → Q (some (jv (-1 : Int64))) h13) ∧ (¬ (519 : Int64) < x3.toInt64 → ∀ h14 : ah_T, h14 = ah_wI h1 a0 0 (0 : Int32) → ah_ext h1 h14 → MX G mi_X8_pay (d + 2) 0 [some (rv a0), some (iv x2), some (iv x3), none, none, none, none, none, none] [] h14 (Qv fun h15 => ah_ext h14 h15 → vp_in x1 20 ∧ Q (some (jv (ah_J h15 (a0 + 52) x1.toNatClampNeg))) h15) E))))))) : MX G mi_X8_owed (d + 3) 0 [some (rv a0), some (iv x1), some (iv x2), some (iv x3)] [] h Q E := by
  refine mx_aload_n dX8_owed_0 rfl rfl ?_
  refine mx_iconst dX8_owed_1 ic_0 ?_
  refine mx_putI 8 1 (ref := "PrairiePoolModel") cl_8 (Nat.le_of_ble_eq_true rfl) (Or.inl q1628) (Or.inl rfl) dX8_owed_2 (Or.inl rfl) rfl (ly8_k La0_h) ?_
  refine mx_nmI  (fun h1 eh1 Xh1 Kh1 Lh1 => ?_)
  have H := H h1 eh1 Xh1
  have La0_h1 := La0_h.ext Xh1
  refine mx_aload_n dX8_owed_5 rfl rfl ?_
  refine mx_aload_n dX8_owed_6 rfl rfl ?_
  refine mx_iload_n dX8_owed_7 rfl rfl ?_
  refine mx_iload_n dX8_owed_8 rfl rfl ?_
  refine mx_iload_n dX8_owed_9 rfl rfl ?_
  refine mx_callV 8 (y' := mi_X8_asksFarm) (vs := [iv x1, iv x2, iv x3]) (st := [rv a0]) (al' := [some (rv a0), some (iv x1), some (iv x2), some (iv x3)]) cl_8 V_X8_asksFarm (Or.inl q2328) dX8_owed_10 rfl rfl (Nat.le_of_ble_eq_true rfl) (Nat.le_of_ble_eq_true rfl) (ly8_k La0_h1) ?_
  refine mx_aload_n dX8_asksFarm_0 rfl rfl ?_
  refine mx_iload_n dX8_asksFarm_1 rfl rfl ?_
  refine mx_callV 8 (y' := mi_X8_isFarm) (vs := [iv x1]) (st := []) (al' := [some (rv a0), some (iv x1)]) cl_8 V_X8_isFarm (Or.inl q2014) dX8_asksFarm_2 rfl rfl (Nat.le_of_ble_eq_true rfl) (Nat.le_of_ble_eq_true rfl) (ly8_k La0_h1) ?_
  refine mx_iload_n dX8_isFarm_0 rfl rfl ?_
  refine mx_i2l dX8_isFarm_1 ?_
  refine mx_lconst dX8_isFarm_2 lc_0 ?_
  refine mx_aload_n dX8_isFarm_3 rfl rfl ?_
  refine mx_get 8 5 (ref := "PrairiePoolModel") cl_8 (Nat.le_of_ble_eq_true rfl) (Or.inl q1632) (Or.inl rfl) dX8_isFarm_4 (fv_8_5 _ _) (ly8_k La0_h1) ?_
  refine mx_ti (ah_skIK eh1 (by decide)) ?_
  refine mx_iconst dX8_isFarm_7 ic_1 ?_
  refine mx_isub dX8_isFarm_8 ?_
  refine mx_i2l dX8_isFarm_9 ?_
  refine mx_callS (y' := mi_X8_isIn) (vs := [jv x1.toInt64, jv (0 : Int64), jv ((ah_I h a0 5) - (1 : Int32)).toInt64]) (st := []) (al' := [some (jv x1.toInt64), none, some (jv (0 : Int64)), none, some (jv ((ah_I h a0 5) - (1 : Int32)).toInt64), none]) S_X8_isIn q1996 dX8_isFarm_10 rfl rfl (Nat.le_of_ble_eq_true rfl) (Nat.le_of_ble_eq_true rfl) ?_
  refine mx_lload_n dX8_isIn_0 rfl rfl ?_
  refine mx_lload_n dX8_isIn_1 rfl rfl ?_
  refine mx_lif_lt (tgt := 17) dX8_isIn_2 dX8_isIn_3 rfl (fun c2 => ?_) (fun c2 => ?_)
  · have H := H.1 c2
    refine mx_iconst dX8_isIn_17 ic_0 ?_
    refine mx_zretK rfl dX8_isIn_18 (Or.inl rfl) ?_
    refine mx_zretK rfl dX8_isFarm_13 (Or.inl rfl) ?_
    refine mx_if_ne (tgt := 12) dX8_asksFarm_5 rfl (fun _ => absurd ‹_› (by decide)) (fun _ => ?_)
    refine mx_iconst dX8_asksFarm_8 ic_2 ?_
    refine mx_goto (tgt := 31) dX8_asksFarm_9 rfl ?_
    refine mx_iretK rfl dX8_asksFarm_31 ?_
    refine mx_putI 8 0 (ref := "PrairiePoolModel") cl_8 (Nat.le_of_ble_eq_true rfl) (Or.inl q1627) (Or.inl rfl) dX8_owed_13 (Or.inl rfl) rfl (ly8_k La0_h1) ?_
    refine mx_nmI  (fun h3 eh3 Xh3 Kh3 Lh3 => ?_)
    have H := H h3 eh3 Xh3
    have Kh3 := Kh3.trans Kh1
    have Lh3 := Lh3.trans Lh1
    have La0_h3 := La0_h1.ext Xh3
    refine mx_aload_n dX8_owed_16 rfl rfl ?_
    refine mx_get 8 0 (ref := "PrairiePoolModel") cl_8 (Nat.le_of_ble_eq_true rfl) (Or.inl q1627) (Or.inl rfl) dX8_owed_17 (fv_8_0 _ _) (ly8_k La0_h3) ?_
    refine mx_ti (ah_hitI eh3) ?_
    refine mx_if_le (tgt := 27) dX8_owed_20 rfl (fun _ => absurd ‹_› (by decide)) (fun _ => ?_)
    refine mx_ldc2 q1986 dX8_owed_23 ?_
    exact mx_lret rfl dX8_owed_26 H
  · have H := H.2 c2
    refine mx_lload_n dX8_isIn_6 rfl rfl ?_
    refine mx_lload dX8_isIn_7 rfl ?_
    refine mx_lif_gt (tgt := 17) dX8_isIn_9 dX8_isIn_10 rfl (fun c4 => ?_) (fun c4 => ?_)
    · have H := H.1 c4
      refine mx_iconst dX8_isIn_17 ic_0 ?_
      refine mx_zretK rfl dX8_isIn_18 (Or.inl rfl) ?_
      refine mx_zretK rfl dX8_isFarm_13 (Or.inl rfl) ?_
      refine mx_if_ne (tgt := 12) dX8_asksFarm_5 rfl (fun _ => absurd ‹_› (by decide)) (fun _ => ?_)
      refine mx_iconst dX8_asksFarm_8 ic_2 ?_
      refine mx_goto (tgt := 31) dX8_asksFarm_9 rfl ?_
      refine mx_iretK rfl dX8_asksFarm_31 ?_
      refine mx_putI 8 0 (ref := "PrairiePoolModel") cl_8 (Nat.le_of_ble_eq_true rfl) (Or.inl q1627) (Or.inl rfl) dX8_owed_13 (Or.inl rfl) rfl (ly8_k La0_h1) ?_
      refine mx_nmI  (fun h5 eh5 Xh5 Kh5 Lh5 => ?_)
      have H := H h5 eh5 Xh5
      have Kh5 := Kh5.trans Kh1
      have Lh5 := Lh5.trans Lh1
      have La0_h5 := La0_h1.ext Xh5
      refine mx_aload_n dX8_owed_16 rfl rfl ?_
      refine mx_get 8 0 (ref := "PrairiePoolModel") cl_8 (Nat.le_of_ble_eq_true rfl) (Or.inl q1627) (Or.inl rfl) dX8_owed_17 (fv_8_0 _ _) (ly8_k La0_h5) ?_
      refine mx_ti (ah_hitI eh5) ?_
      refine mx_if_le (tgt := 27) dX8_owed_20 rfl (fun _ => absurd ‹_› (by decide)) (fun _ => ?_)
      refine mx_ldc2 q1986 dX8_owed_23 ?_
      exact mx_lret rfl dX8_owed_26 H
    · have H := H.2 c4
      refine mx_iconst dX8_isIn_13 ic_1 ?_
      refine mx_goto (tgt := 18) dX8_isIn_14 rfl ?_
      refine mx_zretK rfl dX8_isIn_18 (Or.inr rfl) ?_
      refine mx_zretK rfl dX8_isFarm_13 (Or.inr rfl) ?_
      refine mx_if_ne (tgt := 12) dX8_asksFarm_5 rfl (fun _ => ?_) (fun _ => absurd ‹_› (by decide))
      refine mx_iload_n dX8_asksFarm_12 rfl rfl ?_
      refine mx_callS (y' := mi_X8_isYear) (vs := [iv x2]) (st := []) (al' := [some (iv x2)]) S_X8_isYear q2039 dX8_asksFarm_13 rfl rfl (Nat.le_of_ble_eq_true rfl) (Nat.le_of_ble_eq_true rfl) ?_
      refine mx_iload_n dX8_isYear_0 rfl rfl ?_
      refine mx_i2l dX8_isYear_1 ?_
      refine mx_lconst dX8_isYear_2 lc_0 ?_
      refine mx_ldc2 q2042 dX8_isYear_3 ?_
      refine mx_callS (y' := mi_X8_isIn) (vs := [jv x2.toInt64, jv (0 : Int64), jv (9 : Int64)]) (st := []) (al' := [some (jv x2.toInt64), none, some (jv (0 : Int64)), none, some (jv (9 : Int64)), none]) S_X8_isIn q1996 dX8_isYear_6 rfl rfl (Nat.le_of_ble_eq_true rfl) (Nat.le_of_ble_eq_true rfl) ?_
      refine mx_lload_n dX8_isIn_0 rfl rfl ?_
      refine mx_lload_n dX8_isIn_1 rfl rfl ?_
      refine mx_lif_lt (tgt := 17) dX8_isIn_2 dX8_isIn_3 rfl (fun c6 => ?_) (fun c6 => ?_)
      · have H := H.1 c6
        refine mx_iconst dX8_isIn_17 ic_0 ?_
        refine mx_zretK rfl dX8_isIn_18 (Or.inl rfl) ?_
        refine mx_zretK rfl dX8_isYear_9 (Or.inl rfl) ?_
        refine mx_if_eq (tgt := 26) dX8_asksFarm_16 rfl (fun _ => ?_) (fun _ => absurd ‹_› (by decide))
        refine mx_iconst dX8_asksFarm_26 ic_5 ?_
        refine mx_goto (tgt := 31) dX8_asksFarm_27 rfl ?_
        refine mx_iretK rfl dX8_asksFarm_31 ?_
        refine mx_putI 8 0 (ref := "PrairiePoolModel") cl_8 (Nat.le_of_ble_eq_true rfl) (Or.inl q1627) (Or.inl rfl) dX8_owed_13 (Or.inl rfl) rfl (ly8_k La0_h1) ?_
        refine mx_nmI  (fun h7 eh7 Xh7 Kh7 Lh7 => ?_)
        have H := H h7 eh7 Xh7
        have Kh7 := Kh7.trans Kh1
        have Lh7 := Lh7.trans Lh1
        have La0_h7 := La0_h1.ext Xh7
        refine mx_aload_n dX8_owed_16 rfl rfl ?_
        refine mx_get 8 0 (ref := "PrairiePoolModel") cl_8 (Nat.le_of_ble_eq_true rfl) (Or.inl q1627) (Or.inl rfl) dX8_owed_17 (fv_8_0 _ _) (ly8_k La0_h7) ?_
        refine mx_ti (ah_hitI eh7) ?_
        refine mx_if_le (tgt := 27) dX8_owed_20 rfl (fun _ => absurd ‹_› (by decide)) (fun _ => ?_)
        refine mx_ldc2 q1986 dX8_owed_23 ?_
        exact mx_lret rfl dX8_owed_26 H
      · have H := H.2 c6
        refine mx_lload_n dX8_isIn_6 rfl rfl ?_
        refine mx_lload dX8_isIn_7 rfl ?_
        refine mx_lif_gt (tgt := 17) dX8_isIn_9 dX8_isIn_10 rfl (fun c8 => ?_) (fun c8 => ?_)
        · have H := H.1 c8
          refine mx_iconst dX8_isIn_17 ic_0 ?_
          refine mx_zretK rfl dX8_isIn_18 (Or.inl rfl) ?_
          refine mx_zretK rfl dX8_isYear_9 (Or.inl rfl) ?_
          refine mx_if_eq (tgt := 26) dX8_asksFarm_16 rfl (fun _ => ?_) (fun _ => absurd ‹_› (by decide))
          refine mx_iconst dX8_asksFarm_26 ic_5 ?_
          refine mx_goto (tgt := 31) dX8_asksFarm_27 rfl ?_
          refine mx_iretK rfl dX8_asksFarm_31 ?_
          refine mx_putI 8 0 (ref := "PrairiePoolModel") cl_8 (Nat.le_of_ble_eq_true rfl) (Or.inl q1627) (Or.inl rfl) dX8_owed_13 (Or.inl rfl) rfl (ly8_k La0_h1) ?_
          refine mx_nmI  (fun h9 eh9 Xh9 Kh9 Lh9 => ?_)
          have H := H h9 eh9 Xh9
          have Kh9 := Kh9.trans Kh1
          have Lh9 := Lh9.trans Lh1
          have La0_h9 := La0_h1.ext Xh9
          refine mx_aload_n dX8_owed_16 rfl rfl ?_
          refine mx_get 8 0 (ref := "PrairiePoolModel") cl_8 (Nat.le_of_ble_eq_true rfl) (Or.inl q1627) (Or.inl rfl) dX8_owed_17 (fv_8_0 _ _) (ly8_k La0_h9) ?_
          refine mx_ti (ah_hitI eh9) ?_
          refine mx_if_le (tgt := 27) dX8_owed_20 rfl (fun _ => absurd ‹_› (by decide)) (fun _ => ?_)
          refine mx_ldc2 q1986 dX8_owed_23 ?_
          exact mx_lret rfl dX8_owed_26 H
        · have H := H.2 c8
          refine mx_iconst dX8_isIn_13 ic_1 ?_
          refine mx_goto (tgt := 18) dX8_isIn_14 rfl ?_
          refine mx_zretK rfl dX8_isIn_18 (Or.inr rfl) ?_
          refine mx_zretK rfl dX8_isYear_9 (Or.inr rfl) ?_
          refine mx_if_eq (tgt := 26) dX8_asksFarm_16 rfl (fun _ => absurd ‹_› (by decide)) (fun _ => ?_)
          refine mx_iload_n dX8_asksFarm_19 rfl rfl ?_
          refine mx_callS (y' := mi_X8_isDay) (vs := [iv x3]) (st := []) (al' := [some (iv x3)]) S_X8_isDay q2028 dX8_asksFarm_20 rfl rfl (Nat.le_of_ble_eq_true rfl) (Nat.le_of_ble_eq_true rfl) ?_
          refine mx_iload_n dX8_isDay_0 rfl rfl ?_
          refine mx_i2l dX8_isDay_1 ?_
          refine mx_lconst dX8_isDay_2 lc_0 ?_
          refine mx_ldc2 q2031 dX8_isDay_3 ?_
          refine mx_callS (y' := mi_X8_isIn) (vs := [jv x3.toInt64, jv (0 : Int64), jv (519 : Int64)]) (st := []) (al' := [some (jv x3.toInt64), none, some (jv (0 : Int64)), none, some (jv (519 : Int64)), none]) S_X8_isIn q1996 dX8_isDay_6 rfl rfl (Nat.le_of_ble_eq_true rfl) (Nat.le_of_ble_eq_true rfl) ?_
          refine mx_lload_n dX8_isIn_0 rfl rfl ?_
          refine mx_lload_n dX8_isIn_1 rfl rfl ?_
          refine mx_lif_lt (tgt := 17) dX8_isIn_2 dX8_isIn_3 rfl (fun c10 => ?_) (fun c10 => ?_)
          · have H := H.1 c10
            refine mx_iconst dX8_isIn_17 ic_0 ?_
            refine mx_zretK rfl dX8_isIn_18 (Or.inl rfl) ?_
            refine mx_zretK rfl dX8_isDay_9 (Or.inl rfl) ?_
            refine mx_if_ne (tgt := 30) dX8_asksFarm_23 rfl (fun _ => absurd ‹_› (by decide)) (fun _ => ?_)
            refine mx_iconst dX8_asksFarm_26 ic_5 ?_
            refine mx_goto (tgt := 31) dX8_asksFarm_27 rfl ?_
            refine mx_iretK rfl dX8_asksFarm_31 ?_
            refine mx_putI 8 0 (ref := "PrairiePoolModel") cl_8 (Nat.le_of_ble_eq_true rfl) (Or.inl q1627) (Or.inl rfl) dX8_owed_13 (Or.inl rfl) rfl (ly8_k La0_h1) ?_
            refine mx_nmI  (fun h11 eh11 Xh11 Kh11 Lh11 => ?_)
            have H := H h11 eh11 Xh11
            have Kh11 := Kh11.trans Kh1
            have Lh11 := Lh11.trans Lh1
            have La0_h11 := La0_h1.ext Xh11
            refine mx_aload_n dX8_owed_16 rfl rfl ?_
            refine mx_get 8 0 (ref := "PrairiePoolModel") cl_8 (Nat.le_of_ble_eq_true rfl) (Or.inl q1627) (Or.inl rfl) dX8_owed_17 (fv_8_0 _ _) (ly8_k La0_h11) ?_
            refine mx_ti (ah_hitI eh11) ?_
            refine mx_if_le (tgt := 27) dX8_owed_20 rfl (fun _ => absurd ‹_› (by decide)) (fun _ => ?_)
            refine mx_ldc2 q1986 dX8_owed_23 ?_
            exact mx_lret rfl dX8_owed_26 H
          · have H := H.2 c10
            refine mx_lload_n dX8_isIn_6 rfl rfl ?_
            refine mx_lload dX8_isIn_7 rfl ?_
            refine mx_lif_gt (tgt := 17) dX8_isIn_9 dX8_isIn_10 rfl (fun c12 => ?_) (fun c12 => ?_)
            · have H := H.1 c12
              refine mx_iconst dX8_isIn_17 ic_0 ?_
              refine mx_zretK rfl dX8_isIn_18 (Or.inl rfl) ?_
              refine mx_zretK rfl dX8_isDay_9 (Or.inl rfl) ?_
              refine mx_if_ne (tgt := 30) dX8_asksFarm_23 rfl (fun _ => absurd ‹_› (by decide)) (fun _ => ?_)
              refine mx_iconst dX8_asksFarm_26 ic_5 ?_
              refine mx_goto (tgt := 31) dX8_asksFarm_27 rfl ?_
              refine mx_iretK rfl dX8_asksFarm_31 ?_
              refine mx_putI 8 0 (ref := "PrairiePoolModel") cl_8 (Nat.le_of_ble_eq_true rfl) (Or.inl q1627) (Or.inl rfl) dX8_owed_13 (Or.inl rfl) rfl (ly8_k La0_h1) ?_
              refine mx_nmI  (fun h13 eh13 Xh13 Kh13 Lh13 => ?_)
              have H := H h13 eh13 Xh13
              have Kh13 := Kh13.trans Kh1
              have Lh13 := Lh13.trans Lh1
              have La0_h13 := La0_h1.ext Xh13
              refine mx_aload_n dX8_owed_16 rfl rfl ?_
              refine mx_get 8 0 (ref := "PrairiePoolModel") cl_8 (Nat.le_of_ble_eq_true rfl) (Or.inl q1627) (Or.inl rfl) dX8_owed_17 (fv_8_0 _ _) (ly8_k La0_h13) ?_
              refine mx_ti (ah_hitI eh13) ?_
              refine mx_if_le (tgt := 27) dX8_owed_20 rfl (fun _ => absurd ‹_› (by decide)) (fun _ => ?_)
              refine mx_ldc2 q1986 dX8_owed_23 ?_
              exact mx_lret rfl dX8_owed_26 H
            · have H := H.2 c12
              refine mx_iconst dX8_isIn_13 ic_1 ?_
              refine mx_goto (tgt := 18) dX8_isIn_14 rfl ?_
              refine mx_zretK rfl dX8_isIn_18 (Or.inr rfl) ?_
              refine mx_zretK rfl dX8_isDay_9 (Or.inr rfl) ?_
              refine mx_if_ne (tgt := 30) dX8_asksFarm_23 rfl (fun _ => ?_) (fun _ => absurd ‹_› (by decide))
              refine mx_iconst dX8_asksFarm_30 ic_0 ?_
              refine mx_iretK rfl dX8_asksFarm_31 ?_
              refine mx_putI 8 0 (ref := "PrairiePoolModel") cl_8 (Nat.le_of_ble_eq_true rfl) (Or.inl q1627) (Or.inl rfl) dX8_owed_13 (Or.inl rfl) rfl (ly8_k La0_h1) ?_
              refine mx_nmI  (fun h14 eh14 Xh14 Kh14 Lh14 => ?_)
              have H := H h14 eh14 Xh14
              have Kh14 := Kh14.trans Kh1
              have Lh14 := Lh14.trans Lh1
              have La0_h14 := La0_h1.ext Xh14
              refine mx_aload_n dX8_owed_16 rfl rfl ?_
              refine mx_get 8 0 (ref := "PrairiePoolModel") cl_8 (Nat.le_of_ble_eq_true rfl) (Or.inl q1627) (Or.inl rfl) dX8_owed_17 (fv_8_0 _ _) (ly8_k La0_h14) ?_
              refine mx_ti (ah_hitI eh14) ?_
              refine mx_if_le (tgt := 27) dX8_owed_20 rfl (fun _ => ?_) (fun _ => absurd ‹_› (by decide))
              refine mx_aload_n dX8_owed_27 rfl rfl ?_
              refine mx_iload_n dX8_owed_28 rfl rfl ?_
              refine mx_iload_n dX8_owed_29 rfl rfl ?_
              refine mx_callV 8 (y' := mi_X8_pay) (vs := [iv x2, iv x3]) (st := []) (al' := [some (rv a0), some (iv x2), some (iv x3), none, none, none, none, none, none]) cl_8 V_X8_pay (Or.inl q2332) dX8_owed_30 rfl rfl (Nat.le_of_ble_eq_true rfl) (Nat.le_of_ble_eq_true rfl) (ly8_k La0_h14) ?_
              refine ma_kv H (fun h15 Xh15 H => ?_) (fun x1 h1 X1 H => mt_out rfl H)
              have H := H Xh15
              have La0_h15 := La0_h14.ext Xh15
              refine mx_aload_n dX8_owed_33 rfl rfl ?_
              refine mx_get 8 76 (ref := "PrairiePoolModel") cl_8 (Nat.le_of_ble_eq_true rfl) (Or.inl q1703) (Or.inl rfl) dX8_owed_34 (fv_8_76 _ _) (ly8_k La0_h15) ?_
              refine mx_tr (ly8_R_0_76 La0_h15) ?_
              refine mx_iload_n dX8_owed_37 rfl rfl ?_
              obtain ⟨k17, H⟩ := H
              refine my_lald dX8_owed_38 rfl (ly8_A_52 La0_h15 k17) ?_
              exact mx_lret rfl dX8_owed_39 H
theorem dX8_turns_0 : decode mi_X8_turns.2.1 0 = .ok (.aload_n 0, 1) := by decide +kernel
theorem dX8_turns_1 : decode mi_X8_turns.2.1 1 = .ok (.iconst 0, 1) := by decide +kernel
theorem dX8_turns_2 : decode mi_X8_turns.2.1 2 = .ok (.putfield 257, 3) := by decide +kernel
theorem dX8_turns_5 : decode mi_X8_turns.2.1 5 = .ok (.aload_n 0, 1) := by decide +kernel
theorem dX8_turns_6 : decode mi_X8_turns.2.1 6 = .ok (.iconst 0, 1) := by decide +kernel
theorem dX8_turns_7 : decode mi_X8_turns.2.1 7 = .ok (.putfield 260, 3) := by decide +kernel
theorem dX8_turns_10 : decode mi_X8_turns.2.1 10 = .ok (.aload_n 0, 1) := by decide +kernel
theorem dX8_turns_11 : decode mi_X8_turns.2.1 11 = .ok (.iload_n 3, 1) := by decide +kernel
theorem dX8_turns_12 : decode mi_X8_turns.2.1 12 = .ok (.invokevirtual 321, 3) := by decide +kernel
theorem dX8_turns_15 : decode mi_X8_turns.2.1 15 = .ok (.ifCond .ne 9, 3) := by decide +kernel
theorem dX8_turns_18 : decode mi_X8_turns.2.1 18 = .ok (.aload_n 0, 1) := by decide +kernel
theorem dX8_turns_19 : decode mi_X8_turns.2.1 19 = .ok (.iconst 2, 1) := by decide +kernel
theorem dX8_turns_20 : decode mi_X8_turns.2.1 20 = .ok (.invokevirtual 297, 3) := by decide +kernel
theorem dX8_turns_23 : decode mi_X8_turns.2.1 23 = .ok (.ireturn, 1) := by decide +kernel
theorem dX8_turns_24 : decode mi_X8_turns.2.1 24 = .ok (.iload_n 1, 1) := by decide +kernel
theorem dX8_turns_25 : decode mi_X8_turns.2.1 25 = .ok (.invokestatic 306, 3) := by decide +kernel
theorem dX8_turns_28 : decode mi_X8_turns.2.1 28 = .ok (.ifCond .eq 15, 3) := by decide +kernel
theorem dX8_turns_31 : decode mi_X8_turns.2.1 31 = .ok (.iload_n 2, 1) := by decide +kernel
theorem dX8_turns_32 : decode mi_X8_turns.2.1 32 = .ok (.i2l, 1) := by decide +kernel
theorem dX8_turns_33 : decode mi_X8_turns.2.1 33 = .ok (.lconst 1, 1) := by decide +kernel
theorem dX8_turns_34 : decode mi_X8_turns.2.1 34 = .ok (.ldc2_w 624, 3) := by decide +kernel
theorem dX8_turns_37 : decode mi_X8_turns.2.1 37 = .ok (.invokestatic 265, 3) := by decide +kernel
theorem dX8_turns_40 : decode mi_X8_turns.2.1 40 = .ok (.ifCond .ne 9, 3) := by decide +kernel
theorem dX8_turns_43 : decode mi_X8_turns.2.1 43 = .ok (.aload_n 0, 1) := by decide +kernel
theorem dX8_turns_44 : decode mi_X8_turns.2.1 44 = .ok (.iconst 5, 1) := by decide +kernel
theorem dX8_turns_45 : decode mi_X8_turns.2.1 45 = .ok (.invokevirtual 297, 3) := by decide +kernel
theorem dX8_turns_48 : decode mi_X8_turns.2.1 48 = .ok (.ireturn, 1) := by decide +kernel
theorem dX8_turns_49 : decode mi_X8_turns.2.1 49 = .ok (.aload_n 0, 1) := by decide +kernel
theorem dX8_turns_50 : decode mi_X8_turns.2.1 50 = .ok (.iload_n 1, 1) := by decide +kernel
theorem dX8_turns_51 : decode mi_X8_turns.2.1 51 = .ok (.invokevirtual 403, 3) := by decide +kernel
theorem dX8_turns_54 : decode mi_X8_turns.2.1 54 = .ok (.iconst 0, 1) := by decide +kernel
theorem dX8_turns_55 : decode mi_X8_turns.2.1 55 = .ok (.istore 4, 2) := by decide +kernel
theorem dX8_turns_57 : decode mi_X8_turns.2.1 57 = .ok (.iload 4, 2) := by decide +kernel
theorem dX8_turns_59 : decode mi_X8_turns.2.1 59 = .ok (.bipush 8, 2) := by decide +kernel
theorem dX8_turns_61 : decode mi_X8_turns.2.1 61 = .ok (.if_icmp .ge 17, 3) := by decide +kernel
theorem dX8_turns_64 : decode mi_X8_turns.2.1 64 = .ok (.aload_n 0, 1) := by decide +kernel
theorem dX8_turns_65 : decode mi_X8_turns.2.1 65 = .ok (.getfield 254, 3) := by decide +kernel
theorem dX8_turns_68 : decode mi_X8_turns.2.1 68 = .ok (.iload 4, 2) := by decide +kernel
theorem dX8_turns_70 : decode mi_X8_turns.2.1 70 = .ok (.iconst 0, 1) := by decide +kernel
theorem dX8_turns_71 : decode mi_X8_turns.2.1 71 = .ok (.iastore, 1) := by decide +kernel
theorem dX8_turns_72 : decode mi_X8_turns.2.1 72 = .ok (.iinc 4 1, 3) := by decide +kernel
theorem dX8_turns_75 : decode mi_X8_turns.2.1 75 = .ok (.goto (-18), 3) := by decide +kernel
theorem dX8_turns_78 : decode mi_X8_turns.2.1 78 = .ok (.iconst 0, 1) := by decide +kernel
theorem dX8_turns_79 : decode mi_X8_turns.2.1 79 = .ok (.istore 4, 2) := by decide +kernel
theorem dX8_turns_81 : decode mi_X8_turns.2.1 81 = .ok (.iload 4, 2) := by decide +kernel
theorem dX8_turns_83 : decode mi_X8_turns.2.1 83 = .ok (.iload_n 2, 1) := by decide +kernel
theorem dX8_turns_84 : decode mi_X8_turns.2.1 84 = .ok (.if_icmp .ge 119, 3) := by decide +kernel
theorem dX8_turns_87 : decode mi_X8_turns.2.1 87 = .ok (.iconst (-1), 1) := by decide +kernel
theorem dX8_turns_88 : decode mi_X8_turns.2.1 88 = .ok (.istore 5, 2) := by decide +kernel
theorem dX8_turns_90 : decode mi_X8_turns.2.1 90 = .ok (.lconst 0, 1) := by decide +kernel
theorem dX8_turns_91 : decode mi_X8_turns.2.1 91 = .ok (.lstore 6, 2) := by decide +kernel
theorem dX8_turns_93 : decode mi_X8_turns.2.1 93 = .ok (.iconst 0, 1) := by decide +kernel
theorem dX8_turns_94 : decode mi_X8_turns.2.1 94 = .ok (.istore 8, 2) := by decide +kernel
theorem dX8_turns_96 : decode mi_X8_turns.2.1 96 = .ok (.iload 8, 2) := by decide +kernel
theorem dX8_turns_98 : decode mi_X8_turns.2.1 98 = .ok (.aload_n 0, 1) := by decide +kernel
theorem dX8_turns_99 : decode mi_X8_turns.2.1 99 = .ok (.getfield 294, 3) := by decide +kernel
theorem dX8_turns_102 : decode mi_X8_turns.2.1 102 = .ok (.if_icmp .ge 76, 3) := by decide +kernel
theorem dX8_turns_105 : decode mi_X8_turns.2.1 105 = .ok (.iconst 0, 1) := by decide +kernel
theorem dX8_turns_106 : decode mi_X8_turns.2.1 106 = .ok (.aload_n 0, 1) := by decide +kernel
theorem dX8_turns_107 : decode mi_X8_turns.2.1 107 = .ok (.iload 8, 2) := by decide +kernel
theorem dX8_turns_109 : decode mi_X8_turns.2.1 109 = .ok (.invokevirtual 390, 3) := by decide +kernel
theorem dX8_turns_112 : decode mi_X8_turns.2.1 112 = .ok (.sipush 1000, 3) := by decide +kernel
theorem dX8_turns_115 : decode mi_X8_turns.2.1 115 = .ok (.aload_n 0, 1) := by decide +kernel
theorem dX8_turns_116 : decode mi_X8_turns.2.1 116 = .ok (.getfield 254, 3) := by decide +kernel
theorem dX8_turns_119 : decode mi_X8_turns.2.1 119 = .ok (.iload 8, 2) := by decide +kernel
theorem dX8_turns_121 : decode mi_X8_turns.2.1 121 = .ok (.iaload, 1) := by decide +kernel
theorem dX8_turns_122 : decode mi_X8_turns.2.1 122 = .ok (.imul, 1) := by decide +kernel
theorem dX8_turns_123 : decode mi_X8_turns.2.1 123 = .ok (.isub, 1) := by decide +kernel
theorem dX8_turns_124 : decode mi_X8_turns.2.1 124 = .ok (.invokestatic 393, 3) := by decide +kernel
theorem dX8_turns_127 : decode mi_X8_turns.2.1 127 = .ok (.istore 9, 2) := by decide +kernel
theorem dX8_turns_129 : decode mi_X8_turns.2.1 129 = .ok (.iload 9, 2) := by decide +kernel
theorem dX8_turns_131 : decode mi_X8_turns.2.1 131 = .ok (.ifCond .ne 6, 3) := by decide +kernel
theorem dX8_turns_134 : decode mi_X8_turns.2.1 134 = .ok (.goto 38, 3) := by decide +kernel
theorem dX8_turns_137 : decode mi_X8_turns.2.1 137 = .ok (.aload_n 0, 1) := by decide +kernel
theorem dX8_turns_138 : decode mi_X8_turns.2.1 138 = .ok (.iload 8, 2) := by decide +kernel
theorem dX8_turns_140 : decode mi_X8_turns.2.1 140 = .ok (.iload_n 1, 1) := by decide +kernel
theorem dX8_turns_141 : decode mi_X8_turns.2.1 141 = .ok (.iload 9, 2) := by decide +kernel
theorem dX8_turns_143 : decode mi_X8_turns.2.1 143 = .ok (.invokevirtual 626, 3) := by decide +kernel
theorem dX8_turns_146 : decode mi_X8_turns.2.1 146 = .ok (.lstore 10, 2) := by decide +kernel
theorem dX8_turns_148 : decode mi_X8_turns.2.1 148 = .ok (.iload 5, 2) := by decide +kernel
theorem dX8_turns_150 : decode mi_X8_turns.2.1 150 = .ok (.ifCond .lt 14, 3) := by decide +kernel
theorem dX8_turns_153 : decode mi_X8_turns.2.1 153 = .ok (.lload 10, 2) := by decide +kernel
theorem dX8_turns_155 : decode mi_X8_turns.2.1 155 = .ok (.lload 6, 2) := by decide +kernel
theorem dX8_turns_157 : decode mi_X8_turns.2.1 157 = .ok (.lcmp, 1) := by decide +kernel
theorem dX8_turns_158 : decode mi_X8_turns.2.1 158 = .ok (.ifCond .gt 6, 3) := by decide +kernel
theorem dX8_turns_161 : decode mi_X8_turns.2.1 161 = .ok (.goto 11, 3) := by decide +kernel
theorem dX8_turns_164 : decode mi_X8_turns.2.1 164 = .ok (.iload 8, 2) := by decide +kernel
theorem dX8_turns_166 : decode mi_X8_turns.2.1 166 = .ok (.istore 5, 2) := by decide +kernel
theorem dX8_turns_168 : decode mi_X8_turns.2.1 168 = .ok (.lload 10, 2) := by decide +kernel
theorem dX8_turns_170 : decode mi_X8_turns.2.1 170 = .ok (.lstore 6, 2) := by decide +kernel
theorem dX8_turns_172 : decode mi_X8_turns.2.1 172 = .ok (.iinc 8 1, 3) := by decide +kernel
theorem dX8_turns_175 : decode mi_X8_turns.2.1 175 = .ok (.goto (-79), 3) := by decide +kernel
theorem dX8_turns_178 : decode mi_X8_turns.2.1 178 = .ok (.iload 5, 2) := by decide +kernel
theorem dX8_turns_180 : decode mi_X8_turns.2.1 180 = .ok (.ifCond .ge 6, 3) := by decide +kernel
theorem dX8_turns_183 : decode mi_X8_turns.2.1 183 = .ok (.goto 20, 3) := by decide +kernel
theorem dX8_turns_186 : decode mi_X8_turns.2.1 186 = .ok (.aload_n 0, 1) := by decide +kernel
theorem dX8_turns_187 : decode mi_X8_turns.2.1 187 = .ok (.getfield 254, 3) := by decide +kernel
theorem dX8_turns_190 : decode mi_X8_turns.2.1 190 = .ok (.iload 5, 2) := by decide +kernel
theorem dX8_turns_192 : decode mi_X8_turns.2.1 192 = .ok (.dup2, 1) := by decide +kernel
theorem dX8_turns_193 : decode mi_X8_turns.2.1 193 = .ok (.iaload, 1) := by decide +kernel
theorem dX8_turns_194 : decode mi_X8_turns.2.1 194 = .ok (.iconst 1, 1) := by decide +kernel
theorem dX8_turns_195 : decode mi_X8_turns.2.1 195 = .ok (.iadd, 1) := by decide +kernel
theorem dX8_turns_196 : decode mi_X8_turns.2.1 196 = .ok (.iastore, 1) := by decide +kernel
theorem dX8_turns_197 : decode mi_X8_turns.2.1 197 = .ok (.iinc 4 1, 3) := by decide +kernel
theorem dX8_turns_200 : decode mi_X8_turns.2.1 200 = .ok (.goto (-119), 3) := by decide +kernel
theorem dX8_turns_203 : decode mi_X8_turns.2.1 203 = .ok (.aload_n 0, 1) := by decide +kernel
theorem dX8_turns_204 : decode mi_X8_turns.2.1 204 = .ok (.getfield 254, 3) := by decide +kernel
theorem dX8_turns_207 : decode mi_X8_turns.2.1 207 = .ok (.iload_n 3, 1) := by decide +kernel
theorem dX8_turns_208 : decode mi_X8_turns.2.1 208 = .ok (.iaload, 1) := by decide +kernel
theorem dX8_turns_209 : decode mi_X8_turns.2.1 209 = .ok (.ireturn, 1) := by decide +kernel
theorem v_X8_turns {G : ma_G} {d : Nat} {a0 : Nat} {x1 : Int32} {x2 : Int32} {x3 : Int32} {h : ah_T} {Q : Option ma_V → ah_T → Prop} {E : Nat → ah_T → Prop} (La0_h : LY8 h a0) (H : ∀ h1 : ah_T, h1 = ah_wI h a0 1 (0 : Int32) → ah_ext h h1 → ∀ h2 : ah_T, h2 = ah_wI h1 a0 0 (0 : Int32) → ah_ext h1 h2 → (x3.toInt64 < (0 : Int64) → ∀ h4 : ah_T, h4 = ah_wI h2 a0 0 (2 : Int32) → ah_ext h2 h4 → Q (some (iv (-1 : Int32))) h4) ∧ (¬ x3.toInt64 < (0 : Int64) → (((ah_I h a0 6) - (1 : Int32)).toInt64 < x3.toInt64 → ∀ h6 : ah_T, h6 = ah_wI h2 a0 0 (2 : Int32) → ah_ext h2 h6 → Q (some (iv (-1 : Int32))) h6) ∧ (¬ ((ah_I h a0 6) - (1 : Int32)).toInt64 < x3.toInt64 → (x1.toInt64 < (0 : Int64) → ∀ h8 : ah_T, h8 = ah_wI h2 a0 0 (5 : Int32) → ah_ext h2 h8 → Q (some (iv (-1 : Int32))) h8) ∧ (¬ x1.toInt64 < (0 : Int64) → ((519 : Int64) < x1.toInt64 → ∀ h10 : ah_T, h10 = ah_wI h2 a0 0 (5 : Int32) → ah_ext h2 h10 → Q (some (iv (-1 : Int32))) h10) ∧ (¬ (519 : Int64) < x1.toInt64 → (x2.toInt64 < (1 : Int64) → ∀ h12 : ah_T, h12 = ah_wI h2 a0 0 (5 : Int32) → ah_ext h2 h12 → Q (some (iv (-1 : Int32))) h12) ∧ (¬ x2.toInt64 < (1 : Int64) → ((20 : Int64) < x2.toInt64 → ∀ h14 : ah_T, h14 = ah_wI h2 a0 0 (5 : Int32) → ah_ext h2 h14 → Q (some (iv (-1 : Int32))) h14) ∧ (¬ (20 : Int64) < x2.toInt64 → MX G mi_X8_play (d + 1) 0 [some (rv a0), some (iv x1), none] [] h2 (Qv fun h15 => ah_ext h2 h15 → MX G mi_X8_turns (d + 2) 57 [some (rv a0), some (iv x1), some (iv x2), some (iv x3), some (iv (0 : Int32)), none, none, none, none, none, none, none] [] h15 Q E) E))))))) : MX G mi_X8_turns (d + 2) 0 [some (rv a0), some (iv x1), some (iv x2), some (iv x3), none, none, none, none, none, none, none, none] [] h Q E := by
  refine mx_aload_n dX8_turns_0 rfl rfl ?_
  refine mx_iconst dX8_turns_1 ic_0 ?_
  refine mx_putI 8 1 (ref := "PrairiePoolModel") cl_8 (Nat.le_of_ble_eq_true rfl) (Or.inl q1628) (Or.inl rfl) dX8_turns_2 (Or.inl rfl) rfl (ly8_k La0_h) ?_
  refine mx_nmI  (fun h1 eh1 Xh1 Kh1 Lh1 => ?_)
  have H := H h1 eh1 Xh1
  have La0_h1 := La0_h.ext Xh1
  refine mx_aload_n dX8_turns_5 rfl rfl ?_
  refine mx_iconst dX8_turns_6 ic_0 ?_
  refine mx_putI 8 0 (ref := "PrairiePoolModel") cl_8 (Nat.le_of_ble_eq_true rfl) (Or.inl q1627) (Or.inl rfl) dX8_turns_7 (Or.inl rfl) rfl (ly8_k La0_h1) ?_
  refine mx_nmI  (fun h2 eh2 Xh2 Kh2 Lh2 => ?_)
  have H := H h2 eh2 Xh2
  have Kh2 := Kh2.trans Kh1
  have Lh2 := Lh2.trans Lh1
  have La0_h2 := La0_h1.ext Xh2
  refine mx_aload_n dX8_turns_10 rfl rfl ?_
  refine mx_iload_n dX8_turns_11 rfl rfl ?_
  refine mx_callV 8 (y' := mi_X8_isElevator) (vs := [iv x3]) (st := []) (al' := [some (rv a0), some (iv x3)]) cl_8 V_X8_isElevator (Or.inl q2018) dX8_turns_12 rfl rfl (Nat.le_of_ble_eq_true rfl) (Nat.le_of_ble_eq_true rfl) (ly8_k La0_h2) ?_
  refine mx_iload_n dX8_isElevator_0 rfl rfl ?_
  refine mx_i2l dX8_isElevator_1 ?_
  refine mx_lconst dX8_isElevator_2 lc_0 ?_
  refine mx_aload_n dX8_isElevator_3 rfl rfl ?_
  refine mx_get 8 6 (ref := "PrairiePoolModel") cl_8 (Nat.le_of_ble_eq_true rfl) (Or.inl q1633) (Or.inl rfl) dX8_isElevator_4 (fv_8_6 _ _) (ly8_k La0_h2) ?_
  refine mx_ti ((ah_skIK eh2 (by decide)).trans (ah_skIK eh1 (by decide))) ?_
  refine mx_iconst dX8_isElevator_7 ic_1 ?_
  refine mx_isub dX8_isElevator_8 ?_
  refine mx_i2l dX8_isElevator_9 ?_
  refine mx_callS (y' := mi_X8_isIn) (vs := [jv x3.toInt64, jv (0 : Int64), jv ((ah_I h a0 6) - (1 : Int32)).toInt64]) (st := []) (al' := [some (jv x3.toInt64), none, some (jv (0 : Int64)), none, some (jv ((ah_I h a0 6) - (1 : Int32)).toInt64), none]) S_X8_isIn q1996 dX8_isElevator_10 rfl rfl (Nat.le_of_ble_eq_true rfl) (Nat.le_of_ble_eq_true rfl) ?_
  refine mx_lload_n dX8_isIn_0 rfl rfl ?_
  refine mx_lload_n dX8_isIn_1 rfl rfl ?_
  refine mx_lif_lt (tgt := 17) dX8_isIn_2 dX8_isIn_3 rfl (fun c3 => ?_) (fun c3 => ?_)
  · have H := H.1 c3
    refine mx_iconst dX8_isIn_17 ic_0 ?_
    refine mx_zretK rfl dX8_isIn_18 (Or.inl rfl) ?_
    refine mx_zretK rfl dX8_isElevator_13 (Or.inl rfl) ?_
    refine mx_if_ne (tgt := 24) dX8_turns_15 rfl (fun _ => absurd ‹_› (by decide)) (fun _ => ?_)
    refine mx_aload_n dX8_turns_18 rfl rfl ?_
    refine mx_iconst dX8_turns_19 ic_2 ?_
    refine mx_callV 8 (y' := mi_X8_refuse) (vs := [iv (2 : Int32)]) (st := []) (al' := [some (rv a0), some (iv (2 : Int32))]) cl_8 V_X8_refuse (Or.inl q1999) dX8_turns_20 rfl rfl (Nat.le_of_ble_eq_true rfl) (Nat.le_of_ble_eq_true rfl) (ly8_k La0_h2) ?_
    refine mx_aload_n dX8_refuse_0 rfl rfl ?_
    refine mx_iload_n dX8_refuse_1 rfl rfl ?_
    refine mx_putI 8 0 (ref := "PrairiePoolModel") cl_8 (Nat.le_of_ble_eq_true rfl) (Or.inl q1627) (Or.inl rfl) dX8_refuse_2 (Or.inl rfl) rfl (ly8_k La0_h2) ?_
    refine mx_nmI  (fun h4 eh4 Xh4 Kh4 Lh4 => ?_)
    have H := H h4 eh4 Xh4
    have Kh4 := Kh4.trans Kh2
    have Lh4 := Lh4.trans Lh2
    have La0_h4 := La0_h2.ext Xh4
    refine mx_iconst dX8_refuse_5 ic_m1 ?_
    refine mx_iretK rfl dX8_refuse_6 ?_
    exact mx_iret rfl dX8_turns_23 H
  · have H := H.2 c3
    refine mx_lload_n dX8_isIn_6 rfl rfl ?_
    refine mx_lload dX8_isIn_7 rfl ?_
    refine mx_lif_gt (tgt := 17) dX8_isIn_9 dX8_isIn_10 rfl (fun c5 => ?_) (fun c5 => ?_)
    · have H := H.1 c5
      refine mx_iconst dX8_isIn_17 ic_0 ?_
      refine mx_zretK rfl dX8_isIn_18 (Or.inl rfl) ?_
      refine mx_zretK rfl dX8_isElevator_13 (Or.inl rfl) ?_
      refine mx_if_ne (tgt := 24) dX8_turns_15 rfl (fun _ => absurd ‹_› (by decide)) (fun _ => ?_)
      refine mx_aload_n dX8_turns_18 rfl rfl ?_
      refine mx_iconst dX8_turns_19 ic_2 ?_
      refine mx_callV 8 (y' := mi_X8_refuse) (vs := [iv (2 : Int32)]) (st := []) (al' := [some (rv a0), some (iv (2 : Int32))]) cl_8 V_X8_refuse (Or.inl q1999) dX8_turns_20 rfl rfl (Nat.le_of_ble_eq_true rfl) (Nat.le_of_ble_eq_true rfl) (ly8_k La0_h2) ?_
      refine mx_aload_n dX8_refuse_0 rfl rfl ?_
      refine mx_iload_n dX8_refuse_1 rfl rfl ?_
      refine mx_putI 8 0 (ref := "PrairiePoolModel") cl_8 (Nat.le_of_ble_eq_true rfl) (Or.inl q1627) (Or.inl rfl) dX8_refuse_2 (Or.inl rfl) rfl (ly8_k La0_h2) ?_
      refine mx_nmI  (fun h6 eh6 Xh6 Kh6 Lh6 => ?_)
      have H := H h6 eh6 Xh6
      have Kh6 := Kh6.trans Kh2
      have Lh6 := Lh6.trans Lh2
      have La0_h6 := La0_h2.ext Xh6
      refine mx_iconst dX8_refuse_5 ic_m1 ?_
      refine mx_iretK rfl dX8_refuse_6 ?_
      exact mx_iret rfl dX8_turns_23 H
    · have H := H.2 c5
      refine mx_iconst dX8_isIn_13 ic_1 ?_
      refine mx_goto (tgt := 18) dX8_isIn_14 rfl ?_
      refine mx_zretK rfl dX8_isIn_18 (Or.inr rfl) ?_
      refine mx_zretK rfl dX8_isElevator_13 (Or.inr rfl) ?_
      refine mx_if_ne (tgt := 24) dX8_turns_15 rfl (fun _ => ?_) (fun _ => absurd ‹_› (by decide))
      refine mx_iload_n dX8_turns_24 rfl rfl ?_
      refine mx_callS (y' := mi_X8_isDay) (vs := [iv x1]) (st := []) (al' := [some (iv x1)]) S_X8_isDay q2028 dX8_turns_25 rfl rfl (Nat.le_of_ble_eq_true rfl) (Nat.le_of_ble_eq_true rfl) ?_
      refine mx_iload_n dX8_isDay_0 rfl rfl ?_
      refine mx_i2l dX8_isDay_1 ?_
      refine mx_lconst dX8_isDay_2 lc_0 ?_
      refine mx_ldc2 q2031 dX8_isDay_3 ?_
      refine mx_callS (y' := mi_X8_isIn) (vs := [jv x1.toInt64, jv (0 : Int64), jv (519 : Int64)]) (st := []) (al' := [some (jv x1.toInt64), none, some (jv (0 : Int64)), none, some (jv (519 : Int64)), none]) S_X8_isIn q1996 dX8_isDay_6 rfl rfl (Nat.le_of_ble_eq_true rfl) (Nat.le_of_ble_eq_true rfl) ?_
      refine mx_lload_n dX8_isIn_0 rfl rfl ?_
      refine mx_lload_n dX8_isIn_1 rfl rfl ?_
      refine mx_lif_lt (tgt := 17) dX8_isIn_2 dX8_isIn_3 rfl (fun c7 => ?_) (fun c7 => ?_)
      · have H := H.1 c7
        refine mx_iconst dX8_isIn_17 ic_0 ?_
        refine mx_zretK rfl dX8_isIn_18 (Or.inl rfl) ?_
        refine mx_zretK rfl dX8_isDay_9 (Or.inl rfl) ?_
        refine mx_if_eq (tgt := 43) dX8_turns_28 rfl (fun _ => ?_) (fun _ => absurd ‹_› (by decide))
        refine mx_aload_n dX8_turns_43 rfl rfl ?_
        refine mx_iconst dX8_turns_44 ic_5 ?_
        refine mx_callV 8 (y' := mi_X8_refuse) (vs := [iv (5 : Int32)]) (st := []) (al' := [some (rv a0), some (iv (5 : Int32))]) cl_8 V_X8_refuse (Or.inl q1999) dX8_turns_45 rfl rfl (Nat.le_of_ble_eq_true rfl) (Nat.le_of_ble_eq_true rfl) (ly8_k La0_h2) ?_
        refine mx_aload_n dX8_refuse_0 rfl rfl ?_
        refine mx_iload_n dX8_refuse_1 rfl rfl ?_
        refine mx_putI 8 0 (ref := "PrairiePoolModel") cl_8 (Nat.le_of_ble_eq_true rfl) (Or.inl q1627) (Or.inl rfl) dX8_refuse_2 (Or.inl rfl) rfl (ly8_k La0_h2) ?_
        refine mx_nmI  (fun h8 eh8 Xh8 Kh8 Lh8 => ?_)
        have H := H h8 eh8 Xh8
        have Kh8 := Kh8.trans Kh2
        have Lh8 := Lh8.trans Lh2
        have La0_h8 := La0_h2.ext Xh8
        refine mx_iconst dX8_refuse_5 ic_m1 ?_
        refine mx_iretK rfl dX8_refuse_6 ?_
        exact mx_iret rfl dX8_turns_48 H
      · have H := H.2 c7
        refine mx_lload_n dX8_isIn_6 rfl rfl ?_
        refine mx_lload dX8_isIn_7 rfl ?_
        refine mx_lif_gt (tgt := 17) dX8_isIn_9 dX8_isIn_10 rfl (fun c9 => ?_) (fun c9 => ?_)
        · have H := H.1 c9
          refine mx_iconst dX8_isIn_17 ic_0 ?_
          refine mx_zretK rfl dX8_isIn_18 (Or.inl rfl) ?_
          refine mx_zretK rfl dX8_isDay_9 (Or.inl rfl) ?_
          refine mx_if_eq (tgt := 43) dX8_turns_28 rfl (fun _ => ?_) (fun _ => absurd ‹_› (by decide))
          refine mx_aload_n dX8_turns_43 rfl rfl ?_
          refine mx_iconst dX8_turns_44 ic_5 ?_
          refine mx_callV 8 (y' := mi_X8_refuse) (vs := [iv (5 : Int32)]) (st := []) (al' := [some (rv a0), some (iv (5 : Int32))]) cl_8 V_X8_refuse (Or.inl q1999) dX8_turns_45 rfl rfl (Nat.le_of_ble_eq_true rfl) (Nat.le_of_ble_eq_true rfl) (ly8_k La0_h2) ?_
          refine mx_aload_n dX8_refuse_0 rfl rfl ?_
          refine mx_iload_n dX8_refuse_1 rfl rfl ?_
          refine mx_putI 8 0 (ref := "PrairiePoolModel") cl_8 (Nat.le_of_ble_eq_true rfl) (Or.inl q1627) (Or.inl rfl) dX8_refuse_2 (Or.inl rfl) rfl (ly8_k La0_h2) ?_
          refine mx_nmI  (fun h10 eh10 Xh10 Kh10 Lh10 => ?_)
          have H := H h10 eh10 Xh10
          have Kh10 := Kh10.trans Kh2
          have Lh10 := Lh10.trans Lh2
          have La0_h10 := La0_h2.ext Xh10
          refine mx_iconst dX8_refuse_5 ic_m1 ?_
          refine mx_iretK rfl dX8_refuse_6 ?_
          exact mx_iret rfl dX8_turns_48 H
        · have H := H.2 c9
          refine mx_iconst dX8_isIn_13 ic_1 ?_
          refine mx_goto (tgt := 18) dX8_isIn_14 rfl ?_
          refine mx_zretK rfl dX8_isIn_18 (Or.inr rfl) ?_
          refine mx_zretK rfl dX8_isDay_9 (Or.inr rfl) ?_
          refine mx_if_eq (tgt := 43) dX8_turns_28 rfl (fun _ => absurd ‹_› (by decide)) (fun _ => ?_)
          refine mx_iload_n dX8_turns_31 rfl rfl ?_
          refine mx_i2l dX8_turns_32 ?_
          refine mx_lconst dX8_turns_33 lc_1 ?_
          refine mx_ldc2 q2352 dX8_turns_34 ?_
          refine mx_callS (y' := mi_X8_isIn) (vs := [jv x2.toInt64, jv (1 : Int64), jv (20 : Int64)]) (st := []) (al' := [some (jv x2.toInt64), none, some (jv (1 : Int64)), none, some (jv (20 : Int64)), none]) S_X8_isIn q1996 dX8_turns_37 rfl rfl (Nat.le_of_ble_eq_true rfl) (Nat.le_of_ble_eq_true rfl) ?_
          refine mx_lload_n dX8_isIn_0 rfl rfl ?_
          refine mx_lload_n dX8_isIn_1 rfl rfl ?_
          refine mx_lif_lt (tgt := 17) dX8_isIn_2 dX8_isIn_3 rfl (fun c11 => ?_) (fun c11 => ?_)
          · have H := H.1 c11
            refine mx_iconst dX8_isIn_17 ic_0 ?_
            refine mx_zretK rfl dX8_isIn_18 (Or.inl rfl) ?_
            refine mx_if_ne (tgt := 49) dX8_turns_40 rfl (fun _ => absurd ‹_› (by decide)) (fun _ => ?_)
            refine mx_aload_n dX8_turns_43 rfl rfl ?_
            refine mx_iconst dX8_turns_44 ic_5 ?_
            refine mx_callV 8 (y' := mi_X8_refuse) (vs := [iv (5 : Int32)]) (st := []) (al' := [some (rv a0), some (iv (5 : Int32))]) cl_8 V_X8_refuse (Or.inl q1999) dX8_turns_45 rfl rfl (Nat.le_of_ble_eq_true rfl) (Nat.le_of_ble_eq_true rfl) (ly8_k La0_h2) ?_
            refine mx_aload_n dX8_refuse_0 rfl rfl ?_
            refine mx_iload_n dX8_refuse_1 rfl rfl ?_
            refine mx_putI 8 0 (ref := "PrairiePoolModel") cl_8 (Nat.le_of_ble_eq_true rfl) (Or.inl q1627) (Or.inl rfl) dX8_refuse_2 (Or.inl rfl) rfl (ly8_k La0_h2) ?_
            refine mx_nmI  (fun h12 eh12 Xh12 Kh12 Lh12 => ?_)
            have H := H h12 eh12 Xh12
            have Kh12 := Kh12.trans Kh2
            have Lh12 := Lh12.trans Lh2
            have La0_h12 := La0_h2.ext Xh12
            refine mx_iconst dX8_refuse_5 ic_m1 ?_
            refine mx_iretK rfl dX8_refuse_6 ?_
            exact mx_iret rfl dX8_turns_48 H
          · have H := H.2 c11
            refine mx_lload_n dX8_isIn_6 rfl rfl ?_
            refine mx_lload dX8_isIn_7 rfl ?_
            refine mx_lif_gt (tgt := 17) dX8_isIn_9 dX8_isIn_10 rfl (fun c13 => ?_) (fun c13 => ?_)
            · have H := H.1 c13
              refine mx_iconst dX8_isIn_17 ic_0 ?_
              refine mx_zretK rfl dX8_isIn_18 (Or.inl rfl) ?_
              refine mx_if_ne (tgt := 49) dX8_turns_40 rfl (fun _ => absurd ‹_› (by decide)) (fun _ => ?_)
              refine mx_aload_n dX8_turns_43 rfl rfl ?_
              refine mx_iconst dX8_turns_44 ic_5 ?_
              refine mx_callV 8 (y' := mi_X8_refuse) (vs := [iv (5 : Int32)]) (st := []) (al' := [some (rv a0), some (iv (5 : Int32))]) cl_8 V_X8_refuse (Or.inl q1999) dX8_turns_45 rfl rfl (Nat.le_of_ble_eq_true rfl) (Nat.le_of_ble_eq_true rfl) (ly8_k La0_h2) ?_
              refine mx_aload_n dX8_refuse_0 rfl rfl ?_
              refine mx_iload_n dX8_refuse_1 rfl rfl ?_
              refine mx_putI 8 0 (ref := "PrairiePoolModel") cl_8 (Nat.le_of_ble_eq_true rfl) (Or.inl q1627) (Or.inl rfl) dX8_refuse_2 (Or.inl rfl) rfl (ly8_k La0_h2) ?_
              refine mx_nmI  (fun h14 eh14 Xh14 Kh14 Lh14 => ?_)
              have H := H h14 eh14 Xh14
              have Kh14 := Kh14.trans Kh2
              have Lh14 := Lh14.trans Lh2
              have La0_h14 := La0_h2.ext Xh14
              refine mx_iconst dX8_refuse_5 ic_m1 ?_
              refine mx_iretK rfl dX8_refuse_6 ?_
              exact mx_iret rfl dX8_turns_48 H
            · have H := H.2 c13
              refine mx_iconst dX8_isIn_13 ic_1 ?_
              refine mx_goto (tgt := 18) dX8_isIn_14 rfl ?_
              refine mx_zretK rfl dX8_isIn_18 (Or.inr rfl) ?_
              refine mx_if_ne (tgt := 49) dX8_turns_40 rfl (fun _ => ?_) (fun _ => absurd ‹_› (by decide))
              refine mx_aload_n dX8_turns_49 rfl rfl ?_
              refine mx_iload_n dX8_turns_50 rfl rfl ?_
              refine mx_callV 8 (y' := mi_X8_play) (vs := [iv x1]) (st := []) (al' := [some (rv a0), some (iv x1), none]) cl_8 V_X8_play (Or.inl q2119) dX8_turns_51 rfl rfl (Nat.le_of_ble_eq_true rfl) (Nat.le_of_ble_eq_true rfl) (ly8_k La0_h2) ?_
              refine ma_kv H (fun h15 Xh15 H => ?_) (fun x1 h1 X1 H => mt_out rfl H)
              have H := H Xh15
              have La0_h15 := La0_h2.ext Xh15
              refine mx_iconst dX8_turns_54 ic_0 ?_
              refine mx_istore (al' := [some (rv a0), some (iv x1), some (iv x2), some (iv x3), some (iv (0 : Int32)), none, none, none, none, none, none, none]) dX8_turns_55 (Nat.le_of_ble_eq_true rfl) rfl ?_
              exact mx_weak (al' := [some (rv a0), some (iv x1), some (iv x2), some (iv x3), some (iv (0 : Int32)), none, none, none, none, none, none, none]) ⟨rfl, ⟨rfl, ⟨rfl, ⟨rfl, ⟨rfl, trivial⟩⟩⟩⟩⟩ H
theorem v_X8_turns_57 {G : ma_G} {d : Nat} {a0 : Nat} {x1 : Int32} {x2 : Int32} {x3 : Int32} {x4 : Int32} {h : ah_T} {Q : Option ma_V → ah_T → Prop} {E : Nat → ah_T → Prop} (La0_h : LY8 h a0) (H : ((8 : Int32) ≤ x4 → MX G mi_X8_turns (d + 2) 81 [some (rv a0), some (iv x1), some (iv x2), some (iv x3), some (iv (0 : Int32)), none, none, none, none, none, none, none] [] h Q E) ∧ (¬ (8 : Int32) ≤ x4 → vp_in x4 8 ∧ ∀ h3 : ah_T, h3 = ah_wI h (a0 + 77) x4.toNatClampNeg (0 : Int32) → ah_ext h h3 → MX G mi_X8_turns (d + 2) 57 [some (rv a0), some (iv x1), some (iv x2), some (iv x3), some (iv (x4 + (1 : Int32))), none, none, none, none, none, none, none] [] h3 Q E)) : MX G mi_X8_turns (d + 2) 57 [some (rv a0), some (iv x1), some (iv x2), some (iv x3), some (iv x4), none, none, none, none, none, none, none] [] h Q E := by
  refine mx_iload dX8_turns_57 rfl ?_
  refine mx_bipush dX8_turns_59 ib_8 ?_
  refine mx_icmp_ge (tgt := 78) dX8_turns_61 rfl (fun c1 => ?_) (fun c1 => ?_)
  · have H := H.1 c1
    refine mx_iconst dX8_turns_78 ic_0 ?_
    refine mx_istore (al' := [some (rv a0), some (iv x1), some (iv x2), some (iv x3), some (iv (0 : Int32)), none, none, none, none, none, none, none]) dX8_turns_79 (Nat.le_of_ble_eq_true rfl) rfl ?_
    exact mx_weak (al' := [some (rv a0), some (iv x1), some (iv x2), some (iv x3), some (iv (0 : Int32)), none, none, none, none, none, none, none]) ⟨rfl, ⟨rfl, ⟨rfl, ⟨rfl, ⟨rfl, trivial⟩⟩⟩⟩⟩ H
  · have H := H.2 c1
    refine mx_aload_n dX8_turns_64 rfl rfl ?_
    refine mx_get 8 106 (ref := "PrairiePoolModel") cl_8 (Nat.le_of_ble_eq_true rfl) (Or.inl q1733) (Or.inl rfl) dX8_turns_65 (fv_8_106 _ _) (ly8_k La0_h) ?_
    refine mx_tr (ly8_R_0_106 La0_h) ?_
    refine mx_iload dX8_turns_68 rfl ?_
    refine mx_iconst dX8_turns_70 ic_0 ?_
    obtain ⟨k2, H⟩ := H
    refine my_iast dX8_turns_71 rfl (ly8_A_77 La0_h k2) ?_
    refine mx_nmI  (fun h3 eh3 Xh3 Kh3 Lh3 => ?_)
    have H := H h3 eh3 Xh3
    have La0_h3 := La0_h.ext Xh3
    refine mx_iinc (al' := [some (rv a0), some (iv x1), some (iv x2), some (iv x3), some (iv (x4 + (1 : Int32))), none, none, none, none, none, none, none]) dX8_turns_72 rfl ic_1 rfl ?_
    refine mx_goto (tgt := 57) dX8_turns_75 rfl ?_
    exact mx_weak (al' := [some (rv a0), some (iv x1), some (iv x2), some (iv x3), some (iv (x4 + (1 : Int32))), none, none, none, none, none, none, none]) ⟨rfl, ⟨rfl, ⟨rfl, ⟨rfl, ⟨rfl, trivial⟩⟩⟩⟩⟩ H
theorem v_X8_turns_81 {G : ma_G} {d : Nat} {a0 : Nat} {x1 : Int32} {x2 : Int32} {x3 : Int32} {x4 : Int32} {h : ah_T} {Q : Option ma_V → ah_T → Prop} {E : Nat → ah_T → Prop} (La0_h : LY8 h a0) (H : (x2 ≤ x4 → vp_in x3 8 ∧ Q (some (iv (ah_I h (a0 + 77) x3.toNatClampNeg))) h) ∧ (¬ x2 ≤ x4 → MX G mi_X8_turns (d + 2) 96 [some (rv a0), some (iv x1), some (iv x2), some (iv x3), some (iv x4), some (iv (-1 : Int32)), some (jv (0 : Int64)), none, some (iv (0 : Int32)), none, none, none] [] h Q E)) : MX G mi_X8_turns (d + 2) 81 [some (rv a0), some (iv x1), some (iv x2), some (iv x3), some (iv x4), none, none, none, none, none, none, none] [] h Q E := by
  refine mx_iload dX8_turns_81 rfl ?_
  refine mx_iload_n dX8_turns_83 rfl rfl ?_
  refine mx_icmp_ge (tgt := 203) dX8_turns_84 rfl (fun c1 => ?_) (fun c1 => ?_)
  · have H := H.1 c1
    refine mx_aload_n dX8_turns_203 rfl rfl ?_
    refine mx_get 8 106 (ref := "PrairiePoolModel") cl_8 (Nat.le_of_ble_eq_true rfl) (Or.inl q1733) (Or.inl rfl) dX8_turns_204 (fv_8_106 _ _) (ly8_k La0_h) ?_
    refine mx_tr (ly8_R_0_106 La0_h) ?_
    refine mx_iload_n dX8_turns_207 rfl rfl ?_
    obtain ⟨k2, H⟩ := H
    refine my_iald dX8_turns_208 rfl (ly8_A_77 La0_h k2) ?_
    exact mx_iret rfl dX8_turns_209 H
  · have H := H.2 c1
    refine mx_iconst dX8_turns_87 ic_m1 ?_
    refine mx_istore (al' := [some (rv a0), some (iv x1), some (iv x2), some (iv x3), some (iv x4), some (iv (-1 : Int32)), none, none, none, none, none, none]) dX8_turns_88 (Nat.le_of_ble_eq_true rfl) rfl ?_
    refine mx_lconst dX8_turns_90 lc_0 ?_
    refine mx_lstore (al' := [some (rv a0), some (iv x1), some (iv x2), some (iv x3), some (iv x4), some (iv (-1 : Int32)), some (jv (0 : Int64)), none, none, none, none, none]) dX8_turns_91 (Nat.le_of_ble_eq_true rfl) rfl ?_
    refine mx_iconst dX8_turns_93 ic_0 ?_
    refine mx_istore (al' := [some (rv a0), some (iv x1), some (iv x2), some (iv x3), some (iv x4), some (iv (-1 : Int32)), some (jv (0 : Int64)), none, some (iv (0 : Int32)), none, none, none]) dX8_turns_94 (Nat.le_of_ble_eq_true rfl) rfl ?_
    exact mx_weak (al' := [some (rv a0), some (iv x1), some (iv x2), some (iv x3), some (iv x4), some (iv (-1 : Int32)), some (jv (0 : Int64)), none, some (iv (0 : Int32)), none, none, none]) ⟨rfl, ⟨rfl, ⟨rfl, ⟨rfl, ⟨rfl, ⟨rfl, ⟨rfl, ⟨rfl, trivial⟩⟩⟩⟩⟩⟩⟩⟩ H
theorem v_X8_turns_96 {G : ma_G} {d : Nat} {a0 : Nat} {x1 : Int32} {x2 : Int32} {x3 : Int32} {x4 : Int32} {x5 : Int32} {x6 : Int64} {x8 : Int32} {h : ah_T} {Q : Option ma_V → ah_T → Prop} {E : Nat → ah_T → Prop} (La0_h : LY8 h a0) (H : ((ah_I h a0 6) ≤ x8 → (0 ≤ x5 → vp_in x5 8 ∧ ∀ h4 : ah_T, h4 = ah_wI h (a0 + 77) x5.toNatClampNeg ((ah_I h (a0 + 77) x5.toNatClampNeg) + (1 : Int32)) → ah_ext h h4 → MX G mi_X8_turns (d + 2) 81 [some (rv a0), some (iv x1), some (iv x2), some (iv x3), some (iv (x4 + (1 : Int32))), none, none, none, none, none, none, none] [] h4 Q E) ∧ (¬ 0 ≤ x5 → vp_in x3 8 ∧ Q (some (iv (ah_I h (a0 + 77) x3.toNatClampNeg))) h)) ∧ (¬ (ah_I h a0 6) ≤ x8 → MX G mi_X8_inElevator (d + 1) 0 [some (rv a0), some (iv x8), none, none] [] h (Qi fun r7 h6 => ah_ext h h6 → vp_in x8 8 ∧ (¬ (iMax (0 : Int32) (r7 - ((1000 : Int32) * (ah_I h6 (a0 + 77) x8.toNatClampNeg)))) = 0 → MX G mi_X8_turnOf (d + 1) 0 [some (rv a0), some (iv x8), some (iv x1), some (iv (iMax (0 : Int32) (r7 - ((1000 : Int32) * (ah_I h6 (a0 + 77) x8.toNatClampNeg)))))] [] h6 (Ql fun r11 h10 => ah_ext h6 h10 → (x5 < 0 → MX G mi_X8_turns (d + 2) 96 [some (rv a0), some (iv x1), some (iv x2), some (iv x3), some (iv x4), some (iv x8), some (jv r11), none, some (iv (x8 + (1 : Int32))), none, none, none] [] h10 Q E) ∧ (¬ x5 < 0 → (x6 < r11 → MX G mi_X8_turns (d + 2) 96 [some (rv a0), some (iv x1), some (iv x2), some (iv x3), some (iv x4), some (iv x8), some (jv r11), none, some (iv (x8 + (1 : Int32))), none, none, none] [] h10 Q E) ∧ (¬ x6 < r11 → MX G mi_X8_turns (d + 2) 96 [some (rv a0), some (iv x1), some (iv x2), some (iv x3), some (iv x4), some (iv x5), some (jv x6), none, some (iv (x8 + (1 : Int32))), none, none, none] [] h10 Q E))) E) ∧ ((iMax (0 : Int32) (r7 - ((1000 : Int32) * (ah_I h6 (a0 + 77) x8.toNatClampNeg)))) = 0 → MX G mi_X8_turns (d + 2) 96 [some (rv a0), some (iv x1), some (iv x2), some (iv x3), some (iv x4), some (iv x5), some (jv x6), none, some (iv (x8 + (1 : Int32))), none, none, none] [] h6 Q E)) E)) : MX G mi_X8_turns (d + 2) 96 [some (rv a0), some (iv x1), some (iv x2), some (iv x3), some (iv x4), some (iv x5), some (jv x6), none, some (iv x8), none, none, none] [] h Q E := by
  refine mx_iload dX8_turns_96 rfl ?_
  refine mx_aload_n dX8_turns_98 rfl rfl ?_
  refine mx_get 8 6 (ref := "PrairiePoolModel") cl_8 (Nat.le_of_ble_eq_true rfl) (Or.inl q1633) (Or.inl rfl) dX8_turns_99 (fv_8_6 _ _) (ly8_k La0_h) ?_
  refine mx_icmp_ge (tgt := 178) dX8_turns_102 rfl (fun c1 => ?_) (fun c1 => ?_)
  · have H := H.1 c1
    refine mx_iload dX8_turns_178 rfl ?_
    refine mx_if_ge (tgt := 186) dX8_turns_180 rfl (fun c2 => ?_) (fun c2 => ?_)
    · have H := H.1 c2
      refine mx_aload_n dX8_turns_186 rfl rfl ?_
      refine mx_get 8 106 (ref := "PrairiePoolModel") cl_8 (Nat.le_of_ble_eq_true rfl) (Or.inl q1733) (Or.inl rfl) dX8_turns_187 (fv_8_106 _ _) (ly8_k La0_h) ?_
      refine mx_tr (ly8_R_0_106 La0_h) ?_
      refine mx_iload dX8_turns_190 rfl ?_
      refine mx_dup2_ir dX8_turns_192 ?_
      obtain ⟨k3, H⟩ := H
      refine my_iald dX8_turns_193 rfl (ly8_A_77 La0_h k3) ?_
      refine mx_iconst dX8_turns_194 ic_1 ?_
      refine mx_iadd dX8_turns_195 ?_
      refine my_iast dX8_turns_196 rfl (ly8_A_77 La0_h k3) ?_
      refine mx_nmI  (fun h4 eh4 Xh4 Kh4 Lh4 => ?_)
      have H := H h4 eh4 Xh4
      have La0_h4 := La0_h.ext Xh4
      refine mx_iinc (al' := [some (rv a0), some (iv x1), some (iv x2), some (iv x3), some (iv (x4 + (1 : Int32))), some (iv x5), some (jv x6), none, some (iv x8), none, none, none]) dX8_turns_197 rfl ic_1 rfl ?_
      refine mx_goto (tgt := 81) dX8_turns_200 rfl ?_
      exact mx_weak (al' := [some (rv a0), some (iv x1), some (iv x2), some (iv x3), some (iv (x4 + (1 : Int32))), none, none, none, none, none, none, none]) ⟨rfl, ⟨rfl, ⟨rfl, ⟨rfl, ⟨rfl, trivial⟩⟩⟩⟩⟩ H
    · have H := H.2 c2
      refine mx_goto (tgt := 203) dX8_turns_183 rfl ?_
      refine mx_aload_n dX8_turns_203 rfl rfl ?_
      refine mx_get 8 106 (ref := "PrairiePoolModel") cl_8 (Nat.le_of_ble_eq_true rfl) (Or.inl q1733) (Or.inl rfl) dX8_turns_204 (fv_8_106 _ _) (ly8_k La0_h) ?_
      refine mx_tr (ly8_R_0_106 La0_h) ?_
      refine mx_iload_n dX8_turns_207 rfl rfl ?_
      obtain ⟨k5, H⟩ := H
      refine my_iald dX8_turns_208 rfl (ly8_A_77 La0_h k5) ?_
      exact mx_iret rfl dX8_turns_209 H
  · have H := H.2 c1
    refine mx_iconst dX8_turns_105 ic_0 ?_
    refine mx_aload_n dX8_turns_106 rfl rfl ?_
    refine mx_iload dX8_turns_107 rfl ?_
    refine mx_callV 8 (y' := mi_X8_inElevator) (vs := [iv x8]) (st := [iv (0 : Int32)]) (al' := [some (rv a0), some (iv x8), none, none]) cl_8 V_X8_inElevator (Or.inl q2127) dX8_turns_109 rfl rfl (Nat.le_of_ble_eq_true rfl) (Nat.le_of_ble_eq_true rfl) (ly8_k La0_h) ?_
    refine ma_ki H (fun r7 h6 Xh6 H => ?_) (fun x1 h1 X1 H => mt_out rfl H)
    have H := H Xh6
    have La0_h6 := La0_h.ext Xh6
    refine mx_sipush dX8_turns_112 is_1000 ?_
    refine mx_aload_n dX8_turns_115 rfl rfl ?_
    refine mx_get 8 106 (ref := "PrairiePoolModel") cl_8 (Nat.le_of_ble_eq_true rfl) (Or.inl q1733) (Or.inl rfl) dX8_turns_116 (fv_8_106 _ _) (ly8_k La0_h6) ?_
    refine mx_tr (ly8_R_0_106 La0_h6) ?_
    refine mx_iload dX8_turns_119 rfl ?_
    obtain ⟨k8, H⟩ := H
    refine my_iald dX8_turns_121 rfl (ly8_A_77 La0_h6 k8) ?_
    refine mx_imul dX8_turns_122 ?_
    refine mx_isub dX8_turns_123 ?_
    refine mx_callS (y' := mi_J8_max_2) (vs := [iv (0 : Int32), iv (r7 - ((1000 : Int32) * (ah_I h6 (a0 + 77) x8.toNatClampNeg)))]) (st := []) (al' := [some (iv (0 : Int32)), some (iv (r7 - ((1000 : Int32) * (ah_I h6 (a0 + 77) x8.toNatClampNeg))))]) S_J8_max_2 q2134 dX8_turns_124 rfl rfl (Nat.le_of_ble_eq_true rfl) (Nat.le_of_ble_eq_true rfl) ?_
    refine pv_J8_max_2 ?_
    refine mx_istore (al' := [some (rv a0), some (iv x1), some (iv x2), some (iv x3), some (iv x4), some (iv x5), some (jv x6), none, some (iv x8), some (iv (iMax (0 : Int32) (r7 - ((1000 : Int32) * (ah_I h6 (a0 + 77) x8.toNatClampNeg))))), none, none]) dX8_turns_127 (Nat.le_of_ble_eq_true rfl) rfl ?_
    refine mx_iload dX8_turns_129 rfl ?_
    refine mx_if_ne (tgt := 137) dX8_turns_131 rfl (fun c9 => ?_) (fun c9 => ?_)
    · have H := H.1 c9
      refine mx_aload_n dX8_turns_137 rfl rfl ?_
      refine mx_iload dX8_turns_138 rfl ?_
      refine mx_iload_n dX8_turns_140 rfl rfl ?_
      refine mx_iload dX8_turns_141 rfl ?_
      refine mx_callV 8 (y' := mi_X8_turnOf) (vs := [iv x8, iv x1, iv (iMax (0 : Int32) (r7 - ((1000 : Int32) * (ah_I h6 (a0 + 77) x8.toNatClampNeg))))]) (st := []) (al' := [some (rv a0), some (iv x8), some (iv x1), some (iv (iMax (0 : Int32) (r7 - ((1000 : Int32) * (ah_I h6 (a0 + 77) x8.toNatClampNeg)))))]) cl_8 V_X8_turnOf (Or.inl q2353) dX8_turns_143 rfl rfl (Nat.le_of_ble_eq_true rfl) (Nat.le_of_ble_eq_true rfl) (ly8_k La0_h6) ?_
      refine ma_kl H (fun r11 h10 Xh10 H => ?_) (fun x1 h1 X1 H => mt_out rfl H)
      have H := H Xh10
      have La0_h10 := La0_h6.ext Xh10
      refine mx_lstore (al' := [some (rv a0), some (iv x1), some (iv x2), some (iv x3), some (iv x4), some (iv x5), some (jv x6), none, some (iv x8), some (iv (iMax (0 : Int32) (r7 - ((1000 : Int32) * (ah_I h6 (a0 + 77) x8.toNatClampNeg))))), some (jv r11), none]) dX8_turns_146 (Nat.le_of_ble_eq_true rfl) rfl ?_
      refine mx_iload dX8_turns_148 rfl ?_
      refine mx_if_lt (tgt := 164) dX8_turns_150 rfl (fun c12 => ?_) (fun c12 => ?_)
      · have H := H.1 c12
        refine mx_iload dX8_turns_164 rfl ?_
        refine mx_istore (al' := [some (rv a0), some (iv x1), some (iv x2), some (iv x3), some (iv x4), some (iv x8), some (jv x6), none, some (iv x8), some (iv (iMax (0 : Int32) (r7 - ((1000 : Int32) * (ah_I h6 (a0 + 77) x8.toNatClampNeg))))), some (jv r11), none]) dX8_turns_166 (Nat.le_of_ble_eq_true rfl) rfl ?_
        refine mx_lload dX8_turns_168 rfl ?_
        refine mx_lstore (al' := [some (rv a0), some (iv x1), some (iv x2), some (iv x3), some (iv x4), some (iv x8), some (jv r11), none, some (iv x8), some (iv (iMax (0 : Int32) (r7 - ((1000 : Int32) * (ah_I h6 (a0 + 77) x8.toNatClampNeg))))), some (jv r11), none]) dX8_turns_170 (Nat.le_of_ble_eq_true rfl) rfl ?_
        refine mx_iinc (al' := [some (rv a0), some (iv x1), some (iv x2), some (iv x3), some (iv x4), some (iv x8), some (jv r11), none, some (iv (x8 + (1 : Int32))), some (iv (iMax (0 : Int32) (r7 - ((1000 : Int32) * (ah_I h6 (a0 + 77) x8.toNatClampNeg))))), some (jv r11), none]) dX8_turns_172 rfl ic_1 rfl ?_
        refine mx_goto (tgt := 96) dX8_turns_175 rfl ?_
        exact mx_weak (al' := [some (rv a0), some (iv x1), some (iv x2), some (iv x3), some (iv x4), some (iv x8), some (jv r11), none, some (iv (x8 + (1 : Int32))), none, none, none]) ⟨rfl, ⟨rfl, ⟨rfl, ⟨rfl, ⟨rfl, ⟨rfl, ⟨rfl, ⟨rfl, trivial⟩⟩⟩⟩⟩⟩⟩⟩ H
      · have H := H.2 c12
        refine mx_lload dX8_turns_153 rfl ?_
        refine mx_lload dX8_turns_155 rfl ?_
        refine mx_lif_gt (tgt := 164) dX8_turns_157 dX8_turns_158 rfl (fun c13 => ?_) (fun c13 => ?_)
        · have H := H.1 c13
          refine mx_iload dX8_turns_164 rfl ?_
          refine mx_istore (al' := [some (rv a0), some (iv x1), some (iv x2), some (iv x3), some (iv x4), some (iv x8), some (jv x6), none, some (iv x8), some (iv (iMax (0 : Int32) (r7 - ((1000 : Int32) * (ah_I h6 (a0 + 77) x8.toNatClampNeg))))), some (jv r11), none]) dX8_turns_166 (Nat.le_of_ble_eq_true rfl) rfl ?_
          refine mx_lload dX8_turns_168 rfl ?_
          refine mx_lstore (al' := [some (rv a0), some (iv x1), some (iv x2), some (iv x3), some (iv x4), some (iv x8), some (jv r11), none, some (iv x8), some (iv (iMax (0 : Int32) (r7 - ((1000 : Int32) * (ah_I h6 (a0 + 77) x8.toNatClampNeg))))), some (jv r11), none]) dX8_turns_170 (Nat.le_of_ble_eq_true rfl) rfl ?_
          refine mx_iinc (al' := [some (rv a0), some (iv x1), some (iv x2), some (iv x3), some (iv x4), some (iv x8), some (jv r11), none, some (iv (x8 + (1 : Int32))), some (iv (iMax (0 : Int32) (r7 - ((1000 : Int32) * (ah_I h6 (a0 + 77) x8.toNatClampNeg))))), some (jv r11), none]) dX8_turns_172 rfl ic_1 rfl ?_
          refine mx_goto (tgt := 96) dX8_turns_175 rfl ?_
          exact mx_weak (al' := [some (rv a0), some (iv x1), some (iv x2), some (iv x3), some (iv x4), some (iv x8), some (jv r11), none, some (iv (x8 + (1 : Int32))), none, none, none]) ⟨rfl, ⟨rfl, ⟨rfl, ⟨rfl, ⟨rfl, ⟨rfl, ⟨rfl, ⟨rfl, trivial⟩⟩⟩⟩⟩⟩⟩⟩ H
        · have H := H.2 c13
          refine mx_goto (tgt := 172) dX8_turns_161 rfl ?_
          refine mx_iinc (al' := [some (rv a0), some (iv x1), some (iv x2), some (iv x3), some (iv x4), some (iv x5), some (jv x6), none, some (iv (x8 + (1 : Int32))), some (iv (iMax (0 : Int32) (r7 - ((1000 : Int32) * (ah_I h6 (a0 + 77) x8.toNatClampNeg))))), some (jv r11), none]) dX8_turns_172 rfl ic_1 rfl ?_
          refine mx_goto (tgt := 96) dX8_turns_175 rfl ?_
          exact mx_weak (al' := [some (rv a0), some (iv x1), some (iv x2), some (iv x3), some (iv x4), some (iv x5), some (jv x6), none, some (iv (x8 + (1 : Int32))), none, none, none]) ⟨rfl, ⟨rfl, ⟨rfl, ⟨rfl, ⟨rfl, ⟨rfl, ⟨rfl, ⟨rfl, trivial⟩⟩⟩⟩⟩⟩⟩⟩ H
    · have H := H.2 c9
      refine mx_goto (tgt := 172) dX8_turns_134 rfl ?_
      refine mx_iinc (al' := [some (rv a0), some (iv x1), some (iv x2), some (iv x3), some (iv x4), some (iv x5), some (jv x6), none, some (iv (x8 + (1 : Int32))), some (iv (iMax (0 : Int32) (r7 - ((1000 : Int32) * (ah_I h6 (a0 + 77) x8.toNatClampNeg))))), none, none]) dX8_turns_172 rfl ic_1 rfl ?_
      refine mx_goto (tgt := 96) dX8_turns_175 rfl ?_
      exact mx_weak (al' := [some (rv a0), some (iv x1), some (iv x2), some (iv x3), some (iv x4), some (iv x5), some (jv x6), none, some (iv (x8 + (1 : Int32))), none, none, none]) ⟨rfl, ⟨rfl, ⟨rfl, ⟨rfl, ⟨rfl, ⟨rfl, ⟨rfl, ⟨rfl, trivial⟩⟩⟩⟩⟩⟩⟩⟩ H
theorem dX8_turnOf_0 : decode mi_X8_turnOf.2.1 0 = .ok (.aload_n 0, 1) := by decide +kernel
theorem dX8_turnOf_1 : decode mi_X8_turnOf.2.1 1 = .ok (.invokevirtual 344, 3) := by decide +kernel
theorem dX8_turnOf_4 : decode mi_X8_turnOf.2.1 4 = .ok (.aload_n 0, 1) := by decide +kernel
theorem dX8_turnOf_5 : decode mi_X8_turnOf.2.1 5 = .ok (.getfield 151, 3) := by decide +kernel
theorem dX8_turnOf_8 : decode mi_X8_turnOf.2.1 8 = .ok (.iconst 2, 1) := by decide +kernel
theorem dX8_turnOf_9 : decode mi_X8_turnOf.2.1 9 = .ok (.iload_n 2, 1) := by decide +kernel
theorem dX8_turnOf_10 : decode mi_X8_turnOf.2.1 10 = .ok (.i2l, 1) := by decide +kernel
theorem dX8_turnOf_11 : decode mi_X8_turnOf.2.1 11 = .ok (.lastore, 1) := by decide +kernel
theorem dX8_turnOf_12 : decode mi_X8_turnOf.2.1 12 = .ok (.aload_n 0, 1) := by decide +kernel
theorem dX8_turnOf_13 : decode mi_X8_turnOf.2.1 13 = .ok (.getfield 151, 3) := by decide +kernel
theorem dX8_turnOf_16 : decode mi_X8_turnOf.2.1 16 = .ok (.iconst 3, 1) := by decide +kernel
theorem dX8_turnOf_17 : decode mi_X8_turnOf.2.1 17 = .ok (.iload_n 2, 1) := by decide +kernel
theorem dX8_turnOf_18 : decode mi_X8_turnOf.2.1 18 = .ok (.bipush 52, 2) := by decide +kernel
theorem dX8_turnOf_20 : decode mi_X8_turnOf.2.1 20 = .ok (.idiv, 1) := by decide +kernel
theorem dX8_turnOf_21 : decode mi_X8_turnOf.2.1 21 = .ok (.i2l, 1) := by decide +kernel
theorem dX8_turnOf_22 : decode mi_X8_turnOf.2.1 22 = .ok (.lastore, 1) := by decide +kernel
theorem dX8_turnOf_23 : decode mi_X8_turnOf.2.1 23 = .ok (.aload_n 0, 1) := by decide +kernel
theorem dX8_turnOf_24 : decode mi_X8_turnOf.2.1 24 = .ok (.getfield 151, 3) := by decide +kernel
theorem dX8_turnOf_27 : decode mi_X8_turnOf.2.1 27 = .ok (.bipush 7, 2) := by decide +kernel
theorem dX8_turnOf_29 : decode mi_X8_turnOf.2.1 29 = .ok (.aload_n 0, 1) := by decide +kernel
theorem dX8_turnOf_30 : decode mi_X8_turnOf.2.1 30 = .ok (.getfield 29, 3) := by decide +kernel
theorem dX8_turnOf_33 : decode mi_X8_turnOf.2.1 33 = .ok (.iload_n 1, 1) := by decide +kernel
theorem dX8_turnOf_34 : decode mi_X8_turnOf.2.1 34 = .ok (.iaload, 1) := by decide +kernel
theorem dX8_turnOf_35 : decode mi_X8_turnOf.2.1 35 = .ok (.i2l, 1) := by decide +kernel
theorem dX8_turnOf_36 : decode mi_X8_turnOf.2.1 36 = .ok (.lastore, 1) := by decide +kernel
theorem dX8_turnOf_37 : decode mi_X8_turnOf.2.1 37 = .ok (.aload_n 0, 1) := by decide +kernel
theorem dX8_turnOf_38 : decode mi_X8_turnOf.2.1 38 = .ok (.getfield 151, 3) := by decide +kernel
theorem dX8_turnOf_41 : decode mi_X8_turnOf.2.1 41 = .ok (.bipush 8, 2) := by decide +kernel
theorem dX8_turnOf_43 : decode mi_X8_turnOf.2.1 43 = .ok (.aload_n 0, 1) := by decide +kernel
theorem dX8_turnOf_44 : decode mi_X8_turnOf.2.1 44 = .ok (.getfield 254, 3) := by decide +kernel
theorem dX8_turnOf_47 : decode mi_X8_turnOf.2.1 47 = .ok (.iload_n 1, 1) := by decide +kernel
theorem dX8_turnOf_48 : decode mi_X8_turnOf.2.1 48 = .ok (.iaload, 1) := by decide +kernel
theorem dX8_turnOf_49 : decode mi_X8_turnOf.2.1 49 = .ok (.i2l, 1) := by decide +kernel
theorem dX8_turnOf_50 : decode mi_X8_turnOf.2.1 50 = .ok (.lastore, 1) := by decide +kernel
theorem dX8_turnOf_51 : decode mi_X8_turnOf.2.1 51 = .ok (.aload_n 0, 1) := by decide +kernel
theorem dX8_turnOf_52 : decode mi_X8_turnOf.2.1 52 = .ok (.getfield 151, 3) := by decide +kernel
theorem dX8_turnOf_55 : decode mi_X8_turnOf.2.1 55 = .ok (.bipush 9, 2) := by decide +kernel
theorem dX8_turnOf_57 : decode mi_X8_turnOf.2.1 57 = .ok (.iload_n 3, 1) := by decide +kernel
theorem dX8_turnOf_58 : decode mi_X8_turnOf.2.1 58 = .ok (.i2l, 1) := by decide +kernel
theorem dX8_turnOf_59 : decode mi_X8_turnOf.2.1 59 = .ok (.lastore, 1) := by decide +kernel
theorem dX8_turnOf_60 : decode mi_X8_turnOf.2.1 60 = .ok (.aload_n 0, 1) := by decide +kernel
theorem dX8_turnOf_61 : decode mi_X8_turnOf.2.1 61 = .ok (.bipush 116, 2) := by decide +kernel
theorem dX8_turnOf_63 : decode mi_X8_turnOf.2.1 63 = .ok (.bipush 117, 2) := by decide +kernel
theorem dX8_turnOf_65 : decode mi_X8_turnOf.2.1 65 = .ok (.bipush 114, 2) := by decide +kernel
theorem dX8_turnOf_67 : decode mi_X8_turnOf.2.1 67 = .ok (.bipush 110, 2) := by decide +kernel
theorem dX8_turnOf_69 : decode mi_X8_turnOf.2.1 69 = .ok (.iconst 0, 1) := by decide +kernel
theorem dX8_turnOf_70 : decode mi_X8_turnOf.2.1 70 = .ok (.iconst 0, 1) := by decide +kernel
theorem dX8_turnOf_71 : decode mi_X8_turnOf.2.1 71 = .ok (.invokestatic 350, 3) := by decide +kernel
theorem dX8_turnOf_74 : decode mi_X8_turnOf.2.1 74 = .ok (.iload_n 2, 1) := by decide +kernel
theorem dX8_turnOf_75 : decode mi_X8_turnOf.2.1 75 = .ok (.lconst 0, 1) := by decide +kernel
theorem dX8_turnOf_76 : decode mi_X8_turnOf.2.1 76 = .ok (.invokevirtual 354, 3) := by decide +kernel
theorem dX8_turnOf_79 : decode mi_X8_turnOf.2.1 79 = .ok (.ldc2_w 358, 3) := by decide +kernel
theorem dX8_turnOf_82 : decode mi_X8_turnOf.2.1 82 = .ok (.ldc2_w 304, 3) := by decide +kernel
theorem dX8_turnOf_85 : decode mi_X8_turnOf.2.1 85 = .ok (.invokestatic 360, 3) := by decide +kernel
theorem dX8_turnOf_88 : decode mi_X8_turnOf.2.1 88 = .ok (.lreturn, 1) := by decide +kernel
theorem v_X8_turnOf {G : ma_G} {d : Nat} {a0 : Nat} {x1 : Int32} {x2 : Int32} {x3 : Int32} {h : ah_T} {Q : Option ma_V → ah_T → Prop} {E : Nat → ah_T → Prop} (La0_h : LY8 h a0) (H : MX G mi_X8_letNothing d 0 [some (rv a0), none] [] h (Qv fun h1 => ah_ext h h1 → ∀ h3 : ah_T, h3 = ah_wJ h1 (a0 + 45) 2 x2.toInt64 → ah_ext h1 h3 → ∀ h4 : ah_T, h4 = ah_wJ h3 (a0 + 45) 3 (x2 / (52 : Int32)).toInt64 → ah_ext h3 h4 → vp_in x1 8 ∧ ∀ h6 : ah_T, h6 = ah_wJ h4 (a0 + 45) 7 (ah_I h1 (a0 + 7) x1.toNatClampNeg).toInt64 → ah_ext h4 h6 → ∀ h7 : ah_T, h7 = ah_wJ h6 (a0 + 45) 8 (ah_I h1 (a0 + 77) x1.toNatClampNeg).toInt64 → ah_ext h6 h7 → ∀ h8 : ah_T, h8 = ah_wJ h7 (a0 + 45) 9 x3.toInt64 → ah_ext h7 h8 → MX G mi_X8_told d 0 [some (rv a0), some (jv (677454 : Int64)), none, some (iv x2), some (jv (0 : Int64)), none, none, none, none] [] h8 (Ql fun r10 h9 => ah_ext h8 h9 → Q (some (jv (jCut r10 (-1000000 : Int64) (1000000 : Int64)))) h9) E) E) : MX G mi_X8_turnOf (d + 1) 0 [some (rv a0), some (iv x1), some (iv x2), some (iv x3)] [] h Q E := by
  refine mx_aload_n dX8_turnOf_0 rfl rfl ?_
  refine mx_callV 8 (y' := mi_X8_letNothing) (vs := []) (st := []) (al' := [some (rv a0), none]) cl_8 V_X8_letNothing (Or.inl q2067) dX8_turnOf_1 rfl rfl (Nat.le_of_ble_eq_true rfl) (Nat.le_of_ble_eq_true rfl) (ly8_k La0_h) ?_
  refine ma_kv H (fun h1 Xh1 H => ?_) (fun x1 h1 X1 H => mt_out rfl H)
  have H := H Xh1
  have La0_h1 := La0_h.ext Xh1
  refine mx_aload_n dX8_turnOf_4 rfl rfl ?_
  refine mx_get 8 68 (ref := "PrairiePoolModel") cl_8 (Nat.le_of_ble_eq_true rfl) (Or.inl q1695) (Or.inl rfl) dX8_turnOf_5 (fv_8_68 _ _) (ly8_k La0_h1) ?_
  refine mx_tr (ly8_R_0_68 La0_h1) ?_
  refine mx_iconst dX8_turnOf_8 ic_2 ?_
  refine mx_iload_n dX8_turnOf_9 rfl rfl ?_
  refine mx_i2l dX8_turnOf_10 ?_
  refine my_last dX8_turnOf_11 cn_2 (ly8_A_45 La0_h1 (vp_c (by decide))) ?_
  refine mx_nmJ  (fun h3 eh3 Xh3 Kh3 Lh3 => ?_)
  have H := H h3 eh3 Xh3
  have La0_h3 := La0_h1.ext Xh3
  refine mx_aload_n dX8_turnOf_12 rfl rfl ?_
  refine mx_get 8 68 (ref := "PrairiePoolModel") cl_8 (Nat.le_of_ble_eq_true rfl) (Or.inl q1695) (Or.inl rfl) dX8_turnOf_13 (fv_8_68 _ _) (ly8_k La0_h3) ?_
  refine mx_tr (ly8_R_0_68 La0_h3) ?_
  refine mx_iconst dX8_turnOf_16 ic_3 ?_
  refine mx_iload_n dX8_turnOf_17 rfl rfl ?_
  refine mx_bipush dX8_turnOf_18 ib_52 ?_
  refine mx_idiv dX8_turnOf_20 (by decide) ?_
  refine mx_i2l dX8_turnOf_21 ?_
  refine my_last dX8_turnOf_22 cn_3 (ly8_A_45 La0_h3 (vp_c (by decide))) ?_
  refine mx_nmJ  (fun h4 eh4 Xh4 Kh4 Lh4 => ?_)
  have H := H h4 eh4 Xh4
  have Kh4 := Kh4.trans Kh3
  have Lh4 := Lh4.trans Lh3
  have La0_h4 := La0_h3.ext Xh4
  refine mx_aload_n dX8_turnOf_23 rfl rfl ?_
  refine mx_get 8 68 (ref := "PrairiePoolModel") cl_8 (Nat.le_of_ble_eq_true rfl) (Or.inl q1695) (Or.inl rfl) dX8_turnOf_24 (fv_8_68 _ _) (ly8_k La0_h4) ?_
  refine mx_tr (ly8_R_0_68 La0_h4) ?_
  refine mx_bipush dX8_turnOf_27 ib_7 ?_
  refine mx_aload_n dX8_turnOf_29 rfl rfl ?_
  refine mx_get 8 14 (ref := "PrairiePoolModel") cl_8 (Nat.le_of_ble_eq_true rfl) (Or.inl q1641) (Or.inl rfl) dX8_turnOf_30 (fv_8_14 _ _) (ly8_k La0_h4) ?_
  refine mx_tr (ly8_R_0_14 La0_h4) ?_
  refine mx_iload_n dX8_turnOf_33 rfl rfl ?_
  obtain ⟨k5, H⟩ := H
  refine my_iald dX8_turnOf_34 rfl (ly8_A_7 La0_h4 k5) ?_
  refine mx_ti ((ah_IJ eh4).trans (ah_IJ eh3)) ?_
  refine mx_i2l dX8_turnOf_35 ?_
  refine my_last dX8_turnOf_36 cn_7 (ly8_A_45 La0_h4 (vp_c (by decide))) ?_
  refine mx_nmJ  (fun h6 eh6 Xh6 Kh6 Lh6 => ?_)
  have H := H h6 eh6 Xh6
  have Kh6 := Kh6.trans Kh4
  have Lh6 := Lh6.trans Lh4
  have La0_h6 := La0_h4.ext Xh6
  refine mx_aload_n dX8_turnOf_37 rfl rfl ?_
  refine mx_get 8 68 (ref := "PrairiePoolModel") cl_8 (Nat.le_of_ble_eq_true rfl) (Or.inl q1695) (Or.inl rfl) dX8_turnOf_38 (fv_8_68 _ _) (ly8_k La0_h6) ?_
  refine mx_tr (ly8_R_0_68 La0_h6) ?_
  refine mx_bipush dX8_turnOf_41 ib_8 ?_
  refine mx_aload_n dX8_turnOf_43 rfl rfl ?_
  refine mx_get 8 106 (ref := "PrairiePoolModel") cl_8 (Nat.le_of_ble_eq_true rfl) (Or.inl q1733) (Or.inl rfl) dX8_turnOf_44 (fv_8_106 _ _) (ly8_k La0_h6) ?_
  refine mx_tr (ly8_R_0_106 La0_h6) ?_
  refine mx_iload_n dX8_turnOf_47 rfl rfl ?_
  refine my_iald dX8_turnOf_48 rfl (ly8_A_77 La0_h6 k5) ?_
  refine mx_ti (((ah_IJ eh6).trans (ah_IJ eh4)).trans (ah_IJ eh3)) ?_
  refine mx_i2l dX8_turnOf_49 ?_
  refine my_last dX8_turnOf_50 cn_8 (ly8_A_45 La0_h6 (vp_c (by decide))) ?_
  refine mx_nmJ  (fun h7 eh7 Xh7 Kh7 Lh7 => ?_)
  have H := H h7 eh7 Xh7
  have Kh7 := Kh7.trans Kh6
  have Lh7 := Lh7.trans Lh6
  have La0_h7 := La0_h6.ext Xh7
  refine mx_aload_n dX8_turnOf_51 rfl rfl ?_
  refine mx_get 8 68 (ref := "PrairiePoolModel") cl_8 (Nat.le_of_ble_eq_true rfl) (Or.inl q1695) (Or.inl rfl) dX8_turnOf_52 (fv_8_68 _ _) (ly8_k La0_h7) ?_
  refine mx_tr (ly8_R_0_68 La0_h7) ?_
  refine mx_bipush dX8_turnOf_55 ib_9 ?_
  refine mx_iload_n dX8_turnOf_57 rfl rfl ?_
  refine mx_i2l dX8_turnOf_58 ?_
  refine my_last dX8_turnOf_59 cn_9 (ly8_A_45 La0_h7 (vp_c (by decide))) ?_
  refine mx_nmJ  (fun h8 eh8 Xh8 Kh8 Lh8 => ?_)
  have H := H h8 eh8 Xh8
  have Kh8 := Kh8.trans Kh7
  have Lh8 := Lh8.trans Lh7
  have La0_h8 := La0_h7.ext Xh8
  refine mx_aload_n dX8_turnOf_60 rfl rfl ?_
  refine mx_bipush dX8_turnOf_61 ib_116 ?_
  refine mx_bipush dX8_turnOf_63 ib_117 ?_
  refine mx_bipush dX8_turnOf_65 ib_114 ?_
  refine mx_bipush dX8_turnOf_67 ib_110 ?_
  refine mx_iconst dX8_turnOf_69 ic_0 ?_
  refine mx_iconst dX8_turnOf_70 ic_0 ?_
  refine mx_callS (y' := mi_X8_spelled) (vs := [iv (116 : Int32), iv (117 : Int32), iv (114 : Int32), iv (110 : Int32), iv (0 : Int32), iv (0 : Int32)]) (st := [rv a0]) (al' := [some (iv (116 : Int32)), some (iv (117 : Int32)), some (iv (114 : Int32)), some (iv (110 : Int32)), some (iv (0 : Int32)), some (iv (0 : Int32)), none, none]) S_X8_spelled q2075 dX8_turnOf_71 rfl rfl (Nat.le_of_ble_eq_true rfl) (Nat.le_of_ble_eq_true rfl) ?_
  refine mx_iload_n dX8_spelled_0 rfl rfl ?_
  refine mx_i2l dX8_spelled_1 ?_
  refine mx_ldc2 q2078 dX8_spelled_2 ?_
  refine mx_lsub dX8_spelled_5 ?_
  refine mx_lstore (al' := [some (iv (116 : Int32)), some (iv (117 : Int32)), some (iv (114 : Int32)), some (iv (110 : Int32)), some (iv (0 : Int32)), some (iv (0 : Int32)), some (jv ((116 : Int32).toInt64 - (96 : Int64))), none]) dX8_spelled_6 (Nat.le_of_ble_eq_true rfl) rfl ?_
  refine mx_lload dX8_spelled_8 rfl ?_
  refine mx_ldc2 q2079 dX8_spelled_10 ?_
  refine mx_lmul dX8_spelled_13 ?_
  refine mx_iload_n dX8_spelled_14 rfl rfl ?_
  refine mx_i2l dX8_spelled_15 ?_
  refine mx_ladd dX8_spelled_16 ?_
  refine mx_ldc2 q2078 dX8_spelled_17 ?_
  refine mx_lsub dX8_spelled_20 ?_
  refine mx_lstore (al' := [some (iv (116 : Int32)), some (iv (117 : Int32)), some (iv (114 : Int32)), some (iv (110 : Int32)), some (iv (0 : Int32)), some (iv (0 : Int32)), some (jv (((((116 : Int32).toInt64 - (96 : Int64)) * (32 : Int64)) + (117 : Int32).toInt64) - (96 : Int64))), none]) dX8_spelled_21 (Nat.le_of_ble_eq_true rfl) rfl ?_
  refine mx_iload_n dX8_spelled_23 rfl rfl ?_
  refine mx_if_le (tgt := 43) dX8_spelled_24 rfl (fun _ => absurd ‹_› (by decide)) (fun _ => ?_)
  refine mx_lload dX8_spelled_27 rfl ?_
  refine mx_ldc2 q2079 dX8_spelled_29 ?_
  refine mx_lmul dX8_spelled_32 ?_
  refine mx_iload_n dX8_spelled_33 rfl rfl ?_
  refine mx_i2l dX8_spelled_34 ?_
  refine mx_ladd dX8_spelled_35 ?_
  refine mx_ldc2 q2078 dX8_spelled_36 ?_
  refine mx_lsub dX8_spelled_39 ?_
  refine mx_goto (tgt := 45) dX8_spelled_40 rfl ?_
  refine mx_lstore (al' := [some (iv (116 : Int32)), some (iv (117 : Int32)), some (iv (114 : Int32)), some (iv (110 : Int32)), some (iv (0 : Int32)), some (iv (0 : Int32)), some (jv ((((((((116 : Int32).toInt64 - (96 : Int64)) * (32 : Int64)) + (117 : Int32).toInt64) - (96 : Int64)) * (32 : Int64)) + (114 : Int32).toInt64) - (96 : Int64))), none]) dX8_spelled_45 (Nat.le_of_ble_eq_true rfl) rfl ?_
  refine mx_iload_n dX8_spelled_47 rfl rfl ?_
  refine mx_if_le (tgt := 67) dX8_spelled_48 rfl (fun _ => absurd ‹_› (by decide)) (fun _ => ?_)
  refine mx_lload dX8_spelled_51 rfl ?_
  refine mx_ldc2 q2079 dX8_spelled_53 ?_
  refine mx_lmul dX8_spelled_56 ?_
  refine mx_iload_n dX8_spelled_57 rfl rfl ?_
  refine mx_i2l dX8_spelled_58 ?_
  refine mx_ladd dX8_spelled_59 ?_
  refine mx_ldc2 q2078 dX8_spelled_60 ?_
  refine mx_lsub dX8_spelled_63 ?_
  refine mx_goto (tgt := 69) dX8_spelled_64 rfl ?_
  refine mx_lstore (al' := [some (iv (116 : Int32)), some (iv (117 : Int32)), some (iv (114 : Int32)), some (iv (110 : Int32)), some (iv (0 : Int32)), some (iv (0 : Int32)), some (jv (((((((((((116 : Int32).toInt64 - (96 : Int64)) * (32 : Int64)) + (117 : Int32).toInt64) - (96 : Int64)) * (32 : Int64)) + (114 : Int32).toInt64) - (96 : Int64)) * (32 : Int64)) + (110 : Int32).toInt64) - (96 : Int64))), none]) dX8_spelled_69 (Nat.le_of_ble_eq_true rfl) rfl ?_
  refine mx_iload dX8_spelled_71 rfl ?_
  refine mx_if_le (tgt := 93) dX8_spelled_73 rfl (fun _ => ?_) (fun _ => absurd ‹_› (by decide))
  refine mx_lload dX8_spelled_93 rfl ?_
  refine mx_lstore (al' := [some (iv (116 : Int32)), some (iv (117 : Int32)), some (iv (114 : Int32)), some (iv (110 : Int32)), some (iv (0 : Int32)), some (iv (0 : Int32)), some (jv (((((((((((116 : Int32).toInt64 - (96 : Int64)) * (32 : Int64)) + (117 : Int32).toInt64) - (96 : Int64)) * (32 : Int64)) + (114 : Int32).toInt64) - (96 : Int64)) * (32 : Int64)) + (110 : Int32).toInt64) - (96 : Int64))), none]) dX8_spelled_95 (Nat.le_of_ble_eq_true rfl) rfl ?_
  refine mx_iload dX8_spelled_97 rfl ?_
  refine mx_if_le (tgt := 119) dX8_spelled_99 rfl (fun _ => ?_) (fun _ => absurd ‹_› (by decide))
  refine mx_lload dX8_spelled_119 rfl ?_
  refine mx_lretK rfl dX8_spelled_121 ?_
  refine mx_tj (show (((((((((((116 : Int32).toInt64 - (96 : Int64)) * (32 : Int64)) + (117 : Int32).toInt64) - (96 : Int64)) * (32 : Int64)) + (114 : Int32).toInt64) - (96 : Int64)) * (32 : Int64)) + (110 : Int32).toInt64) - (96 : Int64)) = (677454 : Int64) by decide) ?_
  refine mx_iload_n dX8_turnOf_74 rfl rfl ?_
  refine mx_lconst dX8_turnOf_75 lc_0 ?_
  refine mx_callV 8 (y' := mi_X8_told) (vs := [jv (677454 : Int64), iv x2, jv (0 : Int64)]) (st := []) (al' := [some (rv a0), some (jv (677454 : Int64)), none, some (iv x2), some (jv (0 : Int64)), none, none, none, none]) cl_8 V_X8_told (Or.inl q2080) dX8_turnOf_76 rfl rfl (Nat.le_of_ble_eq_true rfl) (Nat.le_of_ble_eq_true rfl) (ly8_k La0_h8) ?_
  refine ma_kl H (fun r10 h9 Xh9 H => ?_) (fun x1 h1 X1 H => mt_out rfl H)
  have H := H Xh9
  have La0_h9 := La0_h8.ext Xh9
  refine mx_ldc2 q2107 dX8_turnOf_79 ?_
  refine mx_ldc2 q2009 dX8_turnOf_82 ?_
  refine mx_callS (y' := mi_X8_cut_2) (vs := [jv r10, jv (-1000000 : Int64), jv (1000000 : Int64)]) (st := []) (al' := [some (jv r10), none, some (jv (-1000000 : Int64)), none, some (jv (1000000 : Int64)), none]) S_X8_cut_2 q2108 dX8_turnOf_85 rfl rfl (Nat.le_of_ble_eq_true rfl) (Nat.le_of_ble_eq_true rfl) ?_
  refine pv_X8_cut_2 ?_
  exact mx_lret rfl dX8_turnOf_88 H
theorem dX8_sign_0 : decode mi_X8_sign.2.1 0 = .ok (.aload_n 0, 1) := by decide +kernel
theorem dX8_sign_1 : decode mi_X8_sign.2.1 1 = .ok (.iconst 0, 1) := by decide +kernel
theorem dX8_sign_2 : decode mi_X8_sign.2.1 2 = .ok (.putfield 257, 3) := by decide +kernel
theorem dX8_sign_5 : decode mi_X8_sign.2.1 5 = .ok (.aload_n 0, 1) := by decide +kernel
theorem dX8_sign_6 : decode mi_X8_sign.2.1 6 = .ok (.iconst 0, 1) := by decide +kernel
theorem dX8_sign_7 : decode mi_X8_sign.2.1 7 = .ok (.putfield 260, 3) := by decide +kernel
theorem dX8_sign_10 : decode mi_X8_sign.2.1 10 = .ok (.aload_n 0, 1) := by decide +kernel
theorem dX8_sign_11 : decode mi_X8_sign.2.1 11 = .ok (.iload_n 1, 1) := by decide +kernel
theorem dX8_sign_12 : decode mi_X8_sign.2.1 12 = .ok (.invokevirtual 318, 3) := by decide +kernel
theorem dX8_sign_15 : decode mi_X8_sign.2.1 15 = .ok (.ifCond .ne 9, 3) := by decide +kernel
theorem dX8_sign_18 : decode mi_X8_sign.2.1 18 = .ok (.aload_n 0, 1) := by decide +kernel
theorem dX8_sign_19 : decode mi_X8_sign.2.1 19 = .ok (.iconst 2, 1) := by decide +kernel
theorem dX8_sign_20 : decode mi_X8_sign.2.1 20 = .ok (.invokevirtual 273, 3) := by decide +kernel
theorem dX8_sign_23 : decode mi_X8_sign.2.1 23 = .ok (.ireturn, 1) := by decide +kernel
theorem dX8_sign_24 : decode mi_X8_sign.2.1 24 = .ok (.iload_n 2, 1) := by decide +kernel
theorem dX8_sign_25 : decode mi_X8_sign.2.1 25 = .ok (.invokestatic 335, 3) := by decide +kernel
theorem dX8_sign_28 : decode mi_X8_sign.2.1 28 = .ok (.ifCond .eq 16, 3) := by decide +kernel
theorem dX8_sign_31 : decode mi_X8_sign.2.1 31 = .ok (.iload_n 3, 1) := by decide +kernel
theorem dX8_sign_32 : decode mi_X8_sign.2.1 32 = .ok (.i2l, 1) := by decide +kernel
theorem dX8_sign_33 : decode mi_X8_sign.2.1 33 = .ok (.iload_n 2, 1) := by decide +kernel
theorem dX8_sign_34 : decode mi_X8_sign.2.1 34 = .ok (.i2l, 1) := by decide +kernel
theorem dX8_sign_35 : decode mi_X8_sign.2.1 35 = .ok (.ldc2_w 269, 3) := by decide +kernel
theorem dX8_sign_38 : decode mi_X8_sign.2.1 38 = .ok (.invokestatic 265, 3) := by decide +kernel
theorem dX8_sign_41 : decode mi_X8_sign.2.1 41 = .ok (.ifCond .ne 9, 3) := by decide +kernel
theorem dX8_sign_44 : decode mi_X8_sign.2.1 44 = .ok (.aload_n 0, 1) := by decide +kernel
theorem dX8_sign_45 : decode mi_X8_sign.2.1 45 = .ok (.iconst 5, 1) := by decide +kernel
theorem dX8_sign_46 : decode mi_X8_sign.2.1 46 = .ok (.invokevirtual 273, 3) := by decide +kernel
theorem dX8_sign_49 : decode mi_X8_sign.2.1 49 = .ok (.ireturn, 1) := by decide +kernel
theorem dX8_sign_50 : decode mi_X8_sign.2.1 50 = .ok (.aload_n 0, 1) := by decide +kernel
theorem dX8_sign_51 : decode mi_X8_sign.2.1 51 = .ok (.getfield 176, 3) := by decide +kernel
theorem dX8_sign_54 : decode mi_X8_sign.2.1 54 = .ok (.iload_n 1, 1) := by decide +kernel
theorem dX8_sign_55 : decode mi_X8_sign.2.1 55 = .ok (.iload_n 2, 1) := by decide +kernel
theorem dX8_sign_56 : decode mi_X8_sign.2.1 56 = .ok (.iastore, 1) := by decide +kernel
theorem dX8_sign_57 : decode mi_X8_sign.2.1 57 = .ok (.aload_n 0, 1) := by decide +kernel
theorem dX8_sign_58 : decode mi_X8_sign.2.1 58 = .ok (.getfield 179, 3) := by decide +kernel
theorem dX8_sign_61 : decode mi_X8_sign.2.1 61 = .ok (.iload_n 1, 1) := by decide +kernel
theorem dX8_sign_62 : decode mi_X8_sign.2.1 62 = .ok (.iload_n 3, 1) := by decide +kernel
theorem dX8_sign_63 : decode mi_X8_sign.2.1 63 = .ok (.iastore, 1) := by decide +kernel
theorem dX8_sign_64 : decode mi_X8_sign.2.1 64 = .ok (.iconst 1, 1) := by decide +kernel
theorem dX8_sign_65 : decode mi_X8_sign.2.1 65 = .ok (.ireturn, 1) := by decide +kernel
theorem v_X8_sign {G : ma_G} {d : Nat} {a0 : Nat} {x1 : Int32} {x2 : Int32} {x3 : Int32} {h : ah_T} {Q : Option ma_V → ah_T → Prop} {E : Nat → ah_T → Prop} (La0_h : LY8 h a0) (H : ∀ h1 : ah_T, h1 = ah_wI h a0 1 (0 : Int32) → ah_ext h h1 → ∀ h2 : ah_T, h2 = ah_wI h1 a0 0 (0 : Int32) → ah_ext h1 h2 → (x1.toInt64 < (0 : Int64) → ∀ h4 : ah_T, h4 = ah_wI h2 a0 0 (2 : Int32) → ah_ext h2 h4 → Q (some (iv (0 : Int32))) h4) ∧ (¬ x1.toInt64 < (0 : Int64) → (((ah_I h a0 5) - (1 : Int32)).toInt64 < x1.toInt64 → ∀ h6 : ah_T, h6 = ah_wI h2 a0 0 (2 : Int32) → ah_ext h2 h6 → Q (some (iv (0 : Int32))) h6) ∧ (¬ ((ah_I h a0 5) - (1 : Int32)).toInt64 < x1.toInt64 → (x2.toInt64 < (0 : Int64) → ∀ h8 : ah_T, h8 = ah_wI h2 a0 0 (5 : Int32) → ah_ext h2 h8 → Q (some (iv (0 : Int32))) h8) ∧ (¬ x2.toInt64 < (0 : Int64) → ((9 : Int64) < x2.toInt64 → ∀ h10 : ah_T, h10 = ah_wI h2 a0 0 (5 : Int32) → ah_ext h2 h10 → Q (some (iv (0 : Int32))) h10) ∧ (¬ (9 : Int64) < x2.toInt64 → (x3.toInt64 < x2.toInt64 → ∀ h12 : ah_T, h12 = ah_wI h2 a0 0 (5 : Int32) → ah_ext h2 h12 → Q (some (iv (0 : Int32))) h12) ∧ (¬ x3.toInt64 < x2.toInt64 → ((9 : Int64) < x3.toInt64 → ∀ h14 : ah_T, h14 = ah_wI h2 a0 0 (5 : Int32) → ah_ext h2 h14 → Q (some (iv (0 : Int32))) h14) ∧ (¬ (9 : Int64) < x3.toInt64 → vp_in x1 20 ∧ ∀ h16 : ah_T, h16 = ah_wI h2 (a0 + 53) x1.toNatClampNeg x2 → ah_ext h2 h16 → ∀ h17 : ah_T, h17 = ah_wI h16 (a0 + 54) x1.toNatClampNeg x3 → ah_ext h16 h17 → Q (some (iv (1 : Int32))) h17))))))) : MX G mi_X8_sign (d + 2) 0 [some (rv a0), some (iv x1), some (iv x2), some (iv x3)] [] h Q E := by
  refine mx_aload_n dX8_sign_0 rfl rfl ?_
  refine mx_iconst dX8_sign_1 ic_0 ?_
  refine mx_putI 8 1 (ref := "PrairiePoolModel") cl_8 (Nat.le_of_ble_eq_true rfl) (Or.inl q1628) (Or.inl rfl) dX8_sign_2 (Or.inl rfl) rfl (ly8_k La0_h) ?_
  refine mx_nmI  (fun h1 eh1 Xh1 Kh1 Lh1 => ?_)
  have H := H h1 eh1 Xh1
  have La0_h1 := La0_h.ext Xh1
  refine mx_aload_n dX8_sign_5 rfl rfl ?_
  refine mx_iconst dX8_sign_6 ic_0 ?_
  refine mx_putI 8 0 (ref := "PrairiePoolModel") cl_8 (Nat.le_of_ble_eq_true rfl) (Or.inl q1627) (Or.inl rfl) dX8_sign_7 (Or.inl rfl) rfl (ly8_k La0_h1) ?_
  refine mx_nmI  (fun h2 eh2 Xh2 Kh2 Lh2 => ?_)
  have H := H h2 eh2 Xh2
  have Kh2 := Kh2.trans Kh1
  have Lh2 := Lh2.trans Lh1
  have La0_h2 := La0_h1.ext Xh2
  refine mx_aload_n dX8_sign_10 rfl rfl ?_
  refine mx_iload_n dX8_sign_11 rfl rfl ?_
  refine mx_callV 8 (y' := mi_X8_isFarm) (vs := [iv x1]) (st := []) (al' := [some (rv a0), some (iv x1)]) cl_8 V_X8_isFarm (Or.inl q2014) dX8_sign_12 rfl rfl (Nat.le_of_ble_eq_true rfl) (Nat.le_of_ble_eq_true rfl) (ly8_k La0_h2) ?_
  refine mx_iload_n dX8_isFarm_0 rfl rfl ?_
  refine mx_i2l dX8_isFarm_1 ?_
  refine mx_lconst dX8_isFarm_2 lc_0 ?_
  refine mx_aload_n dX8_isFarm_3 rfl rfl ?_
  refine mx_get 8 5 (ref := "PrairiePoolModel") cl_8 (Nat.le_of_ble_eq_true rfl) (Or.inl q1632) (Or.inl rfl) dX8_isFarm_4 (fv_8_5 _ _) (ly8_k La0_h2) ?_
  refine mx_ti ((ah_skIK eh2 (by decide)).trans (ah_skIK eh1 (by decide))) ?_
  refine mx_iconst dX8_isFarm_7 ic_1 ?_
  refine mx_isub dX8_isFarm_8 ?_
  refine mx_i2l dX8_isFarm_9 ?_
  refine mx_callS (y' := mi_X8_isIn) (vs := [jv x1.toInt64, jv (0 : Int64), jv ((ah_I h a0 5) - (1 : Int32)).toInt64]) (st := []) (al' := [some (jv x1.toInt64), none, some (jv (0 : Int64)), none, some (jv ((ah_I h a0 5) - (1 : Int32)).toInt64), none]) S_X8_isIn q1996 dX8_isFarm_10 rfl rfl (Nat.le_of_ble_eq_true rfl) (Nat.le_of_ble_eq_true rfl) ?_
  refine mx_lload_n dX8_isIn_0 rfl rfl ?_
  refine mx_lload_n dX8_isIn_1 rfl rfl ?_
  refine mx_lif_lt (tgt := 17) dX8_isIn_2 dX8_isIn_3 rfl (fun c3 => ?_) (fun c3 => ?_)
  · have H := H.1 c3
    refine mx_iconst dX8_isIn_17 ic_0 ?_
    refine mx_zretK rfl dX8_isIn_18 (Or.inl rfl) ?_
    refine mx_zretK rfl dX8_isFarm_13 (Or.inl rfl) ?_
    refine mx_if_ne (tgt := 24) dX8_sign_15 rfl (fun _ => absurd ‹_› (by decide)) (fun _ => ?_)
    refine mx_aload_n dX8_sign_18 rfl rfl ?_
    refine mx_iconst dX8_sign_19 ic_2 ?_
    refine mx_callV 8 (y' := mi_X8_no) (vs := [iv (2 : Int32)]) (st := []) (al' := [some (rv a0), some (iv (2 : Int32))]) cl_8 V_X8_no (Or.inl q1963) dX8_sign_20 rfl rfl (Nat.le_of_ble_eq_true rfl) (Nat.le_of_ble_eq_true rfl) (ly8_k La0_h2) ?_
    refine mx_aload_n dX8_no_0 rfl rfl ?_
    refine mx_iload_n dX8_no_1 rfl rfl ?_
    refine mx_putI 8 0 (ref := "PrairiePoolModel") cl_8 (Nat.le_of_ble_eq_true rfl) (Or.inl q1627) (Or.inl rfl) dX8_no_2 (Or.inl rfl) rfl (ly8_k La0_h2) ?_
    refine mx_nmI  (fun h4 eh4 Xh4 Kh4 Lh4 => ?_)
    have H := H h4 eh4 Xh4
    have Kh4 := Kh4.trans Kh2
    have Lh4 := Lh4.trans Lh2
    have La0_h4 := La0_h2.ext Xh4
    refine mx_iconst dX8_no_5 ic_0 ?_
    refine mx_zretK rfl dX8_no_6 (Or.inl rfl) ?_
    exact mx_zret rfl dX8_sign_23 (Or.inl rfl) H
  · have H := H.2 c3
    refine mx_lload_n dX8_isIn_6 rfl rfl ?_
    refine mx_lload dX8_isIn_7 rfl ?_
    refine mx_lif_gt (tgt := 17) dX8_isIn_9 dX8_isIn_10 rfl (fun c5 => ?_) (fun c5 => ?_)
    · have H := H.1 c5
      refine mx_iconst dX8_isIn_17 ic_0 ?_
      refine mx_zretK rfl dX8_isIn_18 (Or.inl rfl) ?_
      refine mx_zretK rfl dX8_isFarm_13 (Or.inl rfl) ?_
      refine mx_if_ne (tgt := 24) dX8_sign_15 rfl (fun _ => absurd ‹_› (by decide)) (fun _ => ?_)
      refine mx_aload_n dX8_sign_18 rfl rfl ?_
      refine mx_iconst dX8_sign_19 ic_2 ?_
      refine mx_callV 8 (y' := mi_X8_no) (vs := [iv (2 : Int32)]) (st := []) (al' := [some (rv a0), some (iv (2 : Int32))]) cl_8 V_X8_no (Or.inl q1963) dX8_sign_20 rfl rfl (Nat.le_of_ble_eq_true rfl) (Nat.le_of_ble_eq_true rfl) (ly8_k La0_h2) ?_
      refine mx_aload_n dX8_no_0 rfl rfl ?_
      refine mx_iload_n dX8_no_1 rfl rfl ?_
      refine mx_putI 8 0 (ref := "PrairiePoolModel") cl_8 (Nat.le_of_ble_eq_true rfl) (Or.inl q1627) (Or.inl rfl) dX8_no_2 (Or.inl rfl) rfl (ly8_k La0_h2) ?_
      refine mx_nmI  (fun h6 eh6 Xh6 Kh6 Lh6 => ?_)
      have H := H h6 eh6 Xh6
      have Kh6 := Kh6.trans Kh2
      have Lh6 := Lh6.trans Lh2
      have La0_h6 := La0_h2.ext Xh6
      refine mx_iconst dX8_no_5 ic_0 ?_
      refine mx_zretK rfl dX8_no_6 (Or.inl rfl) ?_
      exact mx_zret rfl dX8_sign_23 (Or.inl rfl) H
    · have H := H.2 c5
      refine mx_iconst dX8_isIn_13 ic_1 ?_
      refine mx_goto (tgt := 18) dX8_isIn_14 rfl ?_
      refine mx_zretK rfl dX8_isIn_18 (Or.inr rfl) ?_
      refine mx_zretK rfl dX8_isFarm_13 (Or.inr rfl) ?_
      refine mx_if_ne (tgt := 24) dX8_sign_15 rfl (fun _ => ?_) (fun _ => absurd ‹_› (by decide))
      refine mx_iload_n dX8_sign_24 rfl rfl ?_
      refine mx_callS (y' := mi_X8_isYear) (vs := [iv x2]) (st := []) (al' := [some (iv x2)]) S_X8_isYear q2039 dX8_sign_25 rfl rfl (Nat.le_of_ble_eq_true rfl) (Nat.le_of_ble_eq_true rfl) ?_
      refine mx_iload_n dX8_isYear_0 rfl rfl ?_
      refine mx_i2l dX8_isYear_1 ?_
      refine mx_lconst dX8_isYear_2 lc_0 ?_
      refine mx_ldc2 q2042 dX8_isYear_3 ?_
      refine mx_callS (y' := mi_X8_isIn) (vs := [jv x2.toInt64, jv (0 : Int64), jv (9 : Int64)]) (st := []) (al' := [some (jv x2.toInt64), none, some (jv (0 : Int64)), none, some (jv (9 : Int64)), none]) S_X8_isIn q1996 dX8_isYear_6 rfl rfl (Nat.le_of_ble_eq_true rfl) (Nat.le_of_ble_eq_true rfl) ?_
      refine mx_lload_n dX8_isIn_0 rfl rfl ?_
      refine mx_lload_n dX8_isIn_1 rfl rfl ?_
      refine mx_lif_lt (tgt := 17) dX8_isIn_2 dX8_isIn_3 rfl (fun c7 => ?_) (fun c7 => ?_)
      · have H := H.1 c7
        refine mx_iconst dX8_isIn_17 ic_0 ?_
        refine mx_zretK rfl dX8_isIn_18 (Or.inl rfl) ?_
        refine mx_zretK rfl dX8_isYear_9 (Or.inl rfl) ?_
        refine mx_if_eq (tgt := 44) dX8_sign_28 rfl (fun _ => ?_) (fun _ => absurd ‹_› (by decide))
        refine mx_aload_n dX8_sign_44 rfl rfl ?_
        refine mx_iconst dX8_sign_45 ic_5 ?_
        refine mx_callV 8 (y' := mi_X8_no) (vs := [iv (5 : Int32)]) (st := []) (al' := [some (rv a0), some (iv (5 : Int32))]) cl_8 V_X8_no (Or.inl q1963) dX8_sign_46 rfl rfl (Nat.le_of_ble_eq_true rfl) (Nat.le_of_ble_eq_true rfl) (ly8_k La0_h2) ?_
        refine mx_aload_n dX8_no_0 rfl rfl ?_
        refine mx_iload_n dX8_no_1 rfl rfl ?_
        refine mx_putI 8 0 (ref := "PrairiePoolModel") cl_8 (Nat.le_of_ble_eq_true rfl) (Or.inl q1627) (Or.inl rfl) dX8_no_2 (Or.inl rfl) rfl (ly8_k La0_h2) ?_
        refine mx_nmI  (fun h8 eh8 Xh8 Kh8 Lh8 => ?_)
        have H := H h8 eh8 Xh8
        have Kh8 := Kh8.trans Kh2
        have Lh8 := Lh8.trans Lh2
        have La0_h8 := La0_h2.ext Xh8
        refine mx_iconst dX8_no_5 ic_0 ?_
        refine mx_zretK rfl dX8_no_6 (Or.inl rfl) ?_
        exact mx_zret rfl dX8_sign_49 (Or.inl rfl) H
      · have H := H.2 c7
        refine mx_lload_n dX8_isIn_6 rfl rfl ?_
        refine mx_lload dX8_isIn_7 rfl ?_
        refine mx_lif_gt (tgt := 17) dX8_isIn_9 dX8_isIn_10 rfl (fun c9 => ?_) (fun c9 => ?_)
        · have H := H.1 c9
          refine mx_iconst dX8_isIn_17 ic_0 ?_
          refine mx_zretK rfl dX8_isIn_18 (Or.inl rfl) ?_
          refine mx_zretK rfl dX8_isYear_9 (Or.inl rfl) ?_
          refine mx_if_eq (tgt := 44) dX8_sign_28 rfl (fun _ => ?_) (fun _ => absurd ‹_› (by decide))
          refine mx_aload_n dX8_sign_44 rfl rfl ?_
          refine mx_iconst dX8_sign_45 ic_5 ?_
          refine mx_callV 8 (y' := mi_X8_no) (vs := [iv (5 : Int32)]) (st := []) (al' := [some (rv a0), some (iv (5 : Int32))]) cl_8 V_X8_no (Or.inl q1963) dX8_sign_46 rfl rfl (Nat.le_of_ble_eq_true rfl) (Nat.le_of_ble_eq_true rfl) (ly8_k La0_h2) ?_
          refine mx_aload_n dX8_no_0 rfl rfl ?_
          refine mx_iload_n dX8_no_1 rfl rfl ?_
          refine mx_putI 8 0 (ref := "PrairiePoolModel") cl_8 (Nat.le_of_ble_eq_true rfl) (Or.inl q1627) (Or.inl rfl) dX8_no_2 (Or.inl rfl) rfl (ly8_k La0_h2) ?_
          refine mx_nmI  (fun h10 eh10 Xh10 Kh10 Lh10 => ?_)
          have H := H h10 eh10 Xh10
          have Kh10 := Kh10.trans Kh2
          have Lh10 := Lh10.trans Lh2
          have La0_h10 := La0_h2.ext Xh10
          refine mx_iconst dX8_no_5 ic_0 ?_
          refine mx_zretK rfl dX8_no_6 (Or.inl rfl) ?_
          exact mx_zret rfl dX8_sign_49 (Or.inl rfl) H
        · have H := H.2 c9
          refine mx_iconst dX8_isIn_13 ic_1 ?_
          refine mx_goto (tgt := 18) dX8_isIn_14 rfl ?_
          refine mx_zretK rfl dX8_isIn_18 (Or.inr rfl) ?_
          refine mx_zretK rfl dX8_isYear_9 (Or.inr rfl) ?_
          refine mx_if_eq (tgt := 44) dX8_sign_28 rfl (fun _ => absurd ‹_› (by decide)) (fun _ => ?_)
          refine mx_iload_n dX8_sign_31 rfl rfl ?_
          refine mx_i2l dX8_sign_32 ?_
          refine mx_iload_n dX8_sign_33 rfl rfl ?_
          refine mx_i2l dX8_sign_34 ?_
          refine mx_ldc2 q2042 dX8_sign_35 ?_
          refine mx_callS (y' := mi_X8_isIn) (vs := [jv x3.toInt64, jv x2.toInt64, jv (9 : Int64)]) (st := []) (al' := [some (jv x3.toInt64), none, some (jv x2.toInt64), none, some (jv (9 : Int64)), none]) S_X8_isIn q1996 dX8_sign_38 rfl rfl (Nat.le_of_ble_eq_true rfl) (Nat.le_of_ble_eq_true rfl) ?_
          refine mx_lload_n dX8_isIn_0 rfl rfl ?_
          refine mx_lload_n dX8_isIn_1 rfl rfl ?_
          refine mx_lif_lt (tgt := 17) dX8_isIn_2 dX8_isIn_3 rfl (fun c11 => ?_) (fun c11 => ?_)
          · have H := H.1 c11
            refine mx_iconst dX8_isIn_17 ic_0 ?_
            refine mx_zretK rfl dX8_isIn_18 (Or.inl rfl) ?_
            refine mx_if_ne (tgt := 50) dX8_sign_41 rfl (fun _ => absurd ‹_› (by decide)) (fun _ => ?_)
            refine mx_aload_n dX8_sign_44 rfl rfl ?_
            refine mx_iconst dX8_sign_45 ic_5 ?_
            refine mx_callV 8 (y' := mi_X8_no) (vs := [iv (5 : Int32)]) (st := []) (al' := [some (rv a0), some (iv (5 : Int32))]) cl_8 V_X8_no (Or.inl q1963) dX8_sign_46 rfl rfl (Nat.le_of_ble_eq_true rfl) (Nat.le_of_ble_eq_true rfl) (ly8_k La0_h2) ?_
            refine mx_aload_n dX8_no_0 rfl rfl ?_
            refine mx_iload_n dX8_no_1 rfl rfl ?_
            refine mx_putI 8 0 (ref := "PrairiePoolModel") cl_8 (Nat.le_of_ble_eq_true rfl) (Or.inl q1627) (Or.inl rfl) dX8_no_2 (Or.inl rfl) rfl (ly8_k La0_h2) ?_
            refine mx_nmI  (fun h12 eh12 Xh12 Kh12 Lh12 => ?_)
            have H := H h12 eh12 Xh12
            have Kh12 := Kh12.trans Kh2
            have Lh12 := Lh12.trans Lh2
            have La0_h12 := La0_h2.ext Xh12
            refine mx_iconst dX8_no_5 ic_0 ?_
            refine mx_zretK rfl dX8_no_6 (Or.inl rfl) ?_
            exact mx_zret rfl dX8_sign_49 (Or.inl rfl) H
          · have H := H.2 c11
            refine mx_lload_n dX8_isIn_6 rfl rfl ?_
            refine mx_lload dX8_isIn_7 rfl ?_
            refine mx_lif_gt (tgt := 17) dX8_isIn_9 dX8_isIn_10 rfl (fun c13 => ?_) (fun c13 => ?_)
            · have H := H.1 c13
              refine mx_iconst dX8_isIn_17 ic_0 ?_
              refine mx_zretK rfl dX8_isIn_18 (Or.inl rfl) ?_
              refine mx_if_ne (tgt := 50) dX8_sign_41 rfl (fun _ => absurd ‹_› (by decide)) (fun _ => ?_)
              refine mx_aload_n dX8_sign_44 rfl rfl ?_
              refine mx_iconst dX8_sign_45 ic_5 ?_
              refine mx_callV 8 (y' := mi_X8_no) (vs := [iv (5 : Int32)]) (st := []) (al' := [some (rv a0), some (iv (5 : Int32))]) cl_8 V_X8_no (Or.inl q1963) dX8_sign_46 rfl rfl (Nat.le_of_ble_eq_true rfl) (Nat.le_of_ble_eq_true rfl) (ly8_k La0_h2) ?_
              refine mx_aload_n dX8_no_0 rfl rfl ?_
              refine mx_iload_n dX8_no_1 rfl rfl ?_
              refine mx_putI 8 0 (ref := "PrairiePoolModel") cl_8 (Nat.le_of_ble_eq_true rfl) (Or.inl q1627) (Or.inl rfl) dX8_no_2 (Or.inl rfl) rfl (ly8_k La0_h2) ?_
              refine mx_nmI  (fun h14 eh14 Xh14 Kh14 Lh14 => ?_)
              have H := H h14 eh14 Xh14
              have Kh14 := Kh14.trans Kh2
              have Lh14 := Lh14.trans Lh2
              have La0_h14 := La0_h2.ext Xh14
              refine mx_iconst dX8_no_5 ic_0 ?_
              refine mx_zretK rfl dX8_no_6 (Or.inl rfl) ?_
              exact mx_zret rfl dX8_sign_49 (Or.inl rfl) H
            · have H := H.2 c13
              refine mx_iconst dX8_isIn_13 ic_1 ?_
              refine mx_goto (tgt := 18) dX8_isIn_14 rfl ?_
              refine mx_zretK rfl dX8_isIn_18 (Or.inr rfl) ?_
              refine mx_if_ne (tgt := 50) dX8_sign_41 rfl (fun _ => ?_) (fun _ => absurd ‹_› (by decide))
              refine mx_aload_n dX8_sign_50 rfl rfl ?_
              refine mx_get 8 79 (ref := "PrairiePoolModel") cl_8 (Nat.le_of_ble_eq_true rfl) (Or.inl q1706) (Or.inl rfl) dX8_sign_51 (fv_8_79 _ _) (ly8_k La0_h2) ?_
              refine mx_tr (ly8_R_0_79 La0_h2) ?_
              refine mx_iload_n dX8_sign_54 rfl rfl ?_
              refine mx_iload_n dX8_sign_55 rfl rfl ?_
              obtain ⟨k15, H⟩ := H
              refine my_iast dX8_sign_56 rfl (ly8_A_53 La0_h2 k15) ?_
              refine mx_nmI  (fun h16 eh16 Xh16 Kh16 Lh16 => ?_)
              have H := H h16 eh16 Xh16
              have Kh16 := Kh16.trans Kh2
              have Lh16 := Lh16.trans Lh2
              have La0_h16 := La0_h2.ext Xh16
              refine mx_aload_n dX8_sign_57 rfl rfl ?_
              refine mx_get 8 80 (ref := "PrairiePoolModel") cl_8 (Nat.le_of_ble_eq_true rfl) (Or.inl q1707) (Or.inl rfl) dX8_sign_58 (fv_8_80 _ _) (ly8_k La0_h16) ?_
              refine mx_tr (ly8_R_0_80 La0_h16) ?_
              refine mx_iload_n dX8_sign_61 rfl rfl ?_
              refine mx_iload_n dX8_sign_62 rfl rfl ?_
              refine my_iast dX8_sign_63 rfl (ly8_A_54 La0_h16 k15) ?_
              refine mx_nmI  (fun h17 eh17 Xh17 Kh17 Lh17 => ?_)
              have H := H h17 eh17 Xh17
              have Kh17 := Kh17.trans Kh16
              have Lh17 := Lh17.trans Lh16
              have La0_h17 := La0_h16.ext Xh17
              refine mx_iconst dX8_sign_64 ic_1 ?_
              exact mx_zret rfl dX8_sign_65 (Or.inr rfl) H
theorem dX8_let_0 : decode mi_X8_let.2.1 0 = .ok (.aload_n 0, 1) := by decide +kernel
theorem dX8_let_1 : decode mi_X8_let.2.1 1 = .ok (.iconst 0, 1) := by decide +kernel
theorem dX8_let_2 : decode mi_X8_let.2.1 2 = .ok (.putfield 257, 3) := by decide +kernel
theorem dX8_let_5 : decode mi_X8_let.2.1 5 = .ok (.aload_n 0, 1) := by decide +kernel
theorem dX8_let_6 : decode mi_X8_let.2.1 6 = .ok (.iconst 0, 1) := by decide +kernel
theorem dX8_let_7 : decode mi_X8_let.2.1 7 = .ok (.putfield 260, 3) := by decide +kernel
theorem dX8_let_10 : decode mi_X8_let.2.1 10 = .ok (.aload_n 0, 1) := by decide +kernel
theorem dX8_let_11 : decode mi_X8_let.2.1 11 = .ok (.iload_n 1, 1) := by decide +kernel
theorem dX8_let_12 : decode mi_X8_let.2.1 12 = .ok (.invokevirtual 318, 3) := by decide +kernel
theorem dX8_let_15 : decode mi_X8_let.2.1 15 = .ok (.ifCond .ne 9, 3) := by decide +kernel
theorem dX8_let_18 : decode mi_X8_let.2.1 18 = .ok (.aload_n 0, 1) := by decide +kernel
theorem dX8_let_19 : decode mi_X8_let.2.1 19 = .ok (.iconst 2, 1) := by decide +kernel
theorem dX8_let_20 : decode mi_X8_let.2.1 20 = .ok (.invokevirtual 273, 3) := by decide +kernel
theorem dX8_let_23 : decode mi_X8_let.2.1 23 = .ok (.ireturn, 1) := by decide +kernel
theorem dX8_let_24 : decode mi_X8_let.2.1 24 = .ok (.iload_n 2, 1) := by decide +kernel
theorem dX8_let_25 : decode mi_X8_let.2.1 25 = .ok (.invokestatic 335, 3) := by decide +kernel
theorem dX8_let_28 : decode mi_X8_let.2.1 28 = .ok (.ifCond .ne 9, 3) := by decide +kernel
theorem dX8_let_31 : decode mi_X8_let.2.1 31 = .ok (.aload_n 0, 1) := by decide +kernel
theorem dX8_let_32 : decode mi_X8_let.2.1 32 = .ok (.iconst 5, 1) := by decide +kernel
theorem dX8_let_33 : decode mi_X8_let.2.1 33 = .ok (.invokevirtual 273, 3) := by decide +kernel
theorem dX8_let_36 : decode mi_X8_let.2.1 36 = .ok (.ireturn, 1) := by decide +kernel
theorem dX8_let_37 : decode mi_X8_let.2.1 37 = .ok (.aload_n 0, 1) := by decide +kernel
theorem dX8_let_38 : decode mi_X8_let.2.1 38 = .ok (.getfield 200, 3) := by decide +kernel
theorem dX8_let_41 : decode mi_X8_let.2.1 41 = .ok (.bipush 10, 2) := by decide +kernel
theorem dX8_let_43 : decode mi_X8_let.2.1 43 = .ok (.iload_n 1, 1) := by decide +kernel
theorem dX8_let_44 : decode mi_X8_let.2.1 44 = .ok (.imul, 1) := by decide +kernel
theorem dX8_let_45 : decode mi_X8_let.2.1 45 = .ok (.iload_n 2, 1) := by decide +kernel
theorem dX8_let_46 : decode mi_X8_let.2.1 46 = .ok (.iadd, 1) := by decide +kernel
theorem dX8_let_47 : decode mi_X8_let.2.1 47 = .ok (.iload_n 3, 1) := by decide +kernel
theorem dX8_let_48 : decode mi_X8_let.2.1 48 = .ok (.bastore, 1) := by decide +kernel
theorem dX8_let_49 : decode mi_X8_let.2.1 49 = .ok (.iconst 1, 1) := by decide +kernel
theorem dX8_let_50 : decode mi_X8_let.2.1 50 = .ok (.ireturn, 1) := by decide +kernel
theorem v_X8_let {G : ma_G} {d : Nat} {a0 : Nat} {x1 : Int32} {x2 : Int32} {x3 : Int32} {h : ah_T} {Q : Option ma_V → ah_T → Prop} {E : Nat → ah_T → Prop} (La0_h : LY8 h a0) (H : ∀ h1 : ah_T, h1 = ah_wI h a0 1 (0 : Int32) → ah_ext h h1 → ∀ h2 : ah_T, h2 = ah_wI h1 a0 0 (0 : Int32) → ah_ext h1 h2 → (x1.toInt64 < (0 : Int64) → ∀ h4 : ah_T, h4 = ah_wI h2 a0 0 (2 : Int32) → ah_ext h2 h4 → Q (some (iv (0 : Int32))) h4) ∧ (¬ x1.toInt64 < (0 : Int64) → (((ah_I h a0 5) - (1 : Int32)).toInt64 < x1.toInt64 → ∀ h6 : ah_T, h6 = ah_wI h2 a0 0 (2 : Int32) → ah_ext h2 h6 → Q (some (iv (0 : Int32))) h6) ∧ (¬ ((ah_I h a0 5) - (1 : Int32)).toInt64 < x1.toInt64 → (x2.toInt64 < (0 : Int64) → ∀ h8 : ah_T, h8 = ah_wI h2 a0 0 (5 : Int32) → ah_ext h2 h8 → Q (some (iv (0 : Int32))) h8) ∧ (¬ x2.toInt64 < (0 : Int64) → ((9 : Int64) < x2.toInt64 → ∀ h10 : ah_T, h10 = ah_wI h2 a0 0 (5 : Int32) → ah_ext h2 h10 → Q (some (iv (0 : Int32))) h10) ∧ (¬ (9 : Int64) < x2.toInt64 → vp_in (((10 : Int32) * x1) + x2) 200 ∧ ∀ h12 : ah_T, h12 = ah_wI h2 (a0 + 61) (((10 : Int32) * x1) + x2).toNatClampNeg (vp_nar .boolean x3) → ah_ext h2 h12 → Q (some (iv (1 : Int32))) h12))))) : MX G mi_X8_let (d + 2) 0 [some (rv a0), some (iv x1), some (iv x2), some (iv x3)] [] h Q E := by
  refine mx_aload_n dX8_let_0 rfl rfl ?_
  refine mx_iconst dX8_let_1 ic_0 ?_
  refine mx_putI 8 1 (ref := "PrairiePoolModel") cl_8 (Nat.le_of_ble_eq_true rfl) (Or.inl q1628) (Or.inl rfl) dX8_let_2 (Or.inl rfl) rfl (ly8_k La0_h) ?_
  refine mx_nmI  (fun h1 eh1 Xh1 Kh1 Lh1 => ?_)
  have H := H h1 eh1 Xh1
  have La0_h1 := La0_h.ext Xh1
  refine mx_aload_n dX8_let_5 rfl rfl ?_
  refine mx_iconst dX8_let_6 ic_0 ?_
  refine mx_putI 8 0 (ref := "PrairiePoolModel") cl_8 (Nat.le_of_ble_eq_true rfl) (Or.inl q1627) (Or.inl rfl) dX8_let_7 (Or.inl rfl) rfl (ly8_k La0_h1) ?_
  refine mx_nmI  (fun h2 eh2 Xh2 Kh2 Lh2 => ?_)
  have H := H h2 eh2 Xh2
  have Kh2 := Kh2.trans Kh1
  have Lh2 := Lh2.trans Lh1
  have La0_h2 := La0_h1.ext Xh2
  refine mx_aload_n dX8_let_10 rfl rfl ?_
  refine mx_iload_n dX8_let_11 rfl rfl ?_
  refine mx_callV 8 (y' := mi_X8_isFarm) (vs := [iv x1]) (st := []) (al' := [some (rv a0), some (iv x1)]) cl_8 V_X8_isFarm (Or.inl q2014) dX8_let_12 rfl rfl (Nat.le_of_ble_eq_true rfl) (Nat.le_of_ble_eq_true rfl) (ly8_k La0_h2) ?_
  refine mx_iload_n dX8_isFarm_0 rfl rfl ?_
  refine mx_i2l dX8_isFarm_1 ?_
  refine mx_lconst dX8_isFarm_2 lc_0 ?_
  refine mx_aload_n dX8_isFarm_3 rfl rfl ?_
  refine mx_get 8 5 (ref := "PrairiePoolModel") cl_8 (Nat.le_of_ble_eq_true rfl) (Or.inl q1632) (Or.inl rfl) dX8_isFarm_4 (fv_8_5 _ _) (ly8_k La0_h2) ?_
  refine mx_ti ((ah_skIK eh2 (by decide)).trans (ah_skIK eh1 (by decide))) ?_
  refine mx_iconst dX8_isFarm_7 ic_1 ?_
  refine mx_isub dX8_isFarm_8 ?_
  refine mx_i2l dX8_isFarm_9 ?_
  refine mx_callS (y' := mi_X8_isIn) (vs := [jv x1.toInt64, jv (0 : Int64), jv ((ah_I h a0 5) - (1 : Int32)).toInt64]) (st := []) (al' := [some (jv x1.toInt64), none, some (jv (0 : Int64)), none, some (jv ((ah_I h a0 5) - (1 : Int32)).toInt64), none]) S_X8_isIn q1996 dX8_isFarm_10 rfl rfl (Nat.le_of_ble_eq_true rfl) (Nat.le_of_ble_eq_true rfl) ?_
  refine mx_lload_n dX8_isIn_0 rfl rfl ?_
  refine mx_lload_n dX8_isIn_1 rfl rfl ?_
  refine mx_lif_lt (tgt := 17) dX8_isIn_2 dX8_isIn_3 rfl (fun c3 => ?_) (fun c3 => ?_)
  · have H := H.1 c3
    refine mx_iconst dX8_isIn_17 ic_0 ?_
    refine mx_zretK rfl dX8_isIn_18 (Or.inl rfl) ?_
    refine mx_zretK rfl dX8_isFarm_13 (Or.inl rfl) ?_
    refine mx_if_ne (tgt := 24) dX8_let_15 rfl (fun _ => absurd ‹_› (by decide)) (fun _ => ?_)
    refine mx_aload_n dX8_let_18 rfl rfl ?_
    refine mx_iconst dX8_let_19 ic_2 ?_
    refine mx_callV 8 (y' := mi_X8_no) (vs := [iv (2 : Int32)]) (st := []) (al' := [some (rv a0), some (iv (2 : Int32))]) cl_8 V_X8_no (Or.inl q1963) dX8_let_20 rfl rfl (Nat.le_of_ble_eq_true rfl) (Nat.le_of_ble_eq_true rfl) (ly8_k La0_h2) ?_
    refine mx_aload_n dX8_no_0 rfl rfl ?_
    refine mx_iload_n dX8_no_1 rfl rfl ?_
    refine mx_putI 8 0 (ref := "PrairiePoolModel") cl_8 (Nat.le_of_ble_eq_true rfl) (Or.inl q1627) (Or.inl rfl) dX8_no_2 (Or.inl rfl) rfl (ly8_k La0_h2) ?_
    refine mx_nmI  (fun h4 eh4 Xh4 Kh4 Lh4 => ?_)
    have H := H h4 eh4 Xh4
    have Kh4 := Kh4.trans Kh2
    have Lh4 := Lh4.trans Lh2
    have La0_h4 := La0_h2.ext Xh4
    refine mx_iconst dX8_no_5 ic_0 ?_
    refine mx_zretK rfl dX8_no_6 (Or.inl rfl) ?_
    exact mx_zret rfl dX8_let_23 (Or.inl rfl) H
  · have H := H.2 c3
    refine mx_lload_n dX8_isIn_6 rfl rfl ?_
    refine mx_lload dX8_isIn_7 rfl ?_
    refine mx_lif_gt (tgt := 17) dX8_isIn_9 dX8_isIn_10 rfl (fun c5 => ?_) (fun c5 => ?_)
    · have H := H.1 c5
      refine mx_iconst dX8_isIn_17 ic_0 ?_
      refine mx_zretK rfl dX8_isIn_18 (Or.inl rfl) ?_
      refine mx_zretK rfl dX8_isFarm_13 (Or.inl rfl) ?_
      refine mx_if_ne (tgt := 24) dX8_let_15 rfl (fun _ => absurd ‹_› (by decide)) (fun _ => ?_)
      refine mx_aload_n dX8_let_18 rfl rfl ?_
      refine mx_iconst dX8_let_19 ic_2 ?_
      refine mx_callV 8 (y' := mi_X8_no) (vs := [iv (2 : Int32)]) (st := []) (al' := [some (rv a0), some (iv (2 : Int32))]) cl_8 V_X8_no (Or.inl q1963) dX8_let_20 rfl rfl (Nat.le_of_ble_eq_true rfl) (Nat.le_of_ble_eq_true rfl) (ly8_k La0_h2) ?_
      refine mx_aload_n dX8_no_0 rfl rfl ?_
      refine mx_iload_n dX8_no_1 rfl rfl ?_
      refine mx_putI 8 0 (ref := "PrairiePoolModel") cl_8 (Nat.le_of_ble_eq_true rfl) (Or.inl q1627) (Or.inl rfl) dX8_no_2 (Or.inl rfl) rfl (ly8_k La0_h2) ?_
      refine mx_nmI  (fun h6 eh6 Xh6 Kh6 Lh6 => ?_)
      have H := H h6 eh6 Xh6
      have Kh6 := Kh6.trans Kh2
      have Lh6 := Lh6.trans Lh2
      have La0_h6 := La0_h2.ext Xh6
      refine mx_iconst dX8_no_5 ic_0 ?_
      refine mx_zretK rfl dX8_no_6 (Or.inl rfl) ?_
      exact mx_zret rfl dX8_let_23 (Or.inl rfl) H
    · have H := H.2 c5
      refine mx_iconst dX8_isIn_13 ic_1 ?_
      refine mx_goto (tgt := 18) dX8_isIn_14 rfl ?_
      refine mx_zretK rfl dX8_isIn_18 (Or.inr rfl) ?_
      refine mx_zretK rfl dX8_isFarm_13 (Or.inr rfl) ?_
      refine mx_if_ne (tgt := 24) dX8_let_15 rfl (fun _ => ?_) (fun _ => absurd ‹_› (by decide))
      refine mx_iload_n dX8_let_24 rfl rfl ?_
      refine mx_callS (y' := mi_X8_isYear) (vs := [iv x2]) (st := []) (al' := [some (iv x2)]) S_X8_isYear q2039 dX8_let_25 rfl rfl (Nat.le_of_ble_eq_true rfl) (Nat.le_of_ble_eq_true rfl) ?_
      refine mx_iload_n dX8_isYear_0 rfl rfl ?_
      refine mx_i2l dX8_isYear_1 ?_
      refine mx_lconst dX8_isYear_2 lc_0 ?_
      refine mx_ldc2 q2042 dX8_isYear_3 ?_
      refine mx_callS (y' := mi_X8_isIn) (vs := [jv x2.toInt64, jv (0 : Int64), jv (9 : Int64)]) (st := []) (al' := [some (jv x2.toInt64), none, some (jv (0 : Int64)), none, some (jv (9 : Int64)), none]) S_X8_isIn q1996 dX8_isYear_6 rfl rfl (Nat.le_of_ble_eq_true rfl) (Nat.le_of_ble_eq_true rfl) ?_
      refine mx_lload_n dX8_isIn_0 rfl rfl ?_
      refine mx_lload_n dX8_isIn_1 rfl rfl ?_
      refine mx_lif_lt (tgt := 17) dX8_isIn_2 dX8_isIn_3 rfl (fun c7 => ?_) (fun c7 => ?_)
      · have H := H.1 c7
        refine mx_iconst dX8_isIn_17 ic_0 ?_
        refine mx_zretK rfl dX8_isIn_18 (Or.inl rfl) ?_
        refine mx_zretK rfl dX8_isYear_9 (Or.inl rfl) ?_
        refine mx_if_ne (tgt := 37) dX8_let_28 rfl (fun _ => absurd ‹_› (by decide)) (fun _ => ?_)
        refine mx_aload_n dX8_let_31 rfl rfl ?_
        refine mx_iconst dX8_let_32 ic_5 ?_
        refine mx_callV 8 (y' := mi_X8_no) (vs := [iv (5 : Int32)]) (st := []) (al' := [some (rv a0), some (iv (5 : Int32))]) cl_8 V_X8_no (Or.inl q1963) dX8_let_33 rfl rfl (Nat.le_of_ble_eq_true rfl) (Nat.le_of_ble_eq_true rfl) (ly8_k La0_h2) ?_
        refine mx_aload_n dX8_no_0 rfl rfl ?_
        refine mx_iload_n dX8_no_1 rfl rfl ?_
        refine mx_putI 8 0 (ref := "PrairiePoolModel") cl_8 (Nat.le_of_ble_eq_true rfl) (Or.inl q1627) (Or.inl rfl) dX8_no_2 (Or.inl rfl) rfl (ly8_k La0_h2) ?_
        refine mx_nmI  (fun h8 eh8 Xh8 Kh8 Lh8 => ?_)
        have H := H h8 eh8 Xh8
        have Kh8 := Kh8.trans Kh2
        have Lh8 := Lh8.trans Lh2
        have La0_h8 := La0_h2.ext Xh8
        refine mx_iconst dX8_no_5 ic_0 ?_
        refine mx_zretK rfl dX8_no_6 (Or.inl rfl) ?_
        exact mx_zret rfl dX8_let_36 (Or.inl rfl) H
      · have H := H.2 c7
        refine mx_lload_n dX8_isIn_6 rfl rfl ?_
        refine mx_lload dX8_isIn_7 rfl ?_
        refine mx_lif_gt (tgt := 17) dX8_isIn_9 dX8_isIn_10 rfl (fun c9 => ?_) (fun c9 => ?_)
        · have H := H.1 c9
          refine mx_iconst dX8_isIn_17 ic_0 ?_
          refine mx_zretK rfl dX8_isIn_18 (Or.inl rfl) ?_
          refine mx_zretK rfl dX8_isYear_9 (Or.inl rfl) ?_
          refine mx_if_ne (tgt := 37) dX8_let_28 rfl (fun _ => absurd ‹_› (by decide)) (fun _ => ?_)
          refine mx_aload_n dX8_let_31 rfl rfl ?_
          refine mx_iconst dX8_let_32 ic_5 ?_
          refine mx_callV 8 (y' := mi_X8_no) (vs := [iv (5 : Int32)]) (st := []) (al' := [some (rv a0), some (iv (5 : Int32))]) cl_8 V_X8_no (Or.inl q1963) dX8_let_33 rfl rfl (Nat.le_of_ble_eq_true rfl) (Nat.le_of_ble_eq_true rfl) (ly8_k La0_h2) ?_
          refine mx_aload_n dX8_no_0 rfl rfl ?_
          refine mx_iload_n dX8_no_1 rfl rfl ?_
          refine mx_putI 8 0 (ref := "PrairiePoolModel") cl_8 (Nat.le_of_ble_eq_true rfl) (Or.inl q1627) (Or.inl rfl) dX8_no_2 (Or.inl rfl) rfl (ly8_k La0_h2) ?_
          refine mx_nmI  (fun h10 eh10 Xh10 Kh10 Lh10 => ?_)
          have H := H h10 eh10 Xh10
          have Kh10 := Kh10.trans Kh2
          have Lh10 := Lh10.trans Lh2
          have La0_h10 := La0_h2.ext Xh10
          refine mx_iconst dX8_no_5 ic_0 ?_
          refine mx_zretK rfl dX8_no_6 (Or.inl rfl) ?_
          exact mx_zret rfl dX8_let_36 (Or.inl rfl) H
        · have H := H.2 c9
          refine mx_iconst dX8_isIn_13 ic_1 ?_
          refine mx_goto (tgt := 18) dX8_isIn_14 rfl ?_
          refine mx_zretK rfl dX8_isIn_18 (Or.inr rfl) ?_
          refine mx_zretK rfl dX8_isYear_9 (Or.inr rfl) ?_
          refine mx_if_ne (tgt := 37) dX8_let_28 rfl (fun _ => ?_) (fun _ => absurd ‹_› (by decide))
          refine mx_aload_n dX8_let_37 rfl rfl ?_
          refine mx_get 8 87 (ref := "PrairiePoolModel") cl_8 (Nat.le_of_ble_eq_true rfl) (Or.inl q1714) (Or.inl rfl) dX8_let_38 (fv_8_87 _ _) (ly8_k La0_h2) ?_
          refine mx_tr (ly8_R_0_87 La0_h2) ?_
          refine mx_bipush dX8_let_41 ib_10 ?_
          refine mx_iload_n dX8_let_43 rfl rfl ?_
          refine mx_imul dX8_let_44 ?_
          refine mx_iload_n dX8_let_45 rfl rfl ?_
          refine mx_iadd dX8_let_46 ?_
          refine mx_iload_n dX8_let_47 rfl rfl ?_
          obtain ⟨k11, H⟩ := H
          refine my_zast dX8_let_48 rfl (ly8_A_61 La0_h2 k11) ?_
          refine mx_nmI  (fun h12 eh12 Xh12 Kh12 Lh12 => ?_)
          have H := H h12 eh12 Xh12
          have Kh12 := Kh12.trans Kh2
          have Lh12 := Lh12.trans Lh2
          have La0_h12 := La0_h2.ext Xh12
          refine mx_iconst dX8_let_49 ic_1 ?_
          exact mx_zret rfl dX8_let_50 (Or.inr rfl) H
theorem dX8_outside_0 : decode mi_X8_outside.2.1 0 = .ok (.aload_n 0, 1) := by decide +kernel
theorem dX8_outside_1 : decode mi_X8_outside.2.1 1 = .ok (.iconst 0, 1) := by decide +kernel
theorem dX8_outside_2 : decode mi_X8_outside.2.1 2 = .ok (.putfield 257, 3) := by decide +kernel
theorem dX8_outside_5 : decode mi_X8_outside.2.1 5 = .ok (.aload_n 0, 1) := by decide +kernel
theorem dX8_outside_6 : decode mi_X8_outside.2.1 6 = .ok (.iconst 0, 1) := by decide +kernel
theorem dX8_outside_7 : decode mi_X8_outside.2.1 7 = .ok (.putfield 260, 3) := by decide +kernel
theorem dX8_outside_10 : decode mi_X8_outside.2.1 10 = .ok (.aload_n 0, 1) := by decide +kernel
theorem dX8_outside_11 : decode mi_X8_outside.2.1 11 = .ok (.iload_n 1, 1) := by decide +kernel
theorem dX8_outside_12 : decode mi_X8_outside.2.1 12 = .ok (.invokevirtual 318, 3) := by decide +kernel
theorem dX8_outside_15 : decode mi_X8_outside.2.1 15 = .ok (.ifCond .ne 9, 3) := by decide +kernel
theorem dX8_outside_18 : decode mi_X8_outside.2.1 18 = .ok (.aload_n 0, 1) := by decide +kernel
theorem dX8_outside_19 : decode mi_X8_outside.2.1 19 = .ok (.iconst 2, 1) := by decide +kernel
theorem dX8_outside_20 : decode mi_X8_outside.2.1 20 = .ok (.invokevirtual 297, 3) := by decide +kernel
theorem dX8_outside_23 : decode mi_X8_outside.2.1 23 = .ok (.ireturn, 1) := by decide +kernel
theorem dX8_outside_24 : decode mi_X8_outside.2.1 24 = .ok (.iload_n 2, 1) := by decide +kernel
theorem dX8_outside_25 : decode mi_X8_outside.2.1 25 = .ok (.invokestatic 306, 3) := by decide +kernel
theorem dX8_outside_28 : decode mi_X8_outside.2.1 28 = .ok (.ifCond .eq 28, 3) := by decide +kernel
theorem dX8_outside_31 : decode mi_X8_outside.2.1 31 = .ok (.iload_n 3, 1) := by decide +kernel
theorem dX8_outside_32 : decode mi_X8_outside.2.1 32 = .ok (.i2l, 1) := by decide +kernel
theorem dX8_outside_33 : decode mi_X8_outside.2.1 33 = .ok (.lconst 1, 1) := by decide +kernel
theorem dX8_outside_34 : decode mi_X8_outside.2.1 34 = .ok (.ldc2_w 324, 3) := by decide +kernel
theorem dX8_outside_37 : decode mi_X8_outside.2.1 37 = .ok (.invokestatic 265, 3) := by decide +kernel
theorem dX8_outside_40 : decode mi_X8_outside.2.1 40 = .ok (.ifCond .eq 16, 3) := by decide +kernel
theorem dX8_outside_43 : decode mi_X8_outside.2.1 43 = .ok (.iload 4, 2) := by decide +kernel
theorem dX8_outside_45 : decode mi_X8_outside.2.1 45 = .ok (.i2l, 1) := by decide +kernel
theorem dX8_outside_46 : decode mi_X8_outside.2.1 46 = .ok (.lconst 0, 1) := by decide +kernel
theorem dX8_outside_47 : decode mi_X8_outside.2.1 47 = .ok (.ldc2_w 326, 3) := by decide +kernel
theorem dX8_outside_50 : decode mi_X8_outside.2.1 50 = .ok (.invokestatic 265, 3) := by decide +kernel
theorem dX8_outside_53 : decode mi_X8_outside.2.1 53 = .ok (.ifCond .ne 9, 3) := by decide +kernel
theorem dX8_outside_56 : decode mi_X8_outside.2.1 56 = .ok (.aload_n 0, 1) := by decide +kernel
theorem dX8_outside_57 : decode mi_X8_outside.2.1 57 = .ok (.iconst 5, 1) := by decide +kernel
theorem dX8_outside_58 : decode mi_X8_outside.2.1 58 = .ok (.invokevirtual 297, 3) := by decide +kernel
theorem dX8_outside_61 : decode mi_X8_outside.2.1 61 = .ok (.ireturn, 1) := by decide +kernel
theorem dX8_outside_62 : decode mi_X8_outside.2.1 62 = .ok (.aload_n 0, 1) := by decide +kernel
theorem dX8_outside_63 : decode mi_X8_outside.2.1 63 = .ok (.getfield 629, 3) := by decide +kernel
theorem dX8_outside_66 : decode mi_X8_outside.2.1 66 = .ok (.bipush 60, 2) := by decide +kernel
theorem dX8_outside_68 : decode mi_X8_outside.2.1 68 = .ok (.if_icmp .ne 10, 3) := by decide +kernel
theorem dX8_outside_71 : decode mi_X8_outside.2.1 71 = .ok (.aload_n 0, 1) := by decide +kernel
theorem dX8_outside_72 : decode mi_X8_outside.2.1 72 = .ok (.bipush 7, 2) := by decide +kernel
theorem dX8_outside_74 : decode mi_X8_outside.2.1 74 = .ok (.invokevirtual 297, 3) := by decide +kernel
theorem dX8_outside_77 : decode mi_X8_outside.2.1 77 = .ok (.ireturn, 1) := by decide +kernel
theorem dX8_outside_78 : decode mi_X8_outside.2.1 78 = .ok (.aload_n 0, 1) := by decide +kernel
theorem dX8_outside_79 : decode mi_X8_outside.2.1 79 = .ok (.getfield 185, 3) := by decide +kernel
theorem dX8_outside_82 : decode mi_X8_outside.2.1 82 = .ok (.aload_n 0, 1) := by decide +kernel
theorem dX8_outside_83 : decode mi_X8_outside.2.1 83 = .ok (.getfield 629, 3) := by decide +kernel
theorem dX8_outside_86 : decode mi_X8_outside.2.1 86 = .ok (.iload_n 1, 1) := by decide +kernel
theorem dX8_outside_87 : decode mi_X8_outside.2.1 87 = .ok (.iastore, 1) := by decide +kernel
theorem dX8_outside_88 : decode mi_X8_outside.2.1 88 = .ok (.aload_n 0, 1) := by decide +kernel
theorem dX8_outside_89 : decode mi_X8_outside.2.1 89 = .ok (.getfield 188, 3) := by decide +kernel
theorem dX8_outside_92 : decode mi_X8_outside.2.1 92 = .ok (.aload_n 0, 1) := by decide +kernel
theorem dX8_outside_93 : decode mi_X8_outside.2.1 93 = .ok (.getfield 629, 3) := by decide +kernel
theorem dX8_outside_96 : decode mi_X8_outside.2.1 96 = .ok (.iload_n 2, 1) := by decide +kernel
theorem dX8_outside_97 : decode mi_X8_outside.2.1 97 = .ok (.iastore, 1) := by decide +kernel
theorem dX8_outside_98 : decode mi_X8_outside.2.1 98 = .ok (.aload_n 0, 1) := by decide +kernel
theorem dX8_outside_99 : decode mi_X8_outside.2.1 99 = .ok (.getfield 191, 3) := by decide +kernel
theorem dX8_outside_102 : decode mi_X8_outside.2.1 102 = .ok (.aload_n 0, 1) := by decide +kernel
theorem dX8_outside_103 : decode mi_X8_outside.2.1 103 = .ok (.getfield 629, 3) := by decide +kernel
theorem dX8_outside_106 : decode mi_X8_outside.2.1 106 = .ok (.iload_n 3, 1) := by decide +kernel
theorem dX8_outside_107 : decode mi_X8_outside.2.1 107 = .ok (.iastore, 1) := by decide +kernel
theorem dX8_outside_108 : decode mi_X8_outside.2.1 108 = .ok (.aload_n 0, 1) := by decide +kernel
theorem dX8_outside_109 : decode mi_X8_outside.2.1 109 = .ok (.getfield 194, 3) := by decide +kernel
theorem dX8_outside_112 : decode mi_X8_outside.2.1 112 = .ok (.aload_n 0, 1) := by decide +kernel
theorem dX8_outside_113 : decode mi_X8_outside.2.1 113 = .ok (.getfield 629, 3) := by decide +kernel
theorem dX8_outside_116 : decode mi_X8_outside.2.1 116 = .ok (.iload 4, 2) := by decide +kernel
theorem dX8_outside_118 : decode mi_X8_outside.2.1 118 = .ok (.iastore, 1) := by decide +kernel
theorem dX8_outside_119 : decode mi_X8_outside.2.1 119 = .ok (.aload_n 0, 1) := by decide +kernel
theorem dX8_outside_120 : decode mi_X8_outside.2.1 120 = .ok (.dup, 1) := by decide +kernel
theorem dX8_outside_121 : decode mi_X8_outside.2.1 121 = .ok (.getfield 629, 3) := by decide +kernel
theorem dX8_outside_124 : decode mi_X8_outside.2.1 124 = .ok (.iconst 1, 1) := by decide +kernel
theorem dX8_outside_125 : decode mi_X8_outside.2.1 125 = .ok (.iadd, 1) := by decide +kernel
theorem dX8_outside_126 : decode mi_X8_outside.2.1 126 = .ok (.putfield 629, 3) := by decide +kernel
theorem dX8_outside_129 : decode mi_X8_outside.2.1 129 = .ok (.aload_n 0, 1) := by decide +kernel
theorem dX8_outside_130 : decode mi_X8_outside.2.1 130 = .ok (.getfield 629, 3) := by decide +kernel
theorem dX8_outside_133 : decode mi_X8_outside.2.1 133 = .ok (.iconst 1, 1) := by decide +kernel
theorem dX8_outside_134 : decode mi_X8_outside.2.1 134 = .ok (.isub, 1) := by decide +kernel
theorem dX8_outside_135 : decode mi_X8_outside.2.1 135 = .ok (.ireturn, 1) := by decide +kernel
theorem v_X8_outside {G : ma_G} {d : Nat} {a0 : Nat} {x1 : Int32} {x2 : Int32} {x3 : Int32} {x4 : Int32} {h : ah_T} {Q : Option ma_V → ah_T → Prop} {E : Nat → ah_T → Prop} (La0_h : LY8 h a0) (H : ∀ h1 : ah_T, h1 = ah_wI h a0 1 (0 : Int32) → ah_ext h h1 → ∀ h2 : ah_T, h2 = ah_wI h1 a0 0 (0 : Int32) → ah_ext h1 h2 → (x1.toInt64 < (0 : Int64) → ∀ h4 : ah_T, h4 = ah_wI h2 a0 0 (2 : Int32) → ah_ext h2 h4 → Q (some (iv (-1 : Int32))) h4) ∧ (¬ x1.toInt64 < (0 : Int64) → (((ah_I h a0 5) - (1 : Int32)).toInt64 < x1.toInt64 → ∀ h6 : ah_T, h6 = ah_wI h2 a0 0 (2 : Int32) → ah_ext h2 h6 → Q (some (iv (-1 : Int32))) h6) ∧ (¬ ((ah_I h a0 5) - (1 : Int32)).toInt64 < x1.toInt64 → (x2.toInt64 < (0 : Int64) → ∀ h8 : ah_T, h8 = ah_wI h2 a0 0 (5 : Int32) → ah_ext h2 h8 → Q (some (iv (-1 : Int32))) h8) ∧ (¬ x2.toInt64 < (0 : Int64) → ((519 : Int64) < x2.toInt64 → ∀ h10 : ah_T, h10 = ah_wI h2 a0 0 (5 : Int32) → ah_ext h2 h10 → Q (some (iv (-1 : Int32))) h10) ∧ (¬ (519 : Int64) < x2.toInt64 → (x3.toInt64 < (1 : Int64) → ∀ h12 : ah_T, h12 = ah_wI h2 a0 0 (5 : Int32) → ah_ext h2 h12 → Q (some (iv (-1 : Int32))) h12) ∧ (¬ x3.toInt64 < (1 : Int64) → ((10000 : Int64) < x3.toInt64 → ∀ h14 : ah_T, h14 = ah_wI h2 a0 0 (5 : Int32) → ah_ext h2 h14 → Q (some (iv (-1 : Int32))) h14) ∧ (¬ (10000 : Int64) < x3.toInt64 → (x4.toInt64 < (0 : Int64) → ∀ h16 : ah_T, h16 = ah_wI h2 a0 0 (5 : Int32) → ah_ext h2 h16 → Q (some (iv (-1 : Int32))) h16) ∧ (¬ x4.toInt64 < (0 : Int64) → ((1000 : Int64) < x4.toInt64 → ∀ h18 : ah_T, h18 = ah_wI h2 a0 0 (5 : Int32) → ah_ext h2 h18 → Q (some (iv (-1 : Int32))) h18) ∧ (¬ (1000 : Int64) < x4.toInt64 → (¬ (ah_I h a0 88) = (60 : Int32) → vp_in (ah_I h a0 88) 60 ∧ ∀ h21 : ah_T, h21 = ah_wI h2 (a0 + 56) (ah_I h a0 88).toNatClampNeg x1 → ah_ext h2 h21 → ∀ h22 : ah_T, h22 = ah_wI h21 (a0 + 57) (ah_I h a0 88).toNatClampNeg x2 → ah_ext h21 h22 → ∀ h23 : ah_T, h23 = ah_wI h22 (a0 + 58) (ah_I h a0 88).toNatClampNeg x3 → ah_ext h22 h23 → ∀ h24 : ah_T, h24 = ah_wI h23 (a0 + 59) (ah_I h a0 88).toNatClampNeg x4 → ah_ext h23 h24 → ∀ h25 : ah_T, h25 = ah_wI h24 a0 88 ((ah_I h a0 88) + (1 : Int32)) → ah_ext h24 h25 → Q (some (iv (((ah_I h a0 88) + (1 : Int32)) - (1 : Int32)))) h25) ∧ ((ah_I h a0 88) = (60 : Int32) → ∀ h26 : ah_T, h26 = ah_wI h2 a0 0 (7 : Int32) → ah_ext h2 h26 → Q (some (iv (-1 : Int32))) h26)))))))))) : MX G mi_X8_outside (d + 2) 0 [some (rv a0), some (iv x1), some (iv x2), some (iv x3), some (iv x4)] [] h Q E := by
  refine mx_aload_n dX8_outside_0 rfl rfl ?_
  refine mx_iconst dX8_outside_1 ic_0 ?_
  refine mx_putI 8 1 (ref := "PrairiePoolModel") cl_8 (Nat.le_of_ble_eq_true rfl) (Or.inl q1628) (Or.inl rfl) dX8_outside_2 (Or.inl rfl) rfl (ly8_k La0_h) ?_
  refine mx_nmI  (fun h1 eh1 Xh1 Kh1 Lh1 => ?_)
  have H := H h1 eh1 Xh1
  have La0_h1 := La0_h.ext Xh1
  refine mx_aload_n dX8_outside_5 rfl rfl ?_
  refine mx_iconst dX8_outside_6 ic_0 ?_
  refine mx_putI 8 0 (ref := "PrairiePoolModel") cl_8 (Nat.le_of_ble_eq_true rfl) (Or.inl q1627) (Or.inl rfl) dX8_outside_7 (Or.inl rfl) rfl (ly8_k La0_h1) ?_
  refine mx_nmI  (fun h2 eh2 Xh2 Kh2 Lh2 => ?_)
  have H := H h2 eh2 Xh2
  have Kh2 := Kh2.trans Kh1
  have Lh2 := Lh2.trans Lh1
  have La0_h2 := La0_h1.ext Xh2
  refine mx_aload_n dX8_outside_10 rfl rfl ?_
  refine mx_iload_n dX8_outside_11 rfl rfl ?_
  refine mx_callV 8 (y' := mi_X8_isFarm) (vs := [iv x1]) (st := []) (al' := [some (rv a0), some (iv x1)]) cl_8 V_X8_isFarm (Or.inl q2014) dX8_outside_12 rfl rfl (Nat.le_of_ble_eq_true rfl) (Nat.le_of_ble_eq_true rfl) (ly8_k La0_h2) ?_
  refine mx_iload_n dX8_isFarm_0 rfl rfl ?_
  refine mx_i2l dX8_isFarm_1 ?_
  refine mx_lconst dX8_isFarm_2 lc_0 ?_
  refine mx_aload_n dX8_isFarm_3 rfl rfl ?_
  refine mx_get 8 5 (ref := "PrairiePoolModel") cl_8 (Nat.le_of_ble_eq_true rfl) (Or.inl q1632) (Or.inl rfl) dX8_isFarm_4 (fv_8_5 _ _) (ly8_k La0_h2) ?_
  refine mx_ti ((ah_skIK eh2 (by decide)).trans (ah_skIK eh1 (by decide))) ?_
  refine mx_iconst dX8_isFarm_7 ic_1 ?_
  refine mx_isub dX8_isFarm_8 ?_
  refine mx_i2l dX8_isFarm_9 ?_
  refine mx_callS (y' := mi_X8_isIn) (vs := [jv x1.toInt64, jv (0 : Int64), jv ((ah_I h a0 5) - (1 : Int32)).toInt64]) (st := []) (al' := [some (jv x1.toInt64), none, some (jv (0 : Int64)), none, some (jv ((ah_I h a0 5) - (1 : Int32)).toInt64), none]) S_X8_isIn q1996 dX8_isFarm_10 rfl rfl (Nat.le_of_ble_eq_true rfl) (Nat.le_of_ble_eq_true rfl) ?_
  refine mx_lload_n dX8_isIn_0 rfl rfl ?_
  refine mx_lload_n dX8_isIn_1 rfl rfl ?_
  refine mx_lif_lt (tgt := 17) dX8_isIn_2 dX8_isIn_3 rfl (fun c3 => ?_) (fun c3 => ?_)
  · have H := H.1 c3
    refine mx_iconst dX8_isIn_17 ic_0 ?_
    refine mx_zretK rfl dX8_isIn_18 (Or.inl rfl) ?_
    refine mx_zretK rfl dX8_isFarm_13 (Or.inl rfl) ?_
    refine mx_if_ne (tgt := 24) dX8_outside_15 rfl (fun _ => absurd ‹_› (by decide)) (fun _ => ?_)
    refine mx_aload_n dX8_outside_18 rfl rfl ?_
    refine mx_iconst dX8_outside_19 ic_2 ?_
    refine mx_callV 8 (y' := mi_X8_refuse) (vs := [iv (2 : Int32)]) (st := []) (al' := [some (rv a0), some (iv (2 : Int32))]) cl_8 V_X8_refuse (Or.inl q1999) dX8_outside_20 rfl rfl (Nat.le_of_ble_eq_true rfl) (Nat.le_of_ble_eq_true rfl) (ly8_k La0_h2) ?_
    refine mx_aload_n dX8_refuse_0 rfl rfl ?_
    refine mx_iload_n dX8_refuse_1 rfl rfl ?_
    refine mx_putI 8 0 (ref := "PrairiePoolModel") cl_8 (Nat.le_of_ble_eq_true rfl) (Or.inl q1627) (Or.inl rfl) dX8_refuse_2 (Or.inl rfl) rfl (ly8_k La0_h2) ?_
    refine mx_nmI  (fun h4 eh4 Xh4 Kh4 Lh4 => ?_)
    have H := H h4 eh4 Xh4
    have Kh4 := Kh4.trans Kh2
    have Lh4 := Lh4.trans Lh2
    have La0_h4 := La0_h2.ext Xh4
    refine mx_iconst dX8_refuse_5 ic_m1 ?_
    refine mx_iretK rfl dX8_refuse_6 ?_
    exact mx_iret rfl dX8_outside_23 H
  · have H := H.2 c3
    refine mx_lload_n dX8_isIn_6 rfl rfl ?_
    refine mx_lload dX8_isIn_7 rfl ?_
    refine mx_lif_gt (tgt := 17) dX8_isIn_9 dX8_isIn_10 rfl (fun c5 => ?_) (fun c5 => ?_)
    · have H := H.1 c5
      refine mx_iconst dX8_isIn_17 ic_0 ?_
      refine mx_zretK rfl dX8_isIn_18 (Or.inl rfl) ?_
      refine mx_zretK rfl dX8_isFarm_13 (Or.inl rfl) ?_
      refine mx_if_ne (tgt := 24) dX8_outside_15 rfl (fun _ => absurd ‹_› (by decide)) (fun _ => ?_)
      refine mx_aload_n dX8_outside_18 rfl rfl ?_
      refine mx_iconst dX8_outside_19 ic_2 ?_
      refine mx_callV 8 (y' := mi_X8_refuse) (vs := [iv (2 : Int32)]) (st := []) (al' := [some (rv a0), some (iv (2 : Int32))]) cl_8 V_X8_refuse (Or.inl q1999) dX8_outside_20 rfl rfl (Nat.le_of_ble_eq_true rfl) (Nat.le_of_ble_eq_true rfl) (ly8_k La0_h2) ?_
      refine mx_aload_n dX8_refuse_0 rfl rfl ?_
      refine mx_iload_n dX8_refuse_1 rfl rfl ?_
      refine mx_putI 8 0 (ref := "PrairiePoolModel") cl_8 (Nat.le_of_ble_eq_true rfl) (Or.inl q1627) (Or.inl rfl) dX8_refuse_2 (Or.inl rfl) rfl (ly8_k La0_h2) ?_
      refine mx_nmI  (fun h6 eh6 Xh6 Kh6 Lh6 => ?_)
      have H := H h6 eh6 Xh6
      have Kh6 := Kh6.trans Kh2
      have Lh6 := Lh6.trans Lh2
      have La0_h6 := La0_h2.ext Xh6
      refine mx_iconst dX8_refuse_5 ic_m1 ?_
      refine mx_iretK rfl dX8_refuse_6 ?_
      exact mx_iret rfl dX8_outside_23 H
    · have H := H.2 c5
      refine mx_iconst dX8_isIn_13 ic_1 ?_
      refine mx_goto (tgt := 18) dX8_isIn_14 rfl ?_
      refine mx_zretK rfl dX8_isIn_18 (Or.inr rfl) ?_
      refine mx_zretK rfl dX8_isFarm_13 (Or.inr rfl) ?_
      refine mx_if_ne (tgt := 24) dX8_outside_15 rfl (fun _ => ?_) (fun _ => absurd ‹_› (by decide))
      refine mx_iload_n dX8_outside_24 rfl rfl ?_
      refine mx_callS (y' := mi_X8_isDay) (vs := [iv x2]) (st := []) (al' := [some (iv x2)]) S_X8_isDay q2028 dX8_outside_25 rfl rfl (Nat.le_of_ble_eq_true rfl) (Nat.le_of_ble_eq_true rfl) ?_
      refine mx_iload_n dX8_isDay_0 rfl rfl ?_
      refine mx_i2l dX8_isDay_1 ?_
      refine mx_lconst dX8_isDay_2 lc_0 ?_
      refine mx_ldc2 q2031 dX8_isDay_3 ?_
      refine mx_callS (y' := mi_X8_isIn) (vs := [jv x2.toInt64, jv (0 : Int64), jv (519 : Int64)]) (st := []) (al' := [some (jv x2.toInt64), none, some (jv (0 : Int64)), none, some (jv (519 : Int64)), none]) S_X8_isIn q1996 dX8_isDay_6 rfl rfl (Nat.le_of_ble_eq_true rfl) (Nat.le_of_ble_eq_true rfl) ?_
      refine mx_lload_n dX8_isIn_0 rfl rfl ?_
      refine mx_lload_n dX8_isIn_1 rfl rfl ?_
      refine mx_lif_lt (tgt := 17) dX8_isIn_2 dX8_isIn_3 rfl (fun c7 => ?_) (fun c7 => ?_)
      · have H := H.1 c7
        refine mx_iconst dX8_isIn_17 ic_0 ?_
        refine mx_zretK rfl dX8_isIn_18 (Or.inl rfl) ?_
        refine mx_zretK rfl dX8_isDay_9 (Or.inl rfl) ?_
        refine mx_if_eq (tgt := 56) dX8_outside_28 rfl (fun _ => ?_) (fun _ => absurd ‹_› (by decide))
        refine mx_aload_n dX8_outside_56 rfl rfl ?_
        refine mx_iconst dX8_outside_57 ic_5 ?_
        refine mx_callV 8 (y' := mi_X8_refuse) (vs := [iv (5 : Int32)]) (st := []) (al' := [some (rv a0), some (iv (5 : Int32))]) cl_8 V_X8_refuse (Or.inl q1999) dX8_outside_58 rfl rfl (Nat.le_of_ble_eq_true rfl) (Nat.le_of_ble_eq_true rfl) (ly8_k La0_h2) ?_
        refine mx_aload_n dX8_refuse_0 rfl rfl ?_
        refine mx_iload_n dX8_refuse_1 rfl rfl ?_
        refine mx_putI 8 0 (ref := "PrairiePoolModel") cl_8 (Nat.le_of_ble_eq_true rfl) (Or.inl q1627) (Or.inl rfl) dX8_refuse_2 (Or.inl rfl) rfl (ly8_k La0_h2) ?_
        refine mx_nmI  (fun h8 eh8 Xh8 Kh8 Lh8 => ?_)
        have H := H h8 eh8 Xh8
        have Kh8 := Kh8.trans Kh2
        have Lh8 := Lh8.trans Lh2
        have La0_h8 := La0_h2.ext Xh8
        refine mx_iconst dX8_refuse_5 ic_m1 ?_
        refine mx_iretK rfl dX8_refuse_6 ?_
        exact mx_iret rfl dX8_outside_61 H
      · have H := H.2 c7
        refine mx_lload_n dX8_isIn_6 rfl rfl ?_
        refine mx_lload dX8_isIn_7 rfl ?_
        refine mx_lif_gt (tgt := 17) dX8_isIn_9 dX8_isIn_10 rfl (fun c9 => ?_) (fun c9 => ?_)
        · have H := H.1 c9
          refine mx_iconst dX8_isIn_17 ic_0 ?_
          refine mx_zretK rfl dX8_isIn_18 (Or.inl rfl) ?_
          refine mx_zretK rfl dX8_isDay_9 (Or.inl rfl) ?_
          refine mx_if_eq (tgt := 56) dX8_outside_28 rfl (fun _ => ?_) (fun _ => absurd ‹_› (by decide))
          refine mx_aload_n dX8_outside_56 rfl rfl ?_
          refine mx_iconst dX8_outside_57 ic_5 ?_
          refine mx_callV 8 (y' := mi_X8_refuse) (vs := [iv (5 : Int32)]) (st := []) (al' := [some (rv a0), some (iv (5 : Int32))]) cl_8 V_X8_refuse (Or.inl q1999) dX8_outside_58 rfl rfl (Nat.le_of_ble_eq_true rfl) (Nat.le_of_ble_eq_true rfl) (ly8_k La0_h2) ?_
          refine mx_aload_n dX8_refuse_0 rfl rfl ?_
          refine mx_iload_n dX8_refuse_1 rfl rfl ?_
          refine mx_putI 8 0 (ref := "PrairiePoolModel") cl_8 (Nat.le_of_ble_eq_true rfl) (Or.inl q1627) (Or.inl rfl) dX8_refuse_2 (Or.inl rfl) rfl (ly8_k La0_h2) ?_
          refine mx_nmI  (fun h10 eh10 Xh10 Kh10 Lh10 => ?_)
          have H := H h10 eh10 Xh10
          have Kh10 := Kh10.trans Kh2
          have Lh10 := Lh10.trans Lh2
          have La0_h10 := La0_h2.ext Xh10
          refine mx_iconst dX8_refuse_5 ic_m1 ?_
          refine mx_iretK rfl dX8_refuse_6 ?_
          exact mx_iret rfl dX8_outside_61 H
        · have H := H.2 c9
          refine mx_iconst dX8_isIn_13 ic_1 ?_
          refine mx_goto (tgt := 18) dX8_isIn_14 rfl ?_
          refine mx_zretK rfl dX8_isIn_18 (Or.inr rfl) ?_
          refine mx_zretK rfl dX8_isDay_9 (Or.inr rfl) ?_
          refine mx_if_eq (tgt := 56) dX8_outside_28 rfl (fun _ => absurd ‹_› (by decide)) (fun _ => ?_)
          refine mx_iload_n dX8_outside_31 rfl rfl ?_
          refine mx_i2l dX8_outside_32 ?_
          refine mx_lconst dX8_outside_33 lc_1 ?_
          refine mx_ldc2 q2022 dX8_outside_34 ?_
          refine mx_callS (y' := mi_X8_isIn) (vs := [jv x3.toInt64, jv (1 : Int64), jv (10000 : Int64)]) (st := []) (al' := [some (jv x3.toInt64), none, some (jv (1 : Int64)), none, some (jv (10000 : Int64)), none]) S_X8_isIn q1996 dX8_outside_37 rfl rfl (Nat.le_of_ble_eq_true rfl) (Nat.le_of_ble_eq_true rfl) ?_
          refine mx_lload_n dX8_isIn_0 rfl rfl ?_
          refine mx_lload_n dX8_isIn_1 rfl rfl ?_
          refine mx_lif_lt (tgt := 17) dX8_isIn_2 dX8_isIn_3 rfl (fun c11 => ?_) (fun c11 => ?_)
          · have H := H.1 c11
            refine mx_iconst dX8_isIn_17 ic_0 ?_
            refine mx_zretK rfl dX8_isIn_18 (Or.inl rfl) ?_
            refine mx_if_eq (tgt := 56) dX8_outside_40 rfl (fun _ => ?_) (fun _ => absurd ‹_› (by decide))
            refine mx_aload_n dX8_outside_56 rfl rfl ?_
            refine mx_iconst dX8_outside_57 ic_5 ?_
            refine mx_callV 8 (y' := mi_X8_refuse) (vs := [iv (5 : Int32)]) (st := []) (al' := [some (rv a0), some (iv (5 : Int32))]) cl_8 V_X8_refuse (Or.inl q1999) dX8_outside_58 rfl rfl (Nat.le_of_ble_eq_true rfl) (Nat.le_of_ble_eq_true rfl) (ly8_k La0_h2) ?_
            refine mx_aload_n dX8_refuse_0 rfl rfl ?_
            refine mx_iload_n dX8_refuse_1 rfl rfl ?_
            refine mx_putI 8 0 (ref := "PrairiePoolModel") cl_8 (Nat.le_of_ble_eq_true rfl) (Or.inl q1627) (Or.inl rfl) dX8_refuse_2 (Or.inl rfl) rfl (ly8_k La0_h2) ?_
            refine mx_nmI  (fun h12 eh12 Xh12 Kh12 Lh12 => ?_)
            have H := H h12 eh12 Xh12
            have Kh12 := Kh12.trans Kh2
            have Lh12 := Lh12.trans Lh2
            have La0_h12 := La0_h2.ext Xh12
            refine mx_iconst dX8_refuse_5 ic_m1 ?_
            refine mx_iretK rfl dX8_refuse_6 ?_
            exact mx_iret rfl dX8_outside_61 H
          · have H := H.2 c11
            refine mx_lload_n dX8_isIn_6 rfl rfl ?_
            refine mx_lload dX8_isIn_7 rfl ?_
            refine mx_lif_gt (tgt := 17) dX8_isIn_9 dX8_isIn_10 rfl (fun c13 => ?_) (fun c13 => ?_)
            · have H := H.1 c13
              refine mx_iconst dX8_isIn_17 ic_0 ?_
              refine mx_zretK rfl dX8_isIn_18 (Or.inl rfl) ?_
              refine mx_if_eq (tgt := 56) dX8_outside_40 rfl (fun _ => ?_) (fun _ => absurd ‹_› (by decide))
              refine mx_aload_n dX8_outside_56 rfl rfl ?_
              refine mx_iconst dX8_outside_57 ic_5 ?_
              refine mx_callV 8 (y' := mi_X8_refuse) (vs := [iv (5 : Int32)]) (st := []) (al' := [some (rv a0), some (iv (5 : Int32))]) cl_8 V_X8_refuse (Or.inl q1999) dX8_outside_58 rfl rfl (Nat.le_of_ble_eq_true rfl) (Nat.le_of_ble_eq_true rfl) (ly8_k La0_h2) ?_
              refine mx_aload_n dX8_refuse_0 rfl rfl ?_
              refine mx_iload_n dX8_refuse_1 rfl rfl ?_
              refine mx_putI 8 0 (ref := "PrairiePoolModel") cl_8 (Nat.le_of_ble_eq_true rfl) (Or.inl q1627) (Or.inl rfl) dX8_refuse_2 (Or.inl rfl) rfl (ly8_k La0_h2) ?_
              refine mx_nmI  (fun h14 eh14 Xh14 Kh14 Lh14 => ?_)
              have H := H h14 eh14 Xh14
              have Kh14 := Kh14.trans Kh2
              have Lh14 := Lh14.trans Lh2
              have La0_h14 := La0_h2.ext Xh14
              refine mx_iconst dX8_refuse_5 ic_m1 ?_
              refine mx_iretK rfl dX8_refuse_6 ?_
              exact mx_iret rfl dX8_outside_61 H
            · have H := H.2 c13
              refine mx_iconst dX8_isIn_13 ic_1 ?_
              refine mx_goto (tgt := 18) dX8_isIn_14 rfl ?_
              refine mx_zretK rfl dX8_isIn_18 (Or.inr rfl) ?_
              refine mx_if_eq (tgt := 56) dX8_outside_40 rfl (fun _ => absurd ‹_› (by decide)) (fun _ => ?_)
              refine mx_iload dX8_outside_43 rfl ?_
              refine mx_i2l dX8_outside_45 ?_
              refine mx_lconst dX8_outside_46 lc_0 ?_
              refine mx_ldc2 q2023 dX8_outside_47 ?_
              refine mx_callS (y' := mi_X8_isIn) (vs := [jv x4.toInt64, jv (0 : Int64), jv (1000 : Int64)]) (st := []) (al' := [some (jv x4.toInt64), none, some (jv (0 : Int64)), none, some (jv (1000 : Int64)), none]) S_X8_isIn q1996 dX8_outside_50 rfl rfl (Nat.le_of_ble_eq_true rfl) (Nat.le_of_ble_eq_true rfl) ?_
              refine mx_lload_n dX8_isIn_0 rfl rfl ?_
              refine mx_lload_n dX8_isIn_1 rfl rfl ?_
              refine mx_lif_lt (tgt := 17) dX8_isIn_2 dX8_isIn_3 rfl (fun c15 => ?_) (fun c15 => ?_)
              · have H := H.1 c15
                refine mx_iconst dX8_isIn_17 ic_0 ?_
                refine mx_zretK rfl dX8_isIn_18 (Or.inl rfl) ?_
                refine mx_if_ne (tgt := 62) dX8_outside_53 rfl (fun _ => absurd ‹_› (by decide)) (fun _ => ?_)
                refine mx_aload_n dX8_outside_56 rfl rfl ?_
                refine mx_iconst dX8_outside_57 ic_5 ?_
                refine mx_callV 8 (y' := mi_X8_refuse) (vs := [iv (5 : Int32)]) (st := []) (al' := [some (rv a0), some (iv (5 : Int32))]) cl_8 V_X8_refuse (Or.inl q1999) dX8_outside_58 rfl rfl (Nat.le_of_ble_eq_true rfl) (Nat.le_of_ble_eq_true rfl) (ly8_k La0_h2) ?_
                refine mx_aload_n dX8_refuse_0 rfl rfl ?_
                refine mx_iload_n dX8_refuse_1 rfl rfl ?_
                refine mx_putI 8 0 (ref := "PrairiePoolModel") cl_8 (Nat.le_of_ble_eq_true rfl) (Or.inl q1627) (Or.inl rfl) dX8_refuse_2 (Or.inl rfl) rfl (ly8_k La0_h2) ?_
                refine mx_nmI  (fun h16 eh16 Xh16 Kh16 Lh16 => ?_)
                have H := H h16 eh16 Xh16
                have Kh16 := Kh16.trans Kh2
                have Lh16 := Lh16.trans Lh2
                have La0_h16 := La0_h2.ext Xh16
                refine mx_iconst dX8_refuse_5 ic_m1 ?_
                refine mx_iretK rfl dX8_refuse_6 ?_
                exact mx_iret rfl dX8_outside_61 H
              · have H := H.2 c15
                refine mx_lload_n dX8_isIn_6 rfl rfl ?_
                refine mx_lload dX8_isIn_7 rfl ?_
                refine mx_lif_gt (tgt := 17) dX8_isIn_9 dX8_isIn_10 rfl (fun c17 => ?_) (fun c17 => ?_)
                · have H := H.1 c17
                  refine mx_iconst dX8_isIn_17 ic_0 ?_
                  refine mx_zretK rfl dX8_isIn_18 (Or.inl rfl) ?_
                  refine mx_if_ne (tgt := 62) dX8_outside_53 rfl (fun _ => absurd ‹_› (by decide)) (fun _ => ?_)
                  refine mx_aload_n dX8_outside_56 rfl rfl ?_
                  refine mx_iconst dX8_outside_57 ic_5 ?_
                  refine mx_callV 8 (y' := mi_X8_refuse) (vs := [iv (5 : Int32)]) (st := []) (al' := [some (rv a0), some (iv (5 : Int32))]) cl_8 V_X8_refuse (Or.inl q1999) dX8_outside_58 rfl rfl (Nat.le_of_ble_eq_true rfl) (Nat.le_of_ble_eq_true rfl) (ly8_k La0_h2) ?_
                  refine mx_aload_n dX8_refuse_0 rfl rfl ?_
                  refine mx_iload_n dX8_refuse_1 rfl rfl ?_
                  refine mx_putI 8 0 (ref := "PrairiePoolModel") cl_8 (Nat.le_of_ble_eq_true rfl) (Or.inl q1627) (Or.inl rfl) dX8_refuse_2 (Or.inl rfl) rfl (ly8_k La0_h2) ?_
                  refine mx_nmI  (fun h18 eh18 Xh18 Kh18 Lh18 => ?_)
                  have H := H h18 eh18 Xh18
                  have Kh18 := Kh18.trans Kh2
                  have Lh18 := Lh18.trans Lh2
                  have La0_h18 := La0_h2.ext Xh18
                  refine mx_iconst dX8_refuse_5 ic_m1 ?_
                  refine mx_iretK rfl dX8_refuse_6 ?_
                  exact mx_iret rfl dX8_outside_61 H
                · have H := H.2 c17
                  refine mx_iconst dX8_isIn_13 ic_1 ?_
                  refine mx_goto (tgt := 18) dX8_isIn_14 rfl ?_
                  refine mx_zretK rfl dX8_isIn_18 (Or.inr rfl) ?_
                  refine mx_if_ne (tgt := 62) dX8_outside_53 rfl (fun _ => ?_) (fun _ => absurd ‹_› (by decide))
                  refine mx_aload_n dX8_outside_62 rfl rfl ?_
                  refine mx_get 8 88 (ref := "PrairiePoolModel") cl_8 (Nat.le_of_ble_eq_true rfl) (Or.inl q1715) (Or.inl rfl) dX8_outside_63 (fv_8_88 _ _) (ly8_k La0_h2) ?_
                  refine mx_ti ((ah_skIK eh2 (by decide)).trans (ah_skIK eh1 (by decide))) ?_
                  refine mx_bipush dX8_outside_66 ib_60 ?_
                  refine mx_icmp_ne (tgt := 78) dX8_outside_68 rfl (fun c19 => ?_) (fun c19 => ?_)
                  · have H := H.1 c19
                    refine mx_aload_n dX8_outside_78 rfl rfl ?_
                    refine mx_get 8 82 (ref := "PrairiePoolModel") cl_8 (Nat.le_of_ble_eq_true rfl) (Or.inl q1709) (Or.inl rfl) dX8_outside_79 (fv_8_82 _ _) (ly8_k La0_h2) ?_
                    refine mx_tr (ly8_R_0_82 La0_h2) ?_
                    refine mx_aload_n dX8_outside_82 rfl rfl ?_
                    refine mx_get 8 88 (ref := "PrairiePoolModel") cl_8 (Nat.le_of_ble_eq_true rfl) (Or.inl q1715) (Or.inl rfl) dX8_outside_83 (fv_8_88 _ _) (ly8_k La0_h2) ?_
                    refine mx_ti ((ah_skIK eh2 (by decide)).trans (ah_skIK eh1 (by decide))) ?_
                    refine mx_iload_n dX8_outside_86 rfl rfl ?_
                    obtain ⟨k20, H⟩ := H
                    refine my_iast dX8_outside_87 rfl (ly8_A_56 La0_h2 k20) ?_
                    refine mx_nmI  (fun h21 eh21 Xh21 Kh21 Lh21 => ?_)
                    have H := H h21 eh21 Xh21
                    have Kh21 := Kh21.trans Kh2
                    have Lh21 := Lh21.trans Lh2
                    have La0_h21 := La0_h2.ext Xh21
                    refine mx_aload_n dX8_outside_88 rfl rfl ?_
                    refine mx_get 8 83 (ref := "PrairiePoolModel") cl_8 (Nat.le_of_ble_eq_true rfl) (Or.inl q1710) (Or.inl rfl) dX8_outside_89 (fv_8_83 _ _) (ly8_k La0_h21) ?_
                    refine mx_tr (ly8_R_0_83 La0_h21) ?_
                    refine mx_aload_n dX8_outside_92 rfl rfl ?_
                    refine mx_get 8 88 (ref := "PrairiePoolModel") cl_8 (Nat.le_of_ble_eq_true rfl) (Or.inl q1715) (Or.inl rfl) dX8_outside_93 (fv_8_88 _ _) (ly8_k La0_h21) ?_
                    refine mx_ti (((ah_skIA eh21 (by omega)).trans (ah_skIK eh2 (by decide))).trans (ah_skIK eh1 (by decide))) ?_
                    refine mx_iload_n dX8_outside_96 rfl rfl ?_
                    refine my_iast dX8_outside_97 rfl (ly8_A_57 La0_h21 k20) ?_
                    refine mx_nmI  (fun h22 eh22 Xh22 Kh22 Lh22 => ?_)
                    have H := H h22 eh22 Xh22
                    have Kh22 := Kh22.trans Kh21
                    have Lh22 := Lh22.trans Lh21
                    have La0_h22 := La0_h21.ext Xh22
                    refine mx_aload_n dX8_outside_98 rfl rfl ?_
                    refine mx_get 8 84 (ref := "PrairiePoolModel") cl_8 (Nat.le_of_ble_eq_true rfl) (Or.inl q1711) (Or.inl rfl) dX8_outside_99 (fv_8_84 _ _) (ly8_k La0_h22) ?_
                    refine mx_tr (ly8_R_0_84 La0_h22) ?_
                    refine mx_aload_n dX8_outside_102 rfl rfl ?_
                    refine mx_get 8 88 (ref := "PrairiePoolModel") cl_8 (Nat.le_of_ble_eq_true rfl) (Or.inl q1715) (Or.inl rfl) dX8_outside_103 (fv_8_88 _ _) (ly8_k La0_h22) ?_
                    refine mx_ti ((((ah_skIA eh22 (by omega)).trans (ah_skIA eh21 (by omega))).trans (ah_skIK eh2 (by decide))).trans (ah_skIK eh1 (by decide))) ?_
                    refine mx_iload_n dX8_outside_106 rfl rfl ?_
                    refine my_iast dX8_outside_107 rfl (ly8_A_58 La0_h22 k20) ?_
                    refine mx_nmI  (fun h23 eh23 Xh23 Kh23 Lh23 => ?_)
                    have H := H h23 eh23 Xh23
                    have Kh23 := Kh23.trans Kh22
                    have Lh23 := Lh23.trans Lh22
                    have La0_h23 := La0_h22.ext Xh23
                    refine mx_aload_n dX8_outside_108 rfl rfl ?_
                    refine mx_get 8 85 (ref := "PrairiePoolModel") cl_8 (Nat.le_of_ble_eq_true rfl) (Or.inl q1712) (Or.inl rfl) dX8_outside_109 (fv_8_85 _ _) (ly8_k La0_h23) ?_
                    refine mx_tr (ly8_R_0_85 La0_h23) ?_
                    refine mx_aload_n dX8_outside_112 rfl rfl ?_
                    refine mx_get 8 88 (ref := "PrairiePoolModel") cl_8 (Nat.le_of_ble_eq_true rfl) (Or.inl q1715) (Or.inl rfl) dX8_outside_113 (fv_8_88 _ _) (ly8_k La0_h23) ?_
                    refine mx_ti (((((ah_skIA eh23 (by omega)).trans (ah_skIA eh22 (by omega))).trans (ah_skIA eh21 (by omega))).trans (ah_skIK eh2 (by decide))).trans (ah_skIK eh1 (by decide))) ?_
                    refine mx_iload dX8_outside_116 rfl ?_
                    refine my_iast dX8_outside_118 rfl (ly8_A_59 La0_h23 k20) ?_
                    refine mx_nmI  (fun h24 eh24 Xh24 Kh24 Lh24 => ?_)
                    have H := H h24 eh24 Xh24
                    have Kh24 := Kh24.trans Kh23
                    have Lh24 := Lh24.trans Lh23
                    have La0_h24 := La0_h23.ext Xh24
                    refine mx_aload_n dX8_outside_119 rfl rfl ?_
                    refine mx_dup_r dX8_outside_120 ?_
                    refine mx_get 8 88 (ref := "PrairiePoolModel") cl_8 (Nat.le_of_ble_eq_true rfl) (Or.inl q1715) (Or.inl rfl) dX8_outside_121 (fv_8_88 _ _) (ly8_k La0_h24) ?_
                    refine mx_ti ((((((ah_skIA eh24 (by omega)).trans (ah_skIA eh23 (by omega))).trans (ah_skIA eh22 (by omega))).trans (ah_skIA eh21 (by omega))).trans (ah_skIK eh2 (by decide))).trans (ah_skIK eh1 (by decide))) ?_
                    refine mx_iconst dX8_outside_124 ic_1 ?_
                    refine mx_iadd dX8_outside_125 ?_
                    refine mx_putI 8 88 (ref := "PrairiePoolModel") cl_8 (Nat.le_of_ble_eq_true rfl) (Or.inl q1715) (Or.inl rfl) dX8_outside_126 (Or.inl rfl) rfl (ly8_k La0_h24) ?_
                    refine mx_nmI  (fun h25 eh25 Xh25 Kh25 Lh25 => ?_)
                    have H := H h25 eh25 Xh25
                    have Kh25 := Kh25.trans Kh24
                    have Lh25 := Lh25.trans Lh24
                    have La0_h25 := La0_h24.ext Xh25
                    refine mx_aload_n dX8_outside_129 rfl rfl ?_
                    refine mx_get 8 88 (ref := "PrairiePoolModel") cl_8 (Nat.le_of_ble_eq_true rfl) (Or.inl q1715) (Or.inl rfl) dX8_outside_130 (fv_8_88 _ _) (ly8_k La0_h25) ?_
                    refine mx_ti (ah_hitI eh25) ?_
                    refine mx_iconst dX8_outside_133 ic_1 ?_
                    refine mx_isub dX8_outside_134 ?_
                    exact mx_iret rfl dX8_outside_135 H
                  · have H := H.2 c19
                    refine mx_aload_n dX8_outside_71 rfl rfl ?_
                    refine mx_bipush dX8_outside_72 ib_7 ?_
                    refine mx_callV 8 (y' := mi_X8_refuse) (vs := [iv (7 : Int32)]) (st := []) (al' := [some (rv a0), some (iv (7 : Int32))]) cl_8 V_X8_refuse (Or.inl q1999) dX8_outside_74 rfl rfl (Nat.le_of_ble_eq_true rfl) (Nat.le_of_ble_eq_true rfl) (ly8_k La0_h2) ?_
                    refine mx_aload_n dX8_refuse_0 rfl rfl ?_
                    refine mx_iload_n dX8_refuse_1 rfl rfl ?_
                    refine mx_putI 8 0 (ref := "PrairiePoolModel") cl_8 (Nat.le_of_ble_eq_true rfl) (Or.inl q1627) (Or.inl rfl) dX8_refuse_2 (Or.inl rfl) rfl (ly8_k La0_h2) ?_
                    refine mx_nmI  (fun h26 eh26 Xh26 Kh26 Lh26 => ?_)
                    have H := H h26 eh26 Xh26
                    have Kh26 := Kh26.trans Kh2
                    have Lh26 := Lh26.trans Lh2
                    have La0_h26 := La0_h2.ext Xh26
                    refine mx_iconst dX8_refuse_5 ic_m1 ?_
                    refine mx_iretK rfl dX8_refuse_6 ?_
                    exact mx_iret rfl dX8_outside_77 H
theorem dX8_breach_0 : decode mi_X8_breach.2.1 0 = .ok (.aload_n 0, 1) := by decide +kernel
theorem dX8_breach_1 : decode mi_X8_breach.2.1 1 = .ok (.iconst 0, 1) := by decide +kernel
theorem dX8_breach_2 : decode mi_X8_breach.2.1 2 = .ok (.putfield 257, 3) := by decide +kernel
theorem dX8_breach_5 : decode mi_X8_breach.2.1 5 = .ok (.aload_n 0, 1) := by decide +kernel
theorem dX8_breach_6 : decode mi_X8_breach.2.1 6 = .ok (.iconst 0, 1) := by decide +kernel
theorem dX8_breach_7 : decode mi_X8_breach.2.1 7 = .ok (.putfield 260, 3) := by decide +kernel
theorem dX8_breach_10 : decode mi_X8_breach.2.1 10 = .ok (.iload_n 1, 1) := by decide +kernel
theorem dX8_breach_11 : decode mi_X8_breach.2.1 11 = .ok (.i2l, 1) := by decide +kernel
theorem dX8_breach_12 : decode mi_X8_breach.2.1 12 = .ok (.lconst 0, 1) := by decide +kernel
theorem dX8_breach_13 : decode mi_X8_breach.2.1 13 = .ok (.aload_n 0, 1) := by decide +kernel
theorem dX8_breach_14 : decode mi_X8_breach.2.1 14 = .ok (.getfield 629, 3) := by decide +kernel
theorem dX8_breach_17 : decode mi_X8_breach.2.1 17 = .ok (.iconst 1, 1) := by decide +kernel
theorem dX8_breach_18 : decode mi_X8_breach.2.1 18 = .ok (.isub, 1) := by decide +kernel
theorem dX8_breach_19 : decode mi_X8_breach.2.1 19 = .ok (.i2l, 1) := by decide +kernel
theorem dX8_breach_20 : decode mi_X8_breach.2.1 20 = .ok (.invokestatic 265, 3) := by decide +kernel
theorem dX8_breach_23 : decode mi_X8_breach.2.1 23 = .ok (.ifCond .ne 10, 3) := by decide +kernel
theorem dX8_breach_26 : decode mi_X8_breach.2.1 26 = .ok (.aload_n 0, 1) := by decide +kernel
theorem dX8_breach_27 : decode mi_X8_breach.2.1 27 = .ok (.bipush 8, 2) := by decide +kernel
theorem dX8_breach_29 : decode mi_X8_breach.2.1 29 = .ok (.invokevirtual 297, 3) := by decide +kernel
theorem dX8_breach_32 : decode mi_X8_breach.2.1 32 = .ok (.ireturn, 1) := by decide +kernel
theorem dX8_breach_33 : decode mi_X8_breach.2.1 33 = .ok (.aload_n 0, 1) := by decide +kernel
theorem dX8_breach_34 : decode mi_X8_breach.2.1 34 = .ok (.iload_n 1, 1) := by decide +kernel
theorem dX8_breach_35 : decode mi_X8_breach.2.1 35 = .ok (.invokevirtual 632, 3) := by decide +kernel
theorem dX8_breach_38 : decode mi_X8_breach.2.1 38 = .ok (.lconst 0, 1) := by decide +kernel
theorem dX8_breach_39 : decode mi_X8_breach.2.1 39 = .ok (.lcmp, 1) := by decide +kernel
theorem dX8_breach_40 : decode mi_X8_breach.2.1 40 = .ok (.ifCond .le 7, 3) := by decide +kernel
theorem dX8_breach_43 : decode mi_X8_breach.2.1 43 = .ok (.iconst 1, 1) := by decide +kernel
theorem dX8_breach_44 : decode mi_X8_breach.2.1 44 = .ok (.goto 4, 3) := by decide +kernel
theorem dX8_breach_47 : decode mi_X8_breach.2.1 47 = .ok (.iconst 0, 1) := by decide +kernel
theorem dX8_breach_48 : decode mi_X8_breach.2.1 48 = .ok (.ireturn, 1) := by decide +kernel
theorem v_X8_breach {G : ma_G} {d : Nat} {a0 : Nat} {x1 : Int32} {h : ah_T} {Q : Option ma_V → ah_T → Prop} {E : Nat → ah_T → Prop} (La0_h : LY8 h a0) (H : ∀ h1 : ah_T, h1 = ah_wI h a0 1 (0 : Int32) → ah_ext h h1 → ∀ h2 : ah_T, h2 = ah_wI h1 a0 0 (0 : Int32) → ah_ext h1 h2 → (x1.toInt64 < (0 : Int64) → ∀ h4 : ah_T, h4 = ah_wI h2 a0 0 (8 : Int32) → ah_ext h2 h4 → Q (some (iv (-1 : Int32))) h4) ∧ (¬ x1.toInt64 < (0 : Int64) → (((ah_I h a0 88) - (1 : Int32)).toInt64 < x1.toInt64 → ∀ h6 : ah_T, h6 = ah_wI h2 a0 0 (8 : Int32) → ah_ext h2 h6 → Q (some (iv (-1 : Int32))) h6) ∧ (¬ ((ah_I h a0 88) - (1 : Int32)).toInt64 < x1.toInt64 → MX G mi_X8_breachOf d 0 [some (rv a0), some (iv x1), none, none] [] h2 (Ql fun r8 h7 => ah_ext h2 h7 → (r8 ≤ (0 : Int64) → Q (some (iv (0 : Int32))) h7) ∧ (¬ r8 ≤ (0 : Int64) → Q (some (iv (1 : Int32))) h7)) E))) : MX G mi_X8_breach (d + 1) 0 [some (rv a0), some (iv x1)] [] h Q E := by
  refine mx_aload_n dX8_breach_0 rfl rfl ?_
  refine mx_iconst dX8_breach_1 ic_0 ?_
  refine mx_putI 8 1 (ref := "PrairiePoolModel") cl_8 (Nat.le_of_ble_eq_true rfl) (Or.inl q1628) (Or.inl rfl) dX8_breach_2 (Or.inl rfl) rfl (ly8_k La0_h) ?_
  refine mx_nmI  (fun h1 eh1 Xh1 Kh1 Lh1 => ?_)
  have H := H h1 eh1 Xh1
  have La0_h1 := La0_h.ext Xh1
  refine mx_aload_n dX8_breach_5 rfl rfl ?_
  refine mx_iconst dX8_breach_6 ic_0 ?_
  refine mx_putI 8 0 (ref := "PrairiePoolModel") cl_8 (Nat.le_of_ble_eq_true rfl) (Or.inl q1627) (Or.inl rfl) dX8_breach_7 (Or.inl rfl) rfl (ly8_k La0_h1) ?_
  refine mx_nmI  (fun h2 eh2 Xh2 Kh2 Lh2 => ?_)
  have H := H h2 eh2 Xh2
  have Kh2 := Kh2.trans Kh1
  have Lh2 := Lh2.trans Lh1
  have La0_h2 := La0_h1.ext Xh2
  refine mx_iload_n dX8_breach_10 rfl rfl ?_
  refine mx_i2l dX8_breach_11 ?_
  refine mx_lconst dX8_breach_12 lc_0 ?_
  refine mx_aload_n dX8_breach_13 rfl rfl ?_
  refine mx_get 8 88 (ref := "PrairiePoolModel") cl_8 (Nat.le_of_ble_eq_true rfl) (Or.inl q1715) (Or.inl rfl) dX8_breach_14 (fv_8_88 _ _) (ly8_k La0_h2) ?_
  refine mx_ti ((ah_skIK eh2 (by decide)).trans (ah_skIK eh1 (by decide))) ?_
  refine mx_iconst dX8_breach_17 ic_1 ?_
  refine mx_isub dX8_breach_18 ?_
  refine mx_i2l dX8_breach_19 ?_
  refine mx_callS (y' := mi_X8_isIn) (vs := [jv x1.toInt64, jv (0 : Int64), jv ((ah_I h a0 88) - (1 : Int32)).toInt64]) (st := []) (al' := [some (jv x1.toInt64), none, some (jv (0 : Int64)), none, some (jv ((ah_I h a0 88) - (1 : Int32)).toInt64), none]) S_X8_isIn q1996 dX8_breach_20 rfl rfl (Nat.le_of_ble_eq_true rfl) (Nat.le_of_ble_eq_true rfl) ?_
  refine mx_lload_n dX8_isIn_0 rfl rfl ?_
  refine mx_lload_n dX8_isIn_1 rfl rfl ?_
  refine mx_lif_lt (tgt := 17) dX8_isIn_2 dX8_isIn_3 rfl (fun c3 => ?_) (fun c3 => ?_)
  · have H := H.1 c3
    refine mx_iconst dX8_isIn_17 ic_0 ?_
    refine mx_zretK rfl dX8_isIn_18 (Or.inl rfl) ?_
    refine mx_if_ne (tgt := 33) dX8_breach_23 rfl (fun _ => absurd ‹_› (by decide)) (fun _ => ?_)
    refine mx_aload_n dX8_breach_26 rfl rfl ?_
    refine mx_bipush dX8_breach_27 ib_8 ?_
    refine mx_callV 8 (y' := mi_X8_refuse) (vs := [iv (8 : Int32)]) (st := []) (al' := [some (rv a0), some (iv (8 : Int32))]) cl_8 V_X8_refuse (Or.inl q1999) dX8_breach_29 rfl rfl (Nat.le_of_ble_eq_true rfl) (Nat.le_of_ble_eq_true rfl) (ly8_k La0_h2) ?_
    refine mx_aload_n dX8_refuse_0 rfl rfl ?_
    refine mx_iload_n dX8_refuse_1 rfl rfl ?_
    refine mx_putI 8 0 (ref := "PrairiePoolModel") cl_8 (Nat.le_of_ble_eq_true rfl) (Or.inl q1627) (Or.inl rfl) dX8_refuse_2 (Or.inl rfl) rfl (ly8_k La0_h2) ?_
    refine mx_nmI  (fun h4 eh4 Xh4 Kh4 Lh4 => ?_)
    have H := H h4 eh4 Xh4
    have Kh4 := Kh4.trans Kh2
    have Lh4 := Lh4.trans Lh2
    have La0_h4 := La0_h2.ext Xh4
    refine mx_iconst dX8_refuse_5 ic_m1 ?_
    refine mx_iretK rfl dX8_refuse_6 ?_
    exact mx_iret rfl dX8_breach_32 H
  · have H := H.2 c3
    refine mx_lload_n dX8_isIn_6 rfl rfl ?_
    refine mx_lload dX8_isIn_7 rfl ?_
    refine mx_lif_gt (tgt := 17) dX8_isIn_9 dX8_isIn_10 rfl (fun c5 => ?_) (fun c5 => ?_)
    · have H := H.1 c5
      refine mx_iconst dX8_isIn_17 ic_0 ?_
      refine mx_zretK rfl dX8_isIn_18 (Or.inl rfl) ?_
      refine mx_if_ne (tgt := 33) dX8_breach_23 rfl (fun _ => absurd ‹_› (by decide)) (fun _ => ?_)
      refine mx_aload_n dX8_breach_26 rfl rfl ?_
      refine mx_bipush dX8_breach_27 ib_8 ?_
      refine mx_callV 8 (y' := mi_X8_refuse) (vs := [iv (8 : Int32)]) (st := []) (al' := [some (rv a0), some (iv (8 : Int32))]) cl_8 V_X8_refuse (Or.inl q1999) dX8_breach_29 rfl rfl (Nat.le_of_ble_eq_true rfl) (Nat.le_of_ble_eq_true rfl) (ly8_k La0_h2) ?_
      refine mx_aload_n dX8_refuse_0 rfl rfl ?_
      refine mx_iload_n dX8_refuse_1 rfl rfl ?_
      refine mx_putI 8 0 (ref := "PrairiePoolModel") cl_8 (Nat.le_of_ble_eq_true rfl) (Or.inl q1627) (Or.inl rfl) dX8_refuse_2 (Or.inl rfl) rfl (ly8_k La0_h2) ?_
      refine mx_nmI  (fun h6 eh6 Xh6 Kh6 Lh6 => ?_)
      have H := H h6 eh6 Xh6
      have Kh6 := Kh6.trans Kh2
      have Lh6 := Lh6.trans Lh2
      have La0_h6 := La0_h2.ext Xh6
      refine mx_iconst dX8_refuse_5 ic_m1 ?_
      refine mx_iretK rfl dX8_refuse_6 ?_
      exact mx_iret rfl dX8_breach_32 H
    · have H := H.2 c5
      refine mx_iconst dX8_isIn_13 ic_1 ?_
      refine mx_goto (tgt := 18) dX8_isIn_14 rfl ?_
      refine mx_zretK rfl dX8_isIn_18 (Or.inr rfl) ?_
      refine mx_if_ne (tgt := 33) dX8_breach_23 rfl (fun _ => ?_) (fun _ => absurd ‹_› (by decide))
      refine mx_aload_n dX8_breach_33 rfl rfl ?_
      refine mx_iload_n dX8_breach_34 rfl rfl ?_
      refine mx_callV 8 (y' := mi_X8_breachOf) (vs := [iv x1]) (st := []) (al' := [some (rv a0), some (iv x1), none, none]) cl_8 V_X8_breachOf (Or.inl q2373) dX8_breach_35 rfl rfl (Nat.le_of_ble_eq_true rfl) (Nat.le_of_ble_eq_true rfl) (ly8_k La0_h2) ?_
      refine ma_kl H (fun r8 h7 Xh7 H => ?_) (fun x1 h1 X1 H => mt_out rfl H)
      have H := H Xh7
      have La0_h7 := La0_h2.ext Xh7
      refine mx_lconst dX8_breach_38 lc_0 ?_
      refine mx_lif_le (tgt := 47) dX8_breach_39 dX8_breach_40 rfl (fun c9 => ?_) (fun c9 => ?_)
      · have H := H.1 c9
        refine mx_iconst dX8_breach_47 ic_0 ?_
        exact mx_iret rfl dX8_breach_48 H
      · have H := H.2 c9
        refine mx_iconst dX8_breach_43 ic_1 ?_
        refine mx_goto (tgt := 48) dX8_breach_44 rfl ?_
        exact mx_iret rfl dX8_breach_48 H
theorem dX8_breachOf_0 : decode mi_X8_breachOf.2.1 0 = .ok (.aload_n 0, 1) := by decide +kernel
theorem dX8_breachOf_1 : decode mi_X8_breachOf.2.1 1 = .ok (.getfield 185, 3) := by decide +kernel
theorem dX8_breachOf_4 : decode mi_X8_breachOf.2.1 4 = .ok (.iload_n 1, 1) := by decide +kernel
theorem dX8_breachOf_5 : decode mi_X8_breachOf.2.1 5 = .ok (.iaload, 1) := by decide +kernel
theorem dX8_breachOf_6 : decode mi_X8_breachOf.2.1 6 = .ok (.istore_n 2, 1) := by decide +kernel
theorem dX8_breachOf_7 : decode mi_X8_breachOf.2.1 7 = .ok (.aload_n 0, 1) := by decide +kernel
theorem dX8_breachOf_8 : decode mi_X8_breachOf.2.1 8 = .ok (.getfield 188, 3) := by decide +kernel
theorem dX8_breachOf_11 : decode mi_X8_breachOf.2.1 11 = .ok (.iload_n 1, 1) := by decide +kernel
theorem dX8_breachOf_12 : decode mi_X8_breachOf.2.1 12 = .ok (.iaload, 1) := by decide +kernel
theorem dX8_breachOf_13 : decode mi_X8_breachOf.2.1 13 = .ok (.bipush 52, 2) := by decide +kernel
theorem dX8_breachOf_15 : decode mi_X8_breachOf.2.1 15 = .ok (.idiv, 1) := by decide +kernel
theorem dX8_breachOf_16 : decode mi_X8_breachOf.2.1 16 = .ok (.istore_n 3, 1) := by decide +kernel
theorem dX8_breachOf_17 : decode mi_X8_breachOf.2.1 17 = .ok (.aload_n 0, 1) := by decide +kernel
theorem dX8_breachOf_18 : decode mi_X8_breachOf.2.1 18 = .ok (.getfield 176, 3) := by decide +kernel
theorem dX8_breachOf_21 : decode mi_X8_breachOf.2.1 21 = .ok (.iload_n 2, 1) := by decide +kernel
theorem dX8_breachOf_22 : decode mi_X8_breachOf.2.1 22 = .ok (.iaload, 1) := by decide +kernel
theorem dX8_breachOf_23 : decode mi_X8_breachOf.2.1 23 = .ok (.ifCond .lt 39, 3) := by decide +kernel
theorem dX8_breachOf_26 : decode mi_X8_breachOf.2.1 26 = .ok (.iload_n 3, 1) := by decide +kernel
theorem dX8_breachOf_27 : decode mi_X8_breachOf.2.1 27 = .ok (.i2l, 1) := by decide +kernel
theorem dX8_breachOf_28 : decode mi_X8_breachOf.2.1 28 = .ok (.aload_n 0, 1) := by decide +kernel
theorem dX8_breachOf_29 : decode mi_X8_breachOf.2.1 29 = .ok (.getfield 176, 3) := by decide +kernel
theorem dX8_breachOf_32 : decode mi_X8_breachOf.2.1 32 = .ok (.iload_n 2, 1) := by decide +kernel
theorem dX8_breachOf_33 : decode mi_X8_breachOf.2.1 33 = .ok (.iaload, 1) := by decide +kernel
theorem dX8_breachOf_34 : decode mi_X8_breachOf.2.1 34 = .ok (.i2l, 1) := by decide +kernel
theorem dX8_breachOf_35 : decode mi_X8_breachOf.2.1 35 = .ok (.aload_n 0, 1) := by decide +kernel
theorem dX8_breachOf_36 : decode mi_X8_breachOf.2.1 36 = .ok (.getfield 179, 3) := by decide +kernel
theorem dX8_breachOf_39 : decode mi_X8_breachOf.2.1 39 = .ok (.iload_n 2, 1) := by decide +kernel
theorem dX8_breachOf_40 : decode mi_X8_breachOf.2.1 40 = .ok (.iaload, 1) := by decide +kernel
theorem dX8_breachOf_41 : decode mi_X8_breachOf.2.1 41 = .ok (.i2l, 1) := by decide +kernel
theorem dX8_breachOf_42 : decode mi_X8_breachOf.2.1 42 = .ok (.invokestatic 265, 3) := by decide +kernel
theorem dX8_breachOf_45 : decode mi_X8_breachOf.2.1 45 = .ok (.ifCond .eq 17, 3) := by decide +kernel
theorem dX8_breachOf_48 : decode mi_X8_breachOf.2.1 48 = .ok (.aload_n 0, 1) := by decide +kernel
theorem dX8_breachOf_49 : decode mi_X8_breachOf.2.1 49 = .ok (.getfield 200, 3) := by decide +kernel
theorem dX8_breachOf_52 : decode mi_X8_breachOf.2.1 52 = .ok (.bipush 10, 2) := by decide +kernel
theorem dX8_breachOf_54 : decode mi_X8_breachOf.2.1 54 = .ok (.iload_n 2, 1) := by decide +kernel
theorem dX8_breachOf_55 : decode mi_X8_breachOf.2.1 55 = .ok (.imul, 1) := by decide +kernel
theorem dX8_breachOf_56 : decode mi_X8_breachOf.2.1 56 = .ok (.iload_n 3, 1) := by decide +kernel
theorem dX8_breachOf_57 : decode mi_X8_breachOf.2.1 57 = .ok (.iadd, 1) := by decide +kernel
theorem dX8_breachOf_58 : decode mi_X8_breachOf.2.1 58 = .ok (.baload, 1) := by decide +kernel
theorem dX8_breachOf_59 : decode mi_X8_breachOf.2.1 59 = .ok (.ifCond .eq 5, 3) := by decide +kernel
theorem dX8_breachOf_62 : decode mi_X8_breachOf.2.1 62 = .ok (.lconst 0, 1) := by decide +kernel
theorem dX8_breachOf_63 : decode mi_X8_breachOf.2.1 63 = .ok (.lreturn, 1) := by decide +kernel
theorem dX8_breachOf_64 : decode mi_X8_breachOf.2.1 64 = .ok (.aload_n 0, 1) := by decide +kernel
theorem dX8_breachOf_65 : decode mi_X8_breachOf.2.1 65 = .ok (.invokevirtual 344, 3) := by decide +kernel
theorem dX8_breachOf_68 : decode mi_X8_breachOf.2.1 68 = .ok (.aload_n 0, 1) := by decide +kernel
theorem dX8_breachOf_69 : decode mi_X8_breachOf.2.1 69 = .ok (.getfield 151, 3) := by decide +kernel
theorem dX8_breachOf_72 : decode mi_X8_breachOf.2.1 72 = .ok (.iconst 2, 1) := by decide +kernel
theorem dX8_breachOf_73 : decode mi_X8_breachOf.2.1 73 = .ok (.aload_n 0, 1) := by decide +kernel
theorem dX8_breachOf_74 : decode mi_X8_breachOf.2.1 74 = .ok (.getfield 188, 3) := by decide +kernel
theorem dX8_breachOf_77 : decode mi_X8_breachOf.2.1 77 = .ok (.iload_n 1, 1) := by decide +kernel
theorem dX8_breachOf_78 : decode mi_X8_breachOf.2.1 78 = .ok (.iaload, 1) := by decide +kernel
theorem dX8_breachOf_79 : decode mi_X8_breachOf.2.1 79 = .ok (.i2l, 1) := by decide +kernel
theorem dX8_breachOf_80 : decode mi_X8_breachOf.2.1 80 = .ok (.lastore, 1) := by decide +kernel
theorem dX8_breachOf_81 : decode mi_X8_breachOf.2.1 81 = .ok (.aload_n 0, 1) := by decide +kernel
theorem dX8_breachOf_82 : decode mi_X8_breachOf.2.1 82 = .ok (.getfield 151, 3) := by decide +kernel
theorem dX8_breachOf_85 : decode mi_X8_breachOf.2.1 85 = .ok (.iconst 3, 1) := by decide +kernel
theorem dX8_breachOf_86 : decode mi_X8_breachOf.2.1 86 = .ok (.iload_n 3, 1) := by decide +kernel
theorem dX8_breachOf_87 : decode mi_X8_breachOf.2.1 87 = .ok (.i2l, 1) := by decide +kernel
theorem dX8_breachOf_88 : decode mi_X8_breachOf.2.1 88 = .ok (.lastore, 1) := by decide +kernel
theorem dX8_breachOf_89 : decode mi_X8_breachOf.2.1 89 = .ok (.aload_n 0, 1) := by decide +kernel
theorem dX8_breachOf_90 : decode mi_X8_breachOf.2.1 90 = .ok (.getfield 151, 3) := by decide +kernel
theorem dX8_breachOf_93 : decode mi_X8_breachOf.2.1 93 = .ok (.iconst 4, 1) := by decide +kernel
theorem dX8_breachOf_94 : decode mi_X8_breachOf.2.1 94 = .ok (.aload_n 0, 1) := by decide +kernel
theorem dX8_breachOf_95 : decode mi_X8_breachOf.2.1 95 = .ok (.getfield 191, 3) := by decide +kernel
theorem dX8_breachOf_98 : decode mi_X8_breachOf.2.1 98 = .ok (.iload_n 1, 1) := by decide +kernel
theorem dX8_breachOf_99 : decode mi_X8_breachOf.2.1 99 = .ok (.iaload, 1) := by decide +kernel
theorem dX8_breachOf_100 : decode mi_X8_breachOf.2.1 100 = .ok (.i2l, 1) := by decide +kernel
theorem dX8_breachOf_101 : decode mi_X8_breachOf.2.1 101 = .ok (.lastore, 1) := by decide +kernel
theorem dX8_breachOf_102 : decode mi_X8_breachOf.2.1 102 = .ok (.aload_n 0, 1) := by decide +kernel
theorem dX8_breachOf_103 : decode mi_X8_breachOf.2.1 103 = .ok (.getfield 151, 3) := by decide +kernel
theorem dX8_breachOf_106 : decode mi_X8_breachOf.2.1 106 = .ok (.iconst 5, 1) := by decide +kernel
theorem dX8_breachOf_107 : decode mi_X8_breachOf.2.1 107 = .ok (.aload_n 0, 1) := by decide +kernel
theorem dX8_breachOf_108 : decode mi_X8_breachOf.2.1 108 = .ok (.getfield 23, 3) := by decide +kernel
theorem dX8_breachOf_111 : decode mi_X8_breachOf.2.1 111 = .ok (.iload_n 2, 1) := by decide +kernel
theorem dX8_breachOf_112 : decode mi_X8_breachOf.2.1 112 = .ok (.iaload, 1) := by decide +kernel
theorem dX8_breachOf_113 : decode mi_X8_breachOf.2.1 113 = .ok (.i2l, 1) := by decide +kernel
theorem dX8_breachOf_114 : decode mi_X8_breachOf.2.1 114 = .ok (.lastore, 1) := by decide +kernel
theorem dX8_breachOf_115 : decode mi_X8_breachOf.2.1 115 = .ok (.aload_n 0, 1) := by decide +kernel
theorem dX8_breachOf_116 : decode mi_X8_breachOf.2.1 116 = .ok (.getfield 151, 3) := by decide +kernel
theorem dX8_breachOf_119 : decode mi_X8_breachOf.2.1 119 = .ok (.bipush 6, 2) := by decide +kernel
theorem dX8_breachOf_121 : decode mi_X8_breachOf.2.1 121 = .ok (.aload_n 0, 1) := by decide +kernel
theorem dX8_breachOf_122 : decode mi_X8_breachOf.2.1 122 = .ok (.getfield 26, 3) := by decide +kernel
theorem dX8_breachOf_125 : decode mi_X8_breachOf.2.1 125 = .ok (.iload_n 2, 1) := by decide +kernel
theorem dX8_breachOf_126 : decode mi_X8_breachOf.2.1 126 = .ok (.iaload, 1) := by decide +kernel
theorem dX8_breachOf_127 : decode mi_X8_breachOf.2.1 127 = .ok (.i2l, 1) := by decide +kernel
theorem dX8_breachOf_128 : decode mi_X8_breachOf.2.1 128 = .ok (.lastore, 1) := by decide +kernel
theorem dX8_breachOf_129 : decode mi_X8_breachOf.2.1 129 = .ok (.aload_n 0, 1) := by decide +kernel
theorem dX8_breachOf_130 : decode mi_X8_breachOf.2.1 130 = .ok (.getfield 151, 3) := by decide +kernel
theorem dX8_breachOf_133 : decode mi_X8_breachOf.2.1 133 = .ok (.bipush 7, 2) := by decide +kernel
theorem dX8_breachOf_135 : decode mi_X8_breachOf.2.1 135 = .ok (.aload_n 0, 1) := by decide +kernel
theorem dX8_breachOf_136 : decode mi_X8_breachOf.2.1 136 = .ok (.getfield 20, 3) := by decide +kernel
theorem dX8_breachOf_139 : decode mi_X8_breachOf.2.1 139 = .ok (.iload_n 2, 1) := by decide +kernel
theorem dX8_breachOf_140 : decode mi_X8_breachOf.2.1 140 = .ok (.iaload, 1) := by decide +kernel
theorem dX8_breachOf_141 : decode mi_X8_breachOf.2.1 141 = .ok (.i2l, 1) := by decide +kernel
theorem dX8_breachOf_142 : decode mi_X8_breachOf.2.1 142 = .ok (.lastore, 1) := by decide +kernel
theorem dX8_breachOf_143 : decode mi_X8_breachOf.2.1 143 = .ok (.aload_n 0, 1) := by decide +kernel
theorem dX8_breachOf_144 : decode mi_X8_breachOf.2.1 144 = .ok (.getfield 151, 3) := by decide +kernel
theorem dX8_breachOf_147 : decode mi_X8_breachOf.2.1 147 = .ok (.bipush 10, 2) := by decide +kernel
theorem dX8_breachOf_149 : decode mi_X8_breachOf.2.1 149 = .ok (.aload_n 0, 1) := by decide +kernel
theorem dX8_breachOf_150 : decode mi_X8_breachOf.2.1 150 = .ok (.getfield 194, 3) := by decide +kernel
theorem dX8_breachOf_153 : decode mi_X8_breachOf.2.1 153 = .ok (.iload_n 1, 1) := by decide +kernel
theorem dX8_breachOf_154 : decode mi_X8_breachOf.2.1 154 = .ok (.iaload, 1) := by decide +kernel
theorem dX8_breachOf_155 : decode mi_X8_breachOf.2.1 155 = .ok (.i2l, 1) := by decide +kernel
theorem dX8_breachOf_156 : decode mi_X8_breachOf.2.1 156 = .ok (.lastore, 1) := by decide +kernel
theorem dX8_breachOf_157 : decode mi_X8_breachOf.2.1 157 = .ok (.aload_n 0, 1) := by decide +kernel
theorem dX8_breachOf_158 : decode mi_X8_breachOf.2.1 158 = .ok (.bipush 98, 2) := by decide +kernel
theorem dX8_breachOf_160 : decode mi_X8_breachOf.2.1 160 = .ok (.bipush 114, 2) := by decide +kernel
theorem dX8_breachOf_162 : decode mi_X8_breachOf.2.1 162 = .ok (.bipush 101, 2) := by decide +kernel
theorem dX8_breachOf_164 : decode mi_X8_breachOf.2.1 164 = .ok (.bipush 97, 2) := by decide +kernel
theorem dX8_breachOf_166 : decode mi_X8_breachOf.2.1 166 = .ok (.bipush 99, 2) := by decide +kernel
theorem dX8_breachOf_168 : decode mi_X8_breachOf.2.1 168 = .ok (.bipush 104, 2) := by decide +kernel
theorem dX8_breachOf_170 : decode mi_X8_breachOf.2.1 170 = .ok (.invokestatic 350, 3) := by decide +kernel
theorem dX8_breachOf_173 : decode mi_X8_breachOf.2.1 173 = .ok (.aload_n 0, 1) := by decide +kernel
theorem dX8_breachOf_174 : decode mi_X8_breachOf.2.1 174 = .ok (.getfield 188, 3) := by decide +kernel
theorem dX8_breachOf_177 : decode mi_X8_breachOf.2.1 177 = .ok (.iload_n 1, 1) := by decide +kernel
theorem dX8_breachOf_178 : decode mi_X8_breachOf.2.1 178 = .ok (.iaload, 1) := by decide +kernel
theorem dX8_breachOf_179 : decode mi_X8_breachOf.2.1 179 = .ok (.lconst 0, 1) := by decide +kernel
theorem dX8_breachOf_180 : decode mi_X8_breachOf.2.1 180 = .ok (.invokevirtual 354, 3) := by decide +kernel
theorem dX8_breachOf_183 : decode mi_X8_breachOf.2.1 183 = .ok (.lconst 0, 1) := by decide +kernel
theorem dX8_breachOf_184 : decode mi_X8_breachOf.2.1 184 = .ok (.ldc2_w 326, 3) := by decide +kernel
theorem dX8_breachOf_187 : decode mi_X8_breachOf.2.1 187 = .ok (.invokestatic 360, 3) := by decide +kernel
theorem dX8_breachOf_190 : decode mi_X8_breachOf.2.1 190 = .ok (.lreturn, 1) := by decide +kernel
theorem v_X8_breachOf {G : ma_G} {d : Nat} {a0 : Nat} {x1 : Int32} {h : ah_T} {Q : Option ma_V → ah_T → Prop} {E : Nat → ah_T → Prop} (La0_h : LY8 h a0) (H : vp_in x1 60 ∧ vp_in (ah_I h (a0 + 56) x1.toNatClampNeg) 20 ∧ ((ah_I h (a0 + 53) (ah_I h (a0 + 56) x1.toNatClampNeg).toNatClampNeg) < 0 → Q (some (jv (0 : Int64))) h) ∧ (¬ (ah_I h (a0 + 53) (ah_I h (a0 + 56) x1.toNatClampNeg).toNatClampNeg) < 0 → (((ah_I h (a0 + 57) x1.toNatClampNeg) / (52 : Int32)).toInt64 < (ah_I h (a0 + 53) (ah_I h (a0 + 56) x1.toNatClampNeg).toNatClampNeg).toInt64 → Q (some (jv (0 : Int64))) h) ∧ (¬ ((ah_I h (a0 + 57) x1.toNatClampNeg) / (52 : Int32)).toInt64 < (ah_I h (a0 + 53) (ah_I h (a0 + 56) x1.toNatClampNeg).toNatClampNeg).toInt64 → ((ah_I h (a0 + 54) (ah_I h (a0 + 56) x1.toNatClampNeg).toNatClampNeg).toInt64 < ((ah_I h (a0 + 57) x1.toNatClampNeg) / (52 : Int32)).toInt64 → Q (some (jv (0 : Int64))) h) ∧ (¬ (ah_I h (a0 + 54) (ah_I h (a0 + 56) x1.toNatClampNeg).toNatClampNeg).toInt64 < ((ah_I h (a0 + 57) x1.toNatClampNeg) / (52 : Int32)).toInt64 → vp_in (((10 : Int32) * (ah_I h (a0 + 56) x1.toNatClampNeg)) + ((ah_I h (a0 + 57) x1.toNatClampNeg) / (52 : Int32))) 200 ∧ ((ah_I h (a0 + 61) (((10 : Int32) * (ah_I h (a0 + 56) x1.toNatClampNeg)) + ((ah_I h (a0 + 57) x1.toNatClampNeg) / (52 : Int32))).toNatClampNeg) = 0 → MX G mi_X8_letNothing d 0 [some (rv a0), none] [] h (Qv fun h8 => ah_ext h h8 → ∀ h10 : ah_T, h10 = ah_wJ h8 (a0 + 45) 2 (ah_I h8 (a0 + 57) x1.toNatClampNeg).toInt64 → ah_ext h8 h10 → ∀ h11 : ah_T, h11 = ah_wJ h10 (a0 + 45) 3 ((ah_I h (a0 + 57) x1.toNatClampNeg) / (52 : Int32)).toInt64 → ah_ext h10 h11 → ∀ h12 : ah_T, h12 = ah_wJ h11 (a0 + 45) 4 (ah_I h8 (a0 + 58) x1.toNatClampNeg).toInt64 → ah_ext h11 h12 → ∀ h13 : ah_T, h13 = ah_wJ h12 (a0 + 45) 5 (ah_I h8 (a0 + 5) (ah_I h (a0 + 56) x1.toNatClampNeg).toNatClampNeg).toInt64 → ah_ext h12 h13 → ∀ h14 : ah_T, h14 = ah_wJ h13 (a0 + 45) 6 (ah_I h8 (a0 + 6) (ah_I h (a0 + 56) x1.toNatClampNeg).toNatClampNeg).toInt64 → ah_ext h13 h14 → ∀ h15 : ah_T, h15 = ah_wJ h14 (a0 + 45) 7 (ah_I h8 (a0 + 4) (ah_I h (a0 + 56) x1.toNatClampNeg).toNatClampNeg).toInt64 → ah_ext h14 h15 → ∀ h16 : ah_T, h16 = ah_wJ h15 (a0 + 45) 10 (ah_I h8 (a0 + 59) x1.toNatClampNeg).toInt64 → ah_ext h15 h16 → MX G mi_X8_told d 0 [some (rv a0), some (jv (86148200 : Int64)), none, some (iv (ah_I h8 (a0 + 57) x1.toNatClampNeg)), some (jv (0 : Int64)), none, none, none, none] [] h16 (Ql fun r18 h17 => ah_ext h16 h17 → Q (some (jv (jCut r18 (0 : Int64) (1000 : Int64)))) h17) E) E) ∧ (¬ (ah_I h (a0 + 61) (((10 : Int32) * (ah_I h (a0 + 56) x1.toNatClampNeg)) + ((ah_I h (a0 + 57) x1.toNatClampNeg) / (52 : Int32))).toNatClampNeg) = 0 → Q (some (jv (0 : Int64))) h))))) : MX G mi_X8_breachOf (d + 1) 0 [some (rv a0), some (iv x1), none, none] [] h Q E := by
  refine mx_aload_n dX8_breachOf_0 rfl rfl ?_
  refine mx_get 8 82 (ref := "PrairiePoolModel") cl_8 (Nat.le_of_ble_eq_true rfl) (Or.inl q1709) (Or.inl rfl) dX8_breachOf_1 (fv_8_82 _ _) (ly8_k La0_h) ?_
  refine mx_tr (ly8_R_0_82 La0_h) ?_
  refine mx_iload_n dX8_breachOf_4 rfl rfl ?_
  obtain ⟨k1, H⟩ := H
  refine my_iald dX8_breachOf_5 rfl (ly8_A_56 La0_h k1) ?_
  refine mx_istore_n (al' := [some (rv a0), some (iv x1), some (iv (ah_I h (a0 + 56) x1.toNatClampNeg)), none]) dX8_breachOf_6 rfl (Nat.le_of_ble_eq_true rfl) rfl ?_
  refine mx_aload_n dX8_breachOf_7 rfl rfl ?_
  refine mx_get 8 83 (ref := "PrairiePoolModel") cl_8 (Nat.le_of_ble_eq_true rfl) (Or.inl q1710) (Or.inl rfl) dX8_breachOf_8 (fv_8_83 _ _) (ly8_k La0_h) ?_
  refine mx_tr (ly8_R_0_83 La0_h) ?_
  refine mx_iload_n dX8_breachOf_11 rfl rfl ?_
  refine my_iald dX8_breachOf_12 rfl (ly8_A_57 La0_h k1) ?_
  refine mx_bipush dX8_breachOf_13 ib_52 ?_
  refine mx_idiv dX8_breachOf_15 (by decide) ?_
  refine mx_istore_n (al' := [some (rv a0), some (iv x1), some (iv (ah_I h (a0 + 56) x1.toNatClampNeg)), some (iv ((ah_I h (a0 + 57) x1.toNatClampNeg) / (52 : Int32)))]) dX8_breachOf_16 rfl (Nat.le_of_ble_eq_true rfl) rfl ?_
  refine mx_aload_n dX8_breachOf_17 rfl rfl ?_
  refine mx_get 8 79 (ref := "PrairiePoolModel") cl_8 (Nat.le_of_ble_eq_true rfl) (Or.inl q1706) (Or.inl rfl) dX8_breachOf_18 (fv_8_79 _ _) (ly8_k La0_h) ?_
  refine mx_tr (ly8_R_0_79 La0_h) ?_
  refine mx_iload_n dX8_breachOf_21 rfl rfl ?_
  obtain ⟨k2, H⟩ := H
  refine my_iald dX8_breachOf_22 rfl (ly8_A_53 La0_h k2) ?_
  refine mx_if_lt (tgt := 62) dX8_breachOf_23 rfl (fun c3 => ?_) (fun c3 => ?_)
  · have H := H.1 c3
    refine mx_lconst dX8_breachOf_62 lc_0 ?_
    exact mx_lret rfl dX8_breachOf_63 H
  · have H := H.2 c3
    refine mx_iload_n dX8_breachOf_26 rfl rfl ?_
    refine mx_i2l dX8_breachOf_27 ?_
    refine mx_aload_n dX8_breachOf_28 rfl rfl ?_
    refine mx_get 8 79 (ref := "PrairiePoolModel") cl_8 (Nat.le_of_ble_eq_true rfl) (Or.inl q1706) (Or.inl rfl) dX8_breachOf_29 (fv_8_79 _ _) (ly8_k La0_h) ?_
    refine mx_tr (ly8_R_0_79 La0_h) ?_
    refine mx_iload_n dX8_breachOf_32 rfl rfl ?_
    refine my_iald dX8_breachOf_33 rfl (ly8_A_53 La0_h k2) ?_
    refine mx_i2l dX8_breachOf_34 ?_
    refine mx_aload_n dX8_breachOf_35 rfl rfl ?_
    refine mx_get 8 80 (ref := "PrairiePoolModel") cl_8 (Nat.le_of_ble_eq_true rfl) (Or.inl q1707) (Or.inl rfl) dX8_breachOf_36 (fv_8_80 _ _) (ly8_k La0_h) ?_
    refine mx_tr (ly8_R_0_80 La0_h) ?_
    refine mx_iload_n dX8_breachOf_39 rfl rfl ?_
    refine my_iald dX8_breachOf_40 rfl (ly8_A_54 La0_h k2) ?_
    refine mx_i2l dX8_breachOf_41 ?_
    refine mx_callS (y' := mi_X8_isIn) (vs := [jv ((ah_I h (a0 + 57) x1.toNatClampNeg) / (52 : Int32)).toInt64, jv (ah_I h (a0 + 53) (ah_I h (a0 + 56) x1.toNatClampNeg).toNatClampNeg).toInt64, jv (ah_I h (a0 + 54) (ah_I h (a0 + 56) x1.toNatClampNeg).toNatClampNeg).toInt64]) (st := []) (al' := [some (jv ((ah_I h (a0 + 57) x1.toNatClampNeg) / (52 : Int32)).toInt64), none, some (jv (ah_I h (a0 + 53) (ah_I h (a0 + 56) x1.toNatClampNeg).toNatClampNeg).toInt64), none, some (jv (ah_I h (a0 + 54) (ah_I h (a0 + 56) x1.toNatClampNeg).toNatClampNeg).toInt64), none]) S_X8_isIn q1996 dX8_breachOf_42 rfl rfl (Nat.le_of_ble_eq_true rfl) (Nat.le_of_ble_eq_true rfl) ?_
    refine mx_lload_n dX8_isIn_0 rfl rfl ?_
    refine mx_lload_n dX8_isIn_1 rfl rfl ?_
    refine mx_lif_lt (tgt := 17) dX8_isIn_2 dX8_isIn_3 rfl (fun c4 => ?_) (fun c4 => ?_)
    · have H := H.1 c4
      refine mx_iconst dX8_isIn_17 ic_0 ?_
      refine mx_zretK rfl dX8_isIn_18 (Or.inl rfl) ?_
      refine mx_if_eq (tgt := 62) dX8_breachOf_45 rfl (fun _ => ?_) (fun _ => absurd ‹_› (by decide))
      refine mx_lconst dX8_breachOf_62 lc_0 ?_
      exact mx_lret rfl dX8_breachOf_63 H
    · have H := H.2 c4
      refine mx_lload_n dX8_isIn_6 rfl rfl ?_
      refine mx_lload dX8_isIn_7 rfl ?_
      refine mx_lif_gt (tgt := 17) dX8_isIn_9 dX8_isIn_10 rfl (fun c5 => ?_) (fun c5 => ?_)
      · have H := H.1 c5
        refine mx_iconst dX8_isIn_17 ic_0 ?_
        refine mx_zretK rfl dX8_isIn_18 (Or.inl rfl) ?_
        refine mx_if_eq (tgt := 62) dX8_breachOf_45 rfl (fun _ => ?_) (fun _ => absurd ‹_› (by decide))
        refine mx_lconst dX8_breachOf_62 lc_0 ?_
        exact mx_lret rfl dX8_breachOf_63 H
      · have H := H.2 c5
        refine mx_iconst dX8_isIn_13 ic_1 ?_
        refine mx_goto (tgt := 18) dX8_isIn_14 rfl ?_
        refine mx_zretK rfl dX8_isIn_18 (Or.inr rfl) ?_
        refine mx_if_eq (tgt := 62) dX8_breachOf_45 rfl (fun _ => absurd ‹_› (by decide)) (fun _ => ?_)
        refine mx_aload_n dX8_breachOf_48 rfl rfl ?_
        refine mx_get 8 87 (ref := "PrairiePoolModel") cl_8 (Nat.le_of_ble_eq_true rfl) (Or.inl q1714) (Or.inl rfl) dX8_breachOf_49 (fv_8_87 _ _) (ly8_k La0_h) ?_
        refine mx_tr (ly8_R_0_87 La0_h) ?_
        refine mx_bipush dX8_breachOf_52 ib_10 ?_
        refine mx_iload_n dX8_breachOf_54 rfl rfl ?_
        refine mx_imul dX8_breachOf_55 ?_
        refine mx_iload_n dX8_breachOf_56 rfl rfl ?_
        refine mx_iadd dX8_breachOf_57 ?_
        obtain ⟨k6, H⟩ := H
        refine my_zald dX8_breachOf_58 rfl (ly8_A_61 La0_h k6) ?_
        refine mx_if_eq (tgt := 64) dX8_breachOf_59 rfl (fun c7 => ?_) (fun c7 => ?_)
        · have H := H.1 c7
          refine mx_aload_n dX8_breachOf_64 rfl rfl ?_
          refine mx_callV 8 (y' := mi_X8_letNothing) (vs := []) (st := []) (al' := [some (rv a0), none]) cl_8 V_X8_letNothing (Or.inl q2067) dX8_breachOf_65 rfl rfl (Nat.le_of_ble_eq_true rfl) (Nat.le_of_ble_eq_true rfl) (ly8_k La0_h) ?_
          refine ma_kv H (fun h8 Xh8 H => ?_) (fun x1 h1 X1 H => mt_out rfl H)
          have H := H Xh8
          have La0_h8 := La0_h.ext Xh8
          refine mx_aload_n dX8_breachOf_68 rfl rfl ?_
          refine mx_get 8 68 (ref := "PrairiePoolModel") cl_8 (Nat.le_of_ble_eq_true rfl) (Or.inl q1695) (Or.inl rfl) dX8_breachOf_69 (fv_8_68 _ _) (ly8_k La0_h8) ?_
          refine mx_tr (ly8_R_0_68 La0_h8) ?_
          refine mx_iconst dX8_breachOf_72 ic_2 ?_
          refine mx_aload_n dX8_breachOf_73 rfl rfl ?_
          refine mx_get 8 83 (ref := "PrairiePoolModel") cl_8 (Nat.le_of_ble_eq_true rfl) (Or.inl q1710) (Or.inl rfl) dX8_breachOf_74 (fv_8_83 _ _) (ly8_k La0_h8) ?_
          refine mx_tr (ly8_R_0_83 La0_h8) ?_
          refine mx_iload_n dX8_breachOf_77 rfl rfl ?_
          refine my_iald dX8_breachOf_78 rfl (ly8_A_57 La0_h8 k1) ?_
          refine mx_i2l dX8_breachOf_79 ?_
          refine my_last dX8_breachOf_80 cn_2 (ly8_A_45 La0_h8 (vp_c (by decide))) ?_
          refine mx_nmJ  (fun h10 eh10 Xh10 Kh10 Lh10 => ?_)
          have H := H h10 eh10 Xh10
          have La0_h10 := La0_h8.ext Xh10
          refine mx_aload_n dX8_breachOf_81 rfl rfl ?_
          refine mx_get 8 68 (ref := "PrairiePoolModel") cl_8 (Nat.le_of_ble_eq_true rfl) (Or.inl q1695) (Or.inl rfl) dX8_breachOf_82 (fv_8_68 _ _) (ly8_k La0_h10) ?_
          refine mx_tr (ly8_R_0_68 La0_h10) ?_
          refine mx_iconst dX8_breachOf_85 ic_3 ?_
          refine mx_iload_n dX8_breachOf_86 rfl rfl ?_
          refine mx_i2l dX8_breachOf_87 ?_
          refine my_last dX8_breachOf_88 cn_3 (ly8_A_45 La0_h10 (vp_c (by decide))) ?_
          refine mx_nmJ  (fun h11 eh11 Xh11 Kh11 Lh11 => ?_)
          have H := H h11 eh11 Xh11
          have Kh11 := Kh11.trans Kh10
          have Lh11 := Lh11.trans Lh10
          have La0_h11 := La0_h10.ext Xh11
          refine mx_aload_n dX8_breachOf_89 rfl rfl ?_
          refine mx_get 8 68 (ref := "PrairiePoolModel") cl_8 (Nat.le_of_ble_eq_true rfl) (Or.inl q1695) (Or.inl rfl) dX8_breachOf_90 (fv_8_68 _ _) (ly8_k La0_h11) ?_
          refine mx_tr (ly8_R_0_68 La0_h11) ?_
          refine mx_iconst dX8_breachOf_93 ic_4 ?_
          refine mx_aload_n dX8_breachOf_94 rfl rfl ?_
          refine mx_get 8 84 (ref := "PrairiePoolModel") cl_8 (Nat.le_of_ble_eq_true rfl) (Or.inl q1711) (Or.inl rfl) dX8_breachOf_95 (fv_8_84 _ _) (ly8_k La0_h11) ?_
          refine mx_tr (ly8_R_0_84 La0_h11) ?_
          refine mx_iload_n dX8_breachOf_98 rfl rfl ?_
          refine my_iald dX8_breachOf_99 rfl (ly8_A_58 La0_h11 k1) ?_
          refine mx_ti ((ah_IJ eh11).trans (ah_IJ eh10)) ?_
          refine mx_i2l dX8_breachOf_100 ?_
          refine my_last dX8_breachOf_101 cn_4 (ly8_A_45 La0_h11 (vp_c (by decide))) ?_
          refine mx_nmJ  (fun h12 eh12 Xh12 Kh12 Lh12 => ?_)
          have H := H h12 eh12 Xh12
          have Kh12 := Kh12.trans Kh11
          have Lh12 := Lh12.trans Lh11
          have La0_h12 := La0_h11.ext Xh12
          refine mx_aload_n dX8_breachOf_102 rfl rfl ?_
          refine mx_get 8 68 (ref := "PrairiePoolModel") cl_8 (Nat.le_of_ble_eq_true rfl) (Or.inl q1695) (Or.inl rfl) dX8_breachOf_103 (fv_8_68 _ _) (ly8_k La0_h12) ?_
          refine mx_tr (ly8_R_0_68 La0_h12) ?_
          refine mx_iconst dX8_breachOf_106 ic_5 ?_
          refine mx_aload_n dX8_breachOf_107 rfl rfl ?_
          refine mx_get 8 12 (ref := "PrairiePoolModel") cl_8 (Nat.le_of_ble_eq_true rfl) (Or.inl q1639) (Or.inl rfl) dX8_breachOf_108 (fv_8_12 _ _) (ly8_k La0_h12) ?_
          refine mx_tr (ly8_R_0_12 La0_h12) ?_
          refine mx_iload_n dX8_breachOf_111 rfl rfl ?_
          refine my_iald dX8_breachOf_112 rfl (ly8_A_5 La0_h12 k2) ?_
          refine mx_ti (((ah_IJ eh12).trans (ah_IJ eh11)).trans (ah_IJ eh10)) ?_
          refine mx_i2l dX8_breachOf_113 ?_
          refine my_last dX8_breachOf_114 cn_5 (ly8_A_45 La0_h12 (vp_c (by decide))) ?_
          refine mx_nmJ  (fun h13 eh13 Xh13 Kh13 Lh13 => ?_)
          have H := H h13 eh13 Xh13
          have Kh13 := Kh13.trans Kh12
          have Lh13 := Lh13.trans Lh12
          have La0_h13 := La0_h12.ext Xh13
          refine mx_aload_n dX8_breachOf_115 rfl rfl ?_
          refine mx_get 8 68 (ref := "PrairiePoolModel") cl_8 (Nat.le_of_ble_eq_true rfl) (Or.inl q1695) (Or.inl rfl) dX8_breachOf_116 (fv_8_68 _ _) (ly8_k La0_h13) ?_
          refine mx_tr (ly8_R_0_68 La0_h13) ?_
          refine mx_bipush dX8_breachOf_119 ib_6 ?_
          refine mx_aload_n dX8_breachOf_121 rfl rfl ?_
          refine mx_get 8 13 (ref := "PrairiePoolModel") cl_8 (Nat.le_of_ble_eq_true rfl) (Or.inl q1640) (Or.inl rfl) dX8_breachOf_122 (fv_8_13 _ _) (ly8_k La0_h13) ?_
          refine mx_tr (ly8_R_0_13 La0_h13) ?_
          refine mx_iload_n dX8_breachOf_125 rfl rfl ?_
          refine my_iald dX8_breachOf_126 rfl (ly8_A_6 La0_h13 k2) ?_
          refine mx_ti ((((ah_IJ eh13).trans (ah_IJ eh12)).trans (ah_IJ eh11)).trans (ah_IJ eh10)) ?_
          refine mx_i2l dX8_breachOf_127 ?_
          refine my_last dX8_breachOf_128 cn_6 (ly8_A_45 La0_h13 (vp_c (by decide))) ?_
          refine mx_nmJ  (fun h14 eh14 Xh14 Kh14 Lh14 => ?_)
          have H := H h14 eh14 Xh14
          have Kh14 := Kh14.trans Kh13
          have Lh14 := Lh14.trans Lh13
          have La0_h14 := La0_h13.ext Xh14
          refine mx_aload_n dX8_breachOf_129 rfl rfl ?_
          refine mx_get 8 68 (ref := "PrairiePoolModel") cl_8 (Nat.le_of_ble_eq_true rfl) (Or.inl q1695) (Or.inl rfl) dX8_breachOf_130 (fv_8_68 _ _) (ly8_k La0_h14) ?_
          refine mx_tr (ly8_R_0_68 La0_h14) ?_
          refine mx_bipush dX8_breachOf_133 ib_7 ?_
          refine mx_aload_n dX8_breachOf_135 rfl rfl ?_
          refine mx_get 8 11 (ref := "PrairiePoolModel") cl_8 (Nat.le_of_ble_eq_true rfl) (Or.inl q1638) (Or.inl rfl) dX8_breachOf_136 (fv_8_11 _ _) (ly8_k La0_h14) ?_
          refine mx_tr (ly8_R_0_11 La0_h14) ?_
          refine mx_iload_n dX8_breachOf_139 rfl rfl ?_
          refine my_iald dX8_breachOf_140 rfl (ly8_A_4 La0_h14 k2) ?_
          refine mx_ti (((((ah_IJ eh14).trans (ah_IJ eh13)).trans (ah_IJ eh12)).trans (ah_IJ eh11)).trans (ah_IJ eh10)) ?_
          refine mx_i2l dX8_breachOf_141 ?_
          refine my_last dX8_breachOf_142 cn_7 (ly8_A_45 La0_h14 (vp_c (by decide))) ?_
          refine mx_nmJ  (fun h15 eh15 Xh15 Kh15 Lh15 => ?_)
          have H := H h15 eh15 Xh15
          have Kh15 := Kh15.trans Kh14
          have Lh15 := Lh15.trans Lh14
          have La0_h15 := La0_h14.ext Xh15
          refine mx_aload_n dX8_breachOf_143 rfl rfl ?_
          refine mx_get 8 68 (ref := "PrairiePoolModel") cl_8 (Nat.le_of_ble_eq_true rfl) (Or.inl q1695) (Or.inl rfl) dX8_breachOf_144 (fv_8_68 _ _) (ly8_k La0_h15) ?_
          refine mx_tr (ly8_R_0_68 La0_h15) ?_
          refine mx_bipush dX8_breachOf_147 ib_10 ?_
          refine mx_aload_n dX8_breachOf_149 rfl rfl ?_
          refine mx_get 8 85 (ref := "PrairiePoolModel") cl_8 (Nat.le_of_ble_eq_true rfl) (Or.inl q1712) (Or.inl rfl) dX8_breachOf_150 (fv_8_85 _ _) (ly8_k La0_h15) ?_
          refine mx_tr (ly8_R_0_85 La0_h15) ?_
          refine mx_iload_n dX8_breachOf_153 rfl rfl ?_
          refine my_iald dX8_breachOf_154 rfl (ly8_A_59 La0_h15 k1) ?_
          refine mx_ti ((((((ah_IJ eh15).trans (ah_IJ eh14)).trans (ah_IJ eh13)).trans (ah_IJ eh12)).trans (ah_IJ eh11)).trans (ah_IJ eh10)) ?_
          refine mx_i2l dX8_breachOf_155 ?_
          refine my_last dX8_breachOf_156 cn_10 (ly8_A_45 La0_h15 (vp_c (by decide))) ?_
          refine mx_nmJ  (fun h16 eh16 Xh16 Kh16 Lh16 => ?_)
          have H := H h16 eh16 Xh16
          have Kh16 := Kh16.trans Kh15
          have Lh16 := Lh16.trans Lh15
          have La0_h16 := La0_h15.ext Xh16
          refine mx_aload_n dX8_breachOf_157 rfl rfl ?_
          refine mx_bipush dX8_breachOf_158 ib_98 ?_
          refine mx_bipush dX8_breachOf_160 ib_114 ?_
          refine mx_bipush dX8_breachOf_162 ib_101 ?_
          refine mx_bipush dX8_breachOf_164 ib_97 ?_
          refine mx_bipush dX8_breachOf_166 ib_99 ?_
          refine mx_bipush dX8_breachOf_168 ib_104 ?_
          refine mx_callS (y' := mi_X8_spelled) (vs := [iv (98 : Int32), iv (114 : Int32), iv (101 : Int32), iv (97 : Int32), iv (99 : Int32), iv (104 : Int32)]) (st := [rv a0]) (al' := [some (iv (98 : Int32)), some (iv (114 : Int32)), some (iv (101 : Int32)), some (iv (97 : Int32)), some (iv (99 : Int32)), some (iv (104 : Int32)), none, none]) S_X8_spelled q2075 dX8_breachOf_170 rfl rfl (Nat.le_of_ble_eq_true rfl) (Nat.le_of_ble_eq_true rfl) ?_
          refine mx_iload_n dX8_spelled_0 rfl rfl ?_
          refine mx_i2l dX8_spelled_1 ?_
          refine mx_ldc2 q2078 dX8_spelled_2 ?_
          refine mx_lsub dX8_spelled_5 ?_
          refine mx_lstore (al' := [some (iv (98 : Int32)), some (iv (114 : Int32)), some (iv (101 : Int32)), some (iv (97 : Int32)), some (iv (99 : Int32)), some (iv (104 : Int32)), some (jv ((98 : Int32).toInt64 - (96 : Int64))), none]) dX8_spelled_6 (Nat.le_of_ble_eq_true rfl) rfl ?_
          refine mx_lload dX8_spelled_8 rfl ?_
          refine mx_ldc2 q2079 dX8_spelled_10 ?_
          refine mx_lmul dX8_spelled_13 ?_
          refine mx_iload_n dX8_spelled_14 rfl rfl ?_
          refine mx_i2l dX8_spelled_15 ?_
          refine mx_ladd dX8_spelled_16 ?_
          refine mx_ldc2 q2078 dX8_spelled_17 ?_
          refine mx_lsub dX8_spelled_20 ?_
          refine mx_lstore (al' := [some (iv (98 : Int32)), some (iv (114 : Int32)), some (iv (101 : Int32)), some (iv (97 : Int32)), some (iv (99 : Int32)), some (iv (104 : Int32)), some (jv (((((98 : Int32).toInt64 - (96 : Int64)) * (32 : Int64)) + (114 : Int32).toInt64) - (96 : Int64))), none]) dX8_spelled_21 (Nat.le_of_ble_eq_true rfl) rfl ?_
          refine mx_iload_n dX8_spelled_23 rfl rfl ?_
          refine mx_if_le (tgt := 43) dX8_spelled_24 rfl (fun _ => absurd ‹_› (by decide)) (fun _ => ?_)
          refine mx_lload dX8_spelled_27 rfl ?_
          refine mx_ldc2 q2079 dX8_spelled_29 ?_
          refine mx_lmul dX8_spelled_32 ?_
          refine mx_iload_n dX8_spelled_33 rfl rfl ?_
          refine mx_i2l dX8_spelled_34 ?_
          refine mx_ladd dX8_spelled_35 ?_
          refine mx_ldc2 q2078 dX8_spelled_36 ?_
          refine mx_lsub dX8_spelled_39 ?_
          refine mx_goto (tgt := 45) dX8_spelled_40 rfl ?_
          refine mx_lstore (al' := [some (iv (98 : Int32)), some (iv (114 : Int32)), some (iv (101 : Int32)), some (iv (97 : Int32)), some (iv (99 : Int32)), some (iv (104 : Int32)), some (jv ((((((((98 : Int32).toInt64 - (96 : Int64)) * (32 : Int64)) + (114 : Int32).toInt64) - (96 : Int64)) * (32 : Int64)) + (101 : Int32).toInt64) - (96 : Int64))), none]) dX8_spelled_45 (Nat.le_of_ble_eq_true rfl) rfl ?_
          refine mx_iload_n dX8_spelled_47 rfl rfl ?_
          refine mx_if_le (tgt := 67) dX8_spelled_48 rfl (fun _ => absurd ‹_› (by decide)) (fun _ => ?_)
          refine mx_lload dX8_spelled_51 rfl ?_
          refine mx_ldc2 q2079 dX8_spelled_53 ?_
          refine mx_lmul dX8_spelled_56 ?_
          refine mx_iload_n dX8_spelled_57 rfl rfl ?_
          refine mx_i2l dX8_spelled_58 ?_
          refine mx_ladd dX8_spelled_59 ?_
          refine mx_ldc2 q2078 dX8_spelled_60 ?_
          refine mx_lsub dX8_spelled_63 ?_
          refine mx_goto (tgt := 69) dX8_spelled_64 rfl ?_
          refine mx_lstore (al' := [some (iv (98 : Int32)), some (iv (114 : Int32)), some (iv (101 : Int32)), some (iv (97 : Int32)), some (iv (99 : Int32)), some (iv (104 : Int32)), some (jv (((((((((((98 : Int32).toInt64 - (96 : Int64)) * (32 : Int64)) + (114 : Int32).toInt64) - (96 : Int64)) * (32 : Int64)) + (101 : Int32).toInt64) - (96 : Int64)) * (32 : Int64)) + (97 : Int32).toInt64) - (96 : Int64))), none]) dX8_spelled_69 (Nat.le_of_ble_eq_true rfl) rfl ?_
          refine mx_iload dX8_spelled_71 rfl ?_
          refine mx_if_le (tgt := 93) dX8_spelled_73 rfl (fun _ => absurd ‹_› (by decide)) (fun _ => ?_)
          refine mx_lload dX8_spelled_76 rfl ?_
          refine mx_ldc2 q2079 dX8_spelled_78 ?_
          refine mx_lmul dX8_spelled_81 ?_
          refine mx_iload dX8_spelled_82 rfl ?_
          refine mx_i2l dX8_spelled_84 ?_
          refine mx_ladd dX8_spelled_85 ?_
          refine mx_ldc2 q2078 dX8_spelled_86 ?_
          refine mx_lsub dX8_spelled_89 ?_
          refine mx_goto (tgt := 95) dX8_spelled_90 rfl ?_
          refine mx_lstore (al' := [some (iv (98 : Int32)), some (iv (114 : Int32)), some (iv (101 : Int32)), some (iv (97 : Int32)), some (iv (99 : Int32)), some (iv (104 : Int32)), some (jv ((((((((((((((98 : Int32).toInt64 - (96 : Int64)) * (32 : Int64)) + (114 : Int32).toInt64) - (96 : Int64)) * (32 : Int64)) + (101 : Int32).toInt64) - (96 : Int64)) * (32 : Int64)) + (97 : Int32).toInt64) - (96 : Int64)) * (32 : Int64)) + (99 : Int32).toInt64) - (96 : Int64))), none]) dX8_spelled_95 (Nat.le_of_ble_eq_true rfl) rfl ?_
          refine mx_iload dX8_spelled_97 rfl ?_
          refine mx_if_le (tgt := 119) dX8_spelled_99 rfl (fun _ => absurd ‹_› (by decide)) (fun _ => ?_)
          refine mx_lload dX8_spelled_102 rfl ?_
          refine mx_ldc2 q2079 dX8_spelled_104 ?_
          refine mx_lmul dX8_spelled_107 ?_
          refine mx_iload dX8_spelled_108 rfl ?_
          refine mx_i2l dX8_spelled_110 ?_
          refine mx_ladd dX8_spelled_111 ?_
          refine mx_ldc2 q2078 dX8_spelled_112 ?_
          refine mx_lsub dX8_spelled_115 ?_
          refine mx_goto (tgt := 121) dX8_spelled_116 rfl ?_
          refine mx_lretK rfl dX8_spelled_121 ?_
          refine mx_tj (show (((((((((((((((((98 : Int32).toInt64 - (96 : Int64)) * (32 : Int64)) + (114 : Int32).toInt64) - (96 : Int64)) * (32 : Int64)) + (101 : Int32).toInt64) - (96 : Int64)) * (32 : Int64)) + (97 : Int32).toInt64) - (96 : Int64)) * (32 : Int64)) + (99 : Int32).toInt64) - (96 : Int64)) * (32 : Int64)) + (104 : Int32).toInt64) - (96 : Int64)) = (86148200 : Int64) by decide) ?_
          refine mx_aload_n dX8_breachOf_173 rfl rfl ?_
          refine mx_get 8 83 (ref := "PrairiePoolModel") cl_8 (Nat.le_of_ble_eq_true rfl) (Or.inl q1710) (Or.inl rfl) dX8_breachOf_174 (fv_8_83 _ _) (ly8_k La0_h16) ?_
          refine mx_tr (ly8_R_0_83 La0_h16) ?_
          refine mx_iload_n dX8_breachOf_177 rfl rfl ?_
          refine my_iald dX8_breachOf_178 rfl (ly8_A_57 La0_h16 k1) ?_
          refine mx_ti (((((((ah_IJ eh16).trans (ah_IJ eh15)).trans (ah_IJ eh14)).trans (ah_IJ eh13)).trans (ah_IJ eh12)).trans (ah_IJ eh11)).trans (ah_IJ eh10)) ?_
          refine mx_lconst dX8_breachOf_179 lc_0 ?_
          refine mx_callV 8 (y' := mi_X8_told) (vs := [jv (86148200 : Int64), iv (ah_I h8 (a0 + 57) x1.toNatClampNeg), jv (0 : Int64)]) (st := []) (al' := [some (rv a0), some (jv (86148200 : Int64)), none, some (iv (ah_I h8 (a0 + 57) x1.toNatClampNeg)), some (jv (0 : Int64)), none, none, none, none]) cl_8 V_X8_told (Or.inl q2080) dX8_breachOf_180 rfl rfl (Nat.le_of_ble_eq_true rfl) (Nat.le_of_ble_eq_true rfl) (ly8_k La0_h16) ?_
          refine ma_kl H (fun r18 h17 Xh17 H => ?_) (fun x1 h1 X1 H => mt_out rfl H)
          have H := H Xh17
          have La0_h17 := La0_h16.ext Xh17
          refine mx_lconst dX8_breachOf_183 lc_0 ?_
          refine mx_ldc2 q2023 dX8_breachOf_184 ?_
          refine mx_callS (y' := mi_X8_cut_2) (vs := [jv r18, jv (0 : Int64), jv (1000 : Int64)]) (st := []) (al' := [some (jv r18), none, some (jv (0 : Int64)), none, some (jv (1000 : Int64)), none]) S_X8_cut_2 q2108 dX8_breachOf_187 rfl rfl (Nat.le_of_ble_eq_true rfl) (Nat.le_of_ble_eq_true rfl) ?_
          refine pv_X8_cut_2 ?_
          exact mx_lret rfl dX8_breachOf_190 H
        · have H := H.2 c7
          refine mx_lconst dX8_breachOf_62 lc_0 ?_
          exact mx_lret rfl dX8_breachOf_63 H
theorem dX8_cost_0 : decode mi_X8_cost.2.1 0 = .ok (.aload_n 0, 1) := by decide +kernel
theorem dX8_cost_1 : decode mi_X8_cost.2.1 1 = .ok (.iconst 0, 1) := by decide +kernel
theorem dX8_cost_2 : decode mi_X8_cost.2.1 2 = .ok (.putfield 257, 3) := by decide +kernel
theorem dX8_cost_5 : decode mi_X8_cost.2.1 5 = .ok (.aload_n 0, 1) := by decide +kernel
theorem dX8_cost_6 : decode mi_X8_cost.2.1 6 = .ok (.iconst 0, 1) := by decide +kernel
theorem dX8_cost_7 : decode mi_X8_cost.2.1 7 = .ok (.putfield 260, 3) := by decide +kernel
theorem dX8_cost_10 : decode mi_X8_cost.2.1 10 = .ok (.aload_n 0, 1) := by decide +kernel
theorem dX8_cost_11 : decode mi_X8_cost.2.1 11 = .ok (.iload_n 1, 1) := by decide +kernel
theorem dX8_cost_12 : decode mi_X8_cost.2.1 12 = .ok (.invokevirtual 318, 3) := by decide +kernel
theorem dX8_cost_15 : decode mi_X8_cost.2.1 15 = .ok (.ifCond .ne 10, 3) := by decide +kernel
theorem dX8_cost_18 : decode mi_X8_cost.2.1 18 = .ok (.aload_n 0, 1) := by decide +kernel
theorem dX8_cost_19 : decode mi_X8_cost.2.1 19 = .ok (.iconst 2, 1) := by decide +kernel
theorem dX8_cost_20 : decode mi_X8_cost.2.1 20 = .ok (.invokevirtual 297, 3) := by decide +kernel
theorem dX8_cost_23 : decode mi_X8_cost.2.1 23 = .ok (.i2l, 1) := by decide +kernel
theorem dX8_cost_24 : decode mi_X8_cost.2.1 24 = .ok (.lreturn, 1) := by decide +kernel
theorem dX8_cost_25 : decode mi_X8_cost.2.1 25 = .ok (.iload_n 2, 1) := by decide +kernel
theorem dX8_cost_26 : decode mi_X8_cost.2.1 26 = .ok (.invokestatic 335, 3) := by decide +kernel
theorem dX8_cost_29 : decode mi_X8_cost.2.1 29 = .ok (.ifCond .ne 10, 3) := by decide +kernel
theorem dX8_cost_32 : decode mi_X8_cost.2.1 32 = .ok (.aload_n 0, 1) := by decide +kernel
theorem dX8_cost_33 : decode mi_X8_cost.2.1 33 = .ok (.iconst 5, 1) := by decide +kernel
theorem dX8_cost_34 : decode mi_X8_cost.2.1 34 = .ok (.invokevirtual 297, 3) := by decide +kernel
theorem dX8_cost_37 : decode mi_X8_cost.2.1 37 = .ok (.i2l, 1) := by decide +kernel
theorem dX8_cost_38 : decode mi_X8_cost.2.1 38 = .ok (.lreturn, 1) := by decide +kernel
theorem dX8_cost_39 : decode mi_X8_cost.2.1 39 = .ok (.lconst 0, 1) := by decide +kernel
theorem dX8_cost_40 : decode mi_X8_cost.2.1 40 = .ok (.lstore_n 3, 1) := by decide +kernel
theorem dX8_cost_41 : decode mi_X8_cost.2.1 41 = .ok (.iconst 0, 1) := by decide +kernel
theorem dX8_cost_42 : decode mi_X8_cost.2.1 42 = .ok (.istore 5, 2) := by decide +kernel
theorem dX8_cost_44 : decode mi_X8_cost.2.1 44 = .ok (.iload 5, 2) := by decide +kernel
theorem dX8_cost_46 : decode mi_X8_cost.2.1 46 = .ok (.aload_n 0, 1) := by decide +kernel
theorem dX8_cost_47 : decode mi_X8_cost.2.1 47 = .ok (.getfield 629, 3) := by decide +kernel
theorem dX8_cost_50 : decode mi_X8_cost.2.1 50 = .ok (.if_icmp .ge 56, 3) := by decide +kernel
theorem dX8_cost_53 : decode mi_X8_cost.2.1 53 = .ok (.lload_n 3, 1) := by decide +kernel
theorem dX8_cost_54 : decode mi_X8_cost.2.1 54 = .ok (.aload_n 0, 1) := by decide +kernel
theorem dX8_cost_55 : decode mi_X8_cost.2.1 55 = .ok (.getfield 185, 3) := by decide +kernel
theorem dX8_cost_58 : decode mi_X8_cost.2.1 58 = .ok (.iload 5, 2) := by decide +kernel
theorem dX8_cost_60 : decode mi_X8_cost.2.1 60 = .ok (.iaload, 1) := by decide +kernel
theorem dX8_cost_61 : decode mi_X8_cost.2.1 61 = .ok (.iload_n 1, 1) := by decide +kernel
theorem dX8_cost_62 : decode mi_X8_cost.2.1 62 = .ok (.if_icmp .ne 35, 3) := by decide +kernel
theorem dX8_cost_65 : decode mi_X8_cost.2.1 65 = .ok (.aload_n 0, 1) := by decide +kernel
theorem dX8_cost_66 : decode mi_X8_cost.2.1 66 = .ok (.getfield 188, 3) := by decide +kernel
theorem dX8_cost_69 : decode mi_X8_cost.2.1 69 = .ok (.iload 5, 2) := by decide +kernel
theorem dX8_cost_71 : decode mi_X8_cost.2.1 71 = .ok (.iaload, 1) := by decide +kernel
theorem dX8_cost_72 : decode mi_X8_cost.2.1 72 = .ok (.bipush 52, 2) := by decide +kernel
theorem dX8_cost_74 : decode mi_X8_cost.2.1 74 = .ok (.idiv, 1) := by decide +kernel
theorem dX8_cost_75 : decode mi_X8_cost.2.1 75 = .ok (.iload_n 2, 1) := by decide +kernel
theorem dX8_cost_76 : decode mi_X8_cost.2.1 76 = .ok (.if_icmp .ne 21, 3) := by decide +kernel
theorem dX8_cost_79 : decode mi_X8_cost.2.1 79 = .ok (.aload_n 0, 1) := by decide +kernel
theorem dX8_cost_80 : decode mi_X8_cost.2.1 80 = .ok (.iload 5, 2) := by decide +kernel
theorem dX8_cost_82 : decode mi_X8_cost.2.1 82 = .ok (.invokevirtual 632, 3) := by decide +kernel
theorem dX8_cost_85 : decode mi_X8_cost.2.1 85 = .ok (.aload_n 0, 1) := by decide +kernel
theorem dX8_cost_86 : decode mi_X8_cost.2.1 86 = .ok (.getfield 191, 3) := by decide +kernel
theorem dX8_cost_89 : decode mi_X8_cost.2.1 89 = .ok (.iload 5, 2) := by decide +kernel
theorem dX8_cost_91 : decode mi_X8_cost.2.1 91 = .ok (.iaload, 1) := by decide +kernel
theorem dX8_cost_92 : decode mi_X8_cost.2.1 92 = .ok (.i2l, 1) := by decide +kernel
theorem dX8_cost_93 : decode mi_X8_cost.2.1 93 = .ok (.lmul, 1) := by decide +kernel
theorem dX8_cost_94 : decode mi_X8_cost.2.1 94 = .ok (.goto 4, 3) := by decide +kernel
theorem dX8_cost_97 : decode mi_X8_cost.2.1 97 = .ok (.lconst 0, 1) := by decide +kernel
theorem dX8_cost_98 : decode mi_X8_cost.2.1 98 = .ok (.ladd, 1) := by decide +kernel
theorem dX8_cost_99 : decode mi_X8_cost.2.1 99 = .ok (.lstore_n 3, 1) := by decide +kernel
theorem dX8_cost_100 : decode mi_X8_cost.2.1 100 = .ok (.iinc 5 1, 3) := by decide +kernel
theorem dX8_cost_103 : decode mi_X8_cost.2.1 103 = .ok (.goto (-59), 3) := by decide +kernel
theorem dX8_cost_106 : decode mi_X8_cost.2.1 106 = .ok (.lload_n 3, 1) := by decide +kernel
theorem dX8_cost_107 : decode mi_X8_cost.2.1 107 = .ok (.lreturn, 1) := by decide +kernel
theorem v_X8_cost {G : ma_G} {d : Nat} {a0 : Nat} {x1 : Int32} {x2 : Int32} {h : ah_T} {Q : Option ma_V → ah_T → Prop} {E : Nat → ah_T → Prop} (La0_h : LY8 h a0) (H : ∀ h1 : ah_T, h1 = ah_wI h a0 1 (0 : Int32) → ah_ext h h1 → ∀ h2 : ah_T, h2 = ah_wI h1 a0 0 (0 : Int32) → ah_ext h1 h2 → (x1.toInt64 < (0 : Int64) → ∀ h4 : ah_T, h4 = ah_wI h2 a0 0 (2 : Int32) → ah_ext h2 h4 → Q (some (jv (-1 : Int32).toInt64)) h4) ∧ (¬ x1.toInt64 < (0 : Int64) → (((ah_I h a0 5) - (1 : Int32)).toInt64 < x1.toInt64 → ∀ h6 : ah_T, h6 = ah_wI h2 a0 0 (2 : Int32) → ah_ext h2 h6 → Q (some (jv (-1 : Int32).toInt64)) h6) ∧ (¬ ((ah_I h a0 5) - (1 : Int32)).toInt64 < x1.toInt64 → (x2.toInt64 < (0 : Int64) → ∀ h8 : ah_T, h8 = ah_wI h2 a0 0 (5 : Int32) → ah_ext h2 h8 → Q (some (jv (-1 : Int32).toInt64)) h8) ∧ (¬ x2.toInt64 < (0 : Int64) → ((9 : Int64) < x2.toInt64 → ∀ h10 : ah_T, h10 = ah_wI h2 a0 0 (5 : Int32) → ah_ext h2 h10 → Q (some (jv (-1 : Int32).toInt64)) h10) ∧ (¬ (9 : Int64) < x2.toInt64 → MX G mi_X8_cost (d + 2) 44 [some (rv a0), some (iv x1), some (iv x2), some (jv (0 : Int64)), none, some (iv (0 : Int32))] [] h2 Q E))))) : MX G mi_X8_cost (d + 2) 0 [some (rv a0), some (iv x1), some (iv x2), none, none, none] [] h Q E := by
  refine mx_aload_n dX8_cost_0 rfl rfl ?_
  refine mx_iconst dX8_cost_1 ic_0 ?_
  refine mx_putI 8 1 (ref := "PrairiePoolModel") cl_8 (Nat.le_of_ble_eq_true rfl) (Or.inl q1628) (Or.inl rfl) dX8_cost_2 (Or.inl rfl) rfl (ly8_k La0_h) ?_
  refine mx_nmI  (fun h1 eh1 Xh1 Kh1 Lh1 => ?_)
  have H := H h1 eh1 Xh1
  have La0_h1 := La0_h.ext Xh1
  refine mx_aload_n dX8_cost_5 rfl rfl ?_
  refine mx_iconst dX8_cost_6 ic_0 ?_
  refine mx_putI 8 0 (ref := "PrairiePoolModel") cl_8 (Nat.le_of_ble_eq_true rfl) (Or.inl q1627) (Or.inl rfl) dX8_cost_7 (Or.inl rfl) rfl (ly8_k La0_h1) ?_
  refine mx_nmI  (fun h2 eh2 Xh2 Kh2 Lh2 => ?_)
  have H := H h2 eh2 Xh2
  have Kh2 := Kh2.trans Kh1
  have Lh2 := Lh2.trans Lh1
  have La0_h2 := La0_h1.ext Xh2
  refine mx_aload_n dX8_cost_10 rfl rfl ?_
  refine mx_iload_n dX8_cost_11 rfl rfl ?_
  refine mx_callV 8 (y' := mi_X8_isFarm) (vs := [iv x1]) (st := []) (al' := [some (rv a0), some (iv x1)]) cl_8 V_X8_isFarm (Or.inl q2014) dX8_cost_12 rfl rfl (Nat.le_of_ble_eq_true rfl) (Nat.le_of_ble_eq_true rfl) (ly8_k La0_h2) ?_
  refine mx_iload_n dX8_isFarm_0 rfl rfl ?_
  refine mx_i2l dX8_isFarm_1 ?_
  refine mx_lconst dX8_isFarm_2 lc_0 ?_
  refine mx_aload_n dX8_isFarm_3 rfl rfl ?_
  refine mx_get 8 5 (ref := "PrairiePoolModel") cl_8 (Nat.le_of_ble_eq_true rfl) (Or.inl q1632) (Or.inl rfl) dX8_isFarm_4 (fv_8_5 _ _) (ly8_k La0_h2) ?_
  refine mx_ti ((ah_skIK eh2 (by decide)).trans (ah_skIK eh1 (by decide))) ?_
  refine mx_iconst dX8_isFarm_7 ic_1 ?_
  refine mx_isub dX8_isFarm_8 ?_
  refine mx_i2l dX8_isFarm_9 ?_
  refine mx_callS (y' := mi_X8_isIn) (vs := [jv x1.toInt64, jv (0 : Int64), jv ((ah_I h a0 5) - (1 : Int32)).toInt64]) (st := []) (al' := [some (jv x1.toInt64), none, some (jv (0 : Int64)), none, some (jv ((ah_I h a0 5) - (1 : Int32)).toInt64), none]) S_X8_isIn q1996 dX8_isFarm_10 rfl rfl (Nat.le_of_ble_eq_true rfl) (Nat.le_of_ble_eq_true rfl) ?_
  refine mx_lload_n dX8_isIn_0 rfl rfl ?_
  refine mx_lload_n dX8_isIn_1 rfl rfl ?_
  refine mx_lif_lt (tgt := 17) dX8_isIn_2 dX8_isIn_3 rfl (fun c3 => ?_) (fun c3 => ?_)
  · have H := H.1 c3
    refine mx_iconst dX8_isIn_17 ic_0 ?_
    refine mx_zretK rfl dX8_isIn_18 (Or.inl rfl) ?_
    refine mx_zretK rfl dX8_isFarm_13 (Or.inl rfl) ?_
    refine mx_if_ne (tgt := 25) dX8_cost_15 rfl (fun _ => absurd ‹_› (by decide)) (fun _ => ?_)
    refine mx_aload_n dX8_cost_18 rfl rfl ?_
    refine mx_iconst dX8_cost_19 ic_2 ?_
    refine mx_callV 8 (y' := mi_X8_refuse) (vs := [iv (2 : Int32)]) (st := []) (al' := [some (rv a0), some (iv (2 : Int32))]) cl_8 V_X8_refuse (Or.inl q1999) dX8_cost_20 rfl rfl (Nat.le_of_ble_eq_true rfl) (Nat.le_of_ble_eq_true rfl) (ly8_k La0_h2) ?_
    refine mx_aload_n dX8_refuse_0 rfl rfl ?_
    refine mx_iload_n dX8_refuse_1 rfl rfl ?_
    refine mx_putI 8 0 (ref := "PrairiePoolModel") cl_8 (Nat.le_of_ble_eq_true rfl) (Or.inl q1627) (Or.inl rfl) dX8_refuse_2 (Or.inl rfl) rfl (ly8_k La0_h2) ?_
    refine mx_nmI  (fun h4 eh4 Xh4 Kh4 Lh4 => ?_)
    have H := H h4 eh4 Xh4
    have Kh4 := Kh4.trans Kh2
    have Lh4 := Lh4.trans Lh2
    have La0_h4 := La0_h2.ext Xh4
    refine mx_iconst dX8_refuse_5 ic_m1 ?_
    refine mx_iretK rfl dX8_refuse_6 ?_
    refine mx_i2l dX8_cost_23 ?_
    exact mx_lret rfl dX8_cost_24 H
  · have H := H.2 c3
    refine mx_lload_n dX8_isIn_6 rfl rfl ?_
    refine mx_lload dX8_isIn_7 rfl ?_
    refine mx_lif_gt (tgt := 17) dX8_isIn_9 dX8_isIn_10 rfl (fun c5 => ?_) (fun c5 => ?_)
    · have H := H.1 c5
      refine mx_iconst dX8_isIn_17 ic_0 ?_
      refine mx_zretK rfl dX8_isIn_18 (Or.inl rfl) ?_
      refine mx_zretK rfl dX8_isFarm_13 (Or.inl rfl) ?_
      refine mx_if_ne (tgt := 25) dX8_cost_15 rfl (fun _ => absurd ‹_› (by decide)) (fun _ => ?_)
      refine mx_aload_n dX8_cost_18 rfl rfl ?_
      refine mx_iconst dX8_cost_19 ic_2 ?_
      refine mx_callV 8 (y' := mi_X8_refuse) (vs := [iv (2 : Int32)]) (st := []) (al' := [some (rv a0), some (iv (2 : Int32))]) cl_8 V_X8_refuse (Or.inl q1999) dX8_cost_20 rfl rfl (Nat.le_of_ble_eq_true rfl) (Nat.le_of_ble_eq_true rfl) (ly8_k La0_h2) ?_
      refine mx_aload_n dX8_refuse_0 rfl rfl ?_
      refine mx_iload_n dX8_refuse_1 rfl rfl ?_
      refine mx_putI 8 0 (ref := "PrairiePoolModel") cl_8 (Nat.le_of_ble_eq_true rfl) (Or.inl q1627) (Or.inl rfl) dX8_refuse_2 (Or.inl rfl) rfl (ly8_k La0_h2) ?_
      refine mx_nmI  (fun h6 eh6 Xh6 Kh6 Lh6 => ?_)
      have H := H h6 eh6 Xh6
      have Kh6 := Kh6.trans Kh2
      have Lh6 := Lh6.trans Lh2
      have La0_h6 := La0_h2.ext Xh6
      refine mx_iconst dX8_refuse_5 ic_m1 ?_
      refine mx_iretK rfl dX8_refuse_6 ?_
      refine mx_i2l dX8_cost_23 ?_
      exact mx_lret rfl dX8_cost_24 H
    · have H := H.2 c5
      refine mx_iconst dX8_isIn_13 ic_1 ?_
      refine mx_goto (tgt := 18) dX8_isIn_14 rfl ?_
      refine mx_zretK rfl dX8_isIn_18 (Or.inr rfl) ?_
      refine mx_zretK rfl dX8_isFarm_13 (Or.inr rfl) ?_
      refine mx_if_ne (tgt := 25) dX8_cost_15 rfl (fun _ => ?_) (fun _ => absurd ‹_› (by decide))
      refine mx_iload_n dX8_cost_25 rfl rfl ?_
      refine mx_callS (y' := mi_X8_isYear) (vs := [iv x2]) (st := []) (al' := [some (iv x2)]) S_X8_isYear q2039 dX8_cost_26 rfl rfl (Nat.le_of_ble_eq_true rfl) (Nat.le_of_ble_eq_true rfl) ?_
      refine mx_iload_n dX8_isYear_0 rfl rfl ?_
      refine mx_i2l dX8_isYear_1 ?_
      refine mx_lconst dX8_isYear_2 lc_0 ?_
      refine mx_ldc2 q2042 dX8_isYear_3 ?_
      refine mx_callS (y' := mi_X8_isIn) (vs := [jv x2.toInt64, jv (0 : Int64), jv (9 : Int64)]) (st := []) (al' := [some (jv x2.toInt64), none, some (jv (0 : Int64)), none, some (jv (9 : Int64)), none]) S_X8_isIn q1996 dX8_isYear_6 rfl rfl (Nat.le_of_ble_eq_true rfl) (Nat.le_of_ble_eq_true rfl) ?_
      refine mx_lload_n dX8_isIn_0 rfl rfl ?_
      refine mx_lload_n dX8_isIn_1 rfl rfl ?_
      refine mx_lif_lt (tgt := 17) dX8_isIn_2 dX8_isIn_3 rfl (fun c7 => ?_) (fun c7 => ?_)
      · have H := H.1 c7
        refine mx_iconst dX8_isIn_17 ic_0 ?_
        refine mx_zretK rfl dX8_isIn_18 (Or.inl rfl) ?_
        refine mx_zretK rfl dX8_isYear_9 (Or.inl rfl) ?_
        refine mx_if_ne (tgt := 39) dX8_cost_29 rfl (fun _ => absurd ‹_› (by decide)) (fun _ => ?_)
        refine mx_aload_n dX8_cost_32 rfl rfl ?_
        refine mx_iconst dX8_cost_33 ic_5 ?_
        refine mx_callV 8 (y' := mi_X8_refuse) (vs := [iv (5 : Int32)]) (st := []) (al' := [some (rv a0), some (iv (5 : Int32))]) cl_8 V_X8_refuse (Or.inl q1999) dX8_cost_34 rfl rfl (Nat.le_of_ble_eq_true rfl) (Nat.le_of_ble_eq_true rfl) (ly8_k La0_h2) ?_
        refine mx_aload_n dX8_refuse_0 rfl rfl ?_
        refine mx_iload_n dX8_refuse_1 rfl rfl ?_
        refine mx_putI 8 0 (ref := "PrairiePoolModel") cl_8 (Nat.le_of_ble_eq_true rfl) (Or.inl q1627) (Or.inl rfl) dX8_refuse_2 (Or.inl rfl) rfl (ly8_k La0_h2) ?_
        refine mx_nmI  (fun h8 eh8 Xh8 Kh8 Lh8 => ?_)
        have H := H h8 eh8 Xh8
        have Kh8 := Kh8.trans Kh2
        have Lh8 := Lh8.trans Lh2
        have La0_h8 := La0_h2.ext Xh8
        refine mx_iconst dX8_refuse_5 ic_m1 ?_
        refine mx_iretK rfl dX8_refuse_6 ?_
        refine mx_i2l dX8_cost_37 ?_
        exact mx_lret rfl dX8_cost_38 H
      · have H := H.2 c7
        refine mx_lload_n dX8_isIn_6 rfl rfl ?_
        refine mx_lload dX8_isIn_7 rfl ?_
        refine mx_lif_gt (tgt := 17) dX8_isIn_9 dX8_isIn_10 rfl (fun c9 => ?_) (fun c9 => ?_)
        · have H := H.1 c9
          refine mx_iconst dX8_isIn_17 ic_0 ?_
          refine mx_zretK rfl dX8_isIn_18 (Or.inl rfl) ?_
          refine mx_zretK rfl dX8_isYear_9 (Or.inl rfl) ?_
          refine mx_if_ne (tgt := 39) dX8_cost_29 rfl (fun _ => absurd ‹_› (by decide)) (fun _ => ?_)
          refine mx_aload_n dX8_cost_32 rfl rfl ?_
          refine mx_iconst dX8_cost_33 ic_5 ?_
          refine mx_callV 8 (y' := mi_X8_refuse) (vs := [iv (5 : Int32)]) (st := []) (al' := [some (rv a0), some (iv (5 : Int32))]) cl_8 V_X8_refuse (Or.inl q1999) dX8_cost_34 rfl rfl (Nat.le_of_ble_eq_true rfl) (Nat.le_of_ble_eq_true rfl) (ly8_k La0_h2) ?_
          refine mx_aload_n dX8_refuse_0 rfl rfl ?_
          refine mx_iload_n dX8_refuse_1 rfl rfl ?_
          refine mx_putI 8 0 (ref := "PrairiePoolModel") cl_8 (Nat.le_of_ble_eq_true rfl) (Or.inl q1627) (Or.inl rfl) dX8_refuse_2 (Or.inl rfl) rfl (ly8_k La0_h2) ?_
          refine mx_nmI  (fun h10 eh10 Xh10 Kh10 Lh10 => ?_)
          have H := H h10 eh10 Xh10
          have Kh10 := Kh10.trans Kh2
          have Lh10 := Lh10.trans Lh2
          have La0_h10 := La0_h2.ext Xh10
          refine mx_iconst dX8_refuse_5 ic_m1 ?_
          refine mx_iretK rfl dX8_refuse_6 ?_
          refine mx_i2l dX8_cost_37 ?_
          exact mx_lret rfl dX8_cost_38 H
        · have H := H.2 c9
          refine mx_iconst dX8_isIn_13 ic_1 ?_
          refine mx_goto (tgt := 18) dX8_isIn_14 rfl ?_
          refine mx_zretK rfl dX8_isIn_18 (Or.inr rfl) ?_
          refine mx_zretK rfl dX8_isYear_9 (Or.inr rfl) ?_
          refine mx_if_ne (tgt := 39) dX8_cost_29 rfl (fun _ => ?_) (fun _ => absurd ‹_› (by decide))
          refine mx_lconst dX8_cost_39 lc_0 ?_
          refine mx_lstore_n (al' := [some (rv a0), some (iv x1), some (iv x2), some (jv (0 : Int64)), none, none]) dX8_cost_40 rfl (Nat.le_of_ble_eq_true rfl) rfl ?_
          refine mx_iconst dX8_cost_41 ic_0 ?_
          refine mx_istore (al' := [some (rv a0), some (iv x1), some (iv x2), some (jv (0 : Int64)), none, some (iv (0 : Int32))]) dX8_cost_42 (Nat.le_of_ble_eq_true rfl) rfl ?_
          exact mx_weak (al' := [some (rv a0), some (iv x1), some (iv x2), some (jv (0 : Int64)), none, some (iv (0 : Int32))]) ⟨rfl, ⟨rfl, ⟨rfl, ⟨rfl, ⟨rfl, trivial⟩⟩⟩⟩⟩ H
theorem v_X8_cost_44 {G : ma_G} {d : Nat} {a0 : Nat} {x1 : Int32} {x2 : Int32} {x3 : Int64} {x5 : Int32} {h : ah_T} {Q : Option ma_V → ah_T → Prop} {E : Nat → ah_T → Prop} (La0_h : LY8 h a0) (H : ((ah_I h a0 88) ≤ x5 → Q (some (jv x3)) h) ∧ (¬ (ah_I h a0 88) ≤ x5 → vp_in x5 60 ∧ (¬ (ah_I h (a0 + 56) x5.toNatClampNeg) = x1 → MX G mi_X8_cost (d + 2) 44 [some (rv a0), some (iv x1), some (iv x2), some (jv (x3 + (0 : Int64))), none, some (iv (x5 + (1 : Int32)))] [] h Q E) ∧ ((ah_I h (a0 + 56) x5.toNatClampNeg) = x1 → (¬ ((ah_I h (a0 + 57) x5.toNatClampNeg) / (52 : Int32)) = x2 → MX G mi_X8_cost (d + 2) 44 [some (rv a0), some (iv x1), some (iv x2), some (jv (x3 + (0 : Int64))), none, some (iv (x5 + (1 : Int32)))] [] h Q E) ∧ (((ah_I h (a0 + 57) x5.toNatClampNeg) / (52 : Int32)) = x2 → MX G mi_X8_breachOf (d + 1) 0 [some (rv a0), some (iv x5), none, none] [] h (Ql fun r6 h5 => ah_ext h h5 → MX G mi_X8_cost (d + 2) 44 [some (rv a0), some (iv x1), some (iv x2), some (jv (x3 + (r6 * (ah_I h5 (a0 + 58) x5.toNatClampNeg).toInt64))), none, some (iv (x5 + (1 : Int32)))] [] h5 Q E) E)))) : MX G mi_X8_cost (d + 2) 44 [some (rv a0), some (iv x1), some (iv x2), some (jv x3), none, some (iv x5)] [] h Q E := by
  refine mx_iload dX8_cost_44 rfl ?_
  refine mx_aload_n dX8_cost_46 rfl rfl ?_
  refine mx_get 8 88 (ref := "PrairiePoolModel") cl_8 (Nat.le_of_ble_eq_true rfl) (Or.inl q1715) (Or.inl rfl) dX8_cost_47 (fv_8_88 _ _) (ly8_k La0_h) ?_
  refine mx_icmp_ge (tgt := 106) dX8_cost_50 rfl (fun c1 => ?_) (fun c1 => ?_)
  · have H := H.1 c1
    refine mx_lload_n dX8_cost_106 rfl rfl ?_
    exact mx_lret rfl dX8_cost_107 H
  · have H := H.2 c1
    refine mx_lload_n dX8_cost_53 rfl rfl ?_
    refine mx_aload_n dX8_cost_54 rfl rfl ?_
    refine mx_get 8 82 (ref := "PrairiePoolModel") cl_8 (Nat.le_of_ble_eq_true rfl) (Or.inl q1709) (Or.inl rfl) dX8_cost_55 (fv_8_82 _ _) (ly8_k La0_h) ?_
    refine mx_tr (ly8_R_0_82 La0_h) ?_
    refine mx_iload dX8_cost_58 rfl ?_
    obtain ⟨k2, H⟩ := H
    refine my_iald dX8_cost_60 rfl (ly8_A_56 La0_h k2) ?_
    refine mx_iload_n dX8_cost_61 rfl rfl ?_
    refine mx_icmp_ne (tgt := 97) dX8_cost_62 rfl (fun c3 => ?_) (fun c3 => ?_)
    · have H := H.1 c3
      refine mx_lconst dX8_cost_97 lc_0 ?_
      refine mx_ladd dX8_cost_98 ?_
      refine mx_lstore_n (al' := [some (rv a0), some (iv x1), some (iv x2), some (jv (x3 + (0 : Int64))), none, some (iv x5)]) dX8_cost_99 rfl (Nat.le_of_ble_eq_true rfl) rfl ?_
      refine mx_iinc (al' := [some (rv a0), some (iv x1), some (iv x2), some (jv (x3 + (0 : Int64))), none, some (iv (x5 + (1 : Int32)))]) dX8_cost_100 rfl ic_1 rfl ?_
      refine mx_goto (tgt := 44) dX8_cost_103 rfl ?_
      exact mx_weak (al' := [some (rv a0), some (iv x1), some (iv x2), some (jv (x3 + (0 : Int64))), none, some (iv (x5 + (1 : Int32)))]) ⟨rfl, ⟨rfl, ⟨rfl, ⟨rfl, ⟨rfl, trivial⟩⟩⟩⟩⟩ H
    · have H := H.2 c3
      refine mx_aload_n dX8_cost_65 rfl rfl ?_
      refine mx_get 8 83 (ref := "PrairiePoolModel") cl_8 (Nat.le_of_ble_eq_true rfl) (Or.inl q1710) (Or.inl rfl) dX8_cost_66 (fv_8_83 _ _) (ly8_k La0_h) ?_
      refine mx_tr (ly8_R_0_83 La0_h) ?_
      refine mx_iload dX8_cost_69 rfl ?_
      refine my_iald dX8_cost_71 rfl (ly8_A_57 La0_h k2) ?_
      refine mx_bipush dX8_cost_72 ib_52 ?_
      refine mx_idiv dX8_cost_74 (by decide) ?_
      refine mx_iload_n dX8_cost_75 rfl rfl ?_
      refine mx_icmp_ne (tgt := 97) dX8_cost_76 rfl (fun c4 => ?_) (fun c4 => ?_)
      · have H := H.1 c4
        refine mx_lconst dX8_cost_97 lc_0 ?_
        refine mx_ladd dX8_cost_98 ?_
        refine mx_lstore_n (al' := [some (rv a0), some (iv x1), some (iv x2), some (jv (x3 + (0 : Int64))), none, some (iv x5)]) dX8_cost_99 rfl (Nat.le_of_ble_eq_true rfl) rfl ?_
        refine mx_iinc (al' := [some (rv a0), some (iv x1), some (iv x2), some (jv (x3 + (0 : Int64))), none, some (iv (x5 + (1 : Int32)))]) dX8_cost_100 rfl ic_1 rfl ?_
        refine mx_goto (tgt := 44) dX8_cost_103 rfl ?_
        exact mx_weak (al' := [some (rv a0), some (iv x1), some (iv x2), some (jv (x3 + (0 : Int64))), none, some (iv (x5 + (1 : Int32)))]) ⟨rfl, ⟨rfl, ⟨rfl, ⟨rfl, ⟨rfl, trivial⟩⟩⟩⟩⟩ H
      · have H := H.2 c4
        refine mx_aload_n dX8_cost_79 rfl rfl ?_
        refine mx_iload dX8_cost_80 rfl ?_
        refine mx_callV 8 (y' := mi_X8_breachOf) (vs := [iv x5]) (st := [jv x3]) (al' := [some (rv a0), some (iv x5), none, none]) cl_8 V_X8_breachOf (Or.inl q2373) dX8_cost_82 rfl rfl (Nat.le_of_ble_eq_true rfl) (Nat.le_of_ble_eq_true rfl) (ly8_k La0_h) ?_
        refine ma_kl H (fun r6 h5 Xh5 H => ?_) (fun x1 h1 X1 H => mt_out rfl H)
        have H := H Xh5
        have La0_h5 := La0_h.ext Xh5
        refine mx_aload_n dX8_cost_85 rfl rfl ?_
        refine mx_get 8 84 (ref := "PrairiePoolModel") cl_8 (Nat.le_of_ble_eq_true rfl) (Or.inl q1711) (Or.inl rfl) dX8_cost_86 (fv_8_84 _ _) (ly8_k La0_h5) ?_
        refine mx_tr (ly8_R_0_84 La0_h5) ?_
        refine mx_iload dX8_cost_89 rfl ?_
        refine my_iald dX8_cost_91 rfl (ly8_A_58 La0_h5 k2) ?_
        refine mx_i2l dX8_cost_92 ?_
        refine mx_lmul dX8_cost_93 ?_
        refine mx_goto (tgt := 98) dX8_cost_94 rfl ?_
        refine mx_ladd dX8_cost_98 ?_
        refine mx_lstore_n (al' := [some (rv a0), some (iv x1), some (iv x2), some (jv (x3 + (r6 * (ah_I h5 (a0 + 58) x5.toNatClampNeg).toInt64))), none, some (iv x5)]) dX8_cost_99 rfl (Nat.le_of_ble_eq_true rfl) rfl ?_
        refine mx_iinc (al' := [some (rv a0), some (iv x1), some (iv x2), some (jv (x3 + (r6 * (ah_I h5 (a0 + 58) x5.toNatClampNeg).toInt64))), none, some (iv (x5 + (1 : Int32)))]) dX8_cost_100 rfl ic_1 rfl ?_
        refine mx_goto (tgt := 44) dX8_cost_103 rfl ?_
        exact mx_weak (al' := [some (rv a0), some (iv x1), some (iv x2), some (jv (x3 + (r6 * (ah_I h5 (a0 + 58) x5.toNatClampNeg).toInt64))), none, some (iv (x5 + (1 : Int32)))]) ⟨rfl, ⟨rfl, ⟨rfl, ⟨rfl, ⟨rfl, trivial⟩⟩⟩⟩⟩ H
theorem dX8_price_0 : decode mi_X8_price.2.1 0 = .ok (.aload_n 0, 1) := by decide +kernel
theorem dX8_price_1 : decode mi_X8_price.2.1 1 = .ok (.iconst 0, 1) := by decide +kernel
theorem dX8_price_2 : decode mi_X8_price.2.1 2 = .ok (.putfield 257, 3) := by decide +kernel
theorem dX8_price_5 : decode mi_X8_price.2.1 5 = .ok (.aload_n 0, 1) := by decide +kernel
theorem dX8_price_6 : decode mi_X8_price.2.1 6 = .ok (.iconst 0, 1) := by decide +kernel
theorem dX8_price_7 : decode mi_X8_price.2.1 7 = .ok (.putfield 260, 3) := by decide +kernel
theorem dX8_price_10 : decode mi_X8_price.2.1 10 = .ok (.iload_n 1, 1) := by decide +kernel
theorem dX8_price_11 : decode mi_X8_price.2.1 11 = .ok (.invokestatic 306, 3) := by decide +kernel
theorem dX8_price_14 : decode mi_X8_price.2.1 14 = .ok (.ifCond .eq 15, 3) := by decide +kernel
theorem dX8_price_17 : decode mi_X8_price.2.1 17 = .ok (.iload_n 2, 1) := by decide +kernel
theorem dX8_price_18 : decode mi_X8_price.2.1 18 = .ok (.i2l, 1) := by decide +kernel
theorem dX8_price_19 : decode mi_X8_price.2.1 19 = .ok (.lconst 0, 1) := by decide +kernel
theorem dX8_price_20 : decode mi_X8_price.2.1 20 = .ok (.ldc2_w 326, 3) := by decide +kernel
theorem dX8_price_23 : decode mi_X8_price.2.1 23 = .ok (.invokestatic 265, 3) := by decide +kernel
theorem dX8_price_26 : decode mi_X8_price.2.1 26 = .ok (.ifCond .ne 9, 3) := by decide +kernel
theorem dX8_price_29 : decode mi_X8_price.2.1 29 = .ok (.aload_n 0, 1) := by decide +kernel
theorem dX8_price_30 : decode mi_X8_price.2.1 30 = .ok (.iconst 5, 1) := by decide +kernel
theorem dX8_price_31 : decode mi_X8_price.2.1 31 = .ok (.invokevirtual 273, 3) := by decide +kernel
theorem dX8_price_34 : decode mi_X8_price.2.1 34 = .ok (.ireturn, 1) := by decide +kernel
theorem dX8_price_35 : decode mi_X8_price.2.1 35 = .ok (.aload_n 0, 1) := by decide +kernel
theorem dX8_price_36 : decode mi_X8_price.2.1 36 = .ok (.getfield 197, 3) := by decide +kernel
theorem dX8_price_39 : decode mi_X8_price.2.1 39 = .ok (.iload_n 1, 1) := by decide +kernel
theorem dX8_price_40 : decode mi_X8_price.2.1 40 = .ok (.iload_n 2, 1) := by decide +kernel
theorem dX8_price_41 : decode mi_X8_price.2.1 41 = .ok (.iastore, 1) := by decide +kernel
theorem dX8_price_42 : decode mi_X8_price.2.1 42 = .ok (.iconst 1, 1) := by decide +kernel
theorem dX8_price_43 : decode mi_X8_price.2.1 43 = .ok (.ireturn, 1) := by decide +kernel
theorem v_X8_price {G : ma_G} {d : Nat} {a0 : Nat} {x1 : Int32} {x2 : Int32} {h : ah_T} {Q : Option ma_V → ah_T → Prop} {E : Nat → ah_T → Prop} (La0_h : LY8 h a0) (H : ∀ h1 : ah_T, h1 = ah_wI h a0 1 (0 : Int32) → ah_ext h h1 → ∀ h2 : ah_T, h2 = ah_wI h1 a0 0 (0 : Int32) → ah_ext h1 h2 → (x1.toInt64 < (0 : Int64) → ∀ h4 : ah_T, h4 = ah_wI h2 a0 0 (5 : Int32) → ah_ext h2 h4 → Q (some (iv (0 : Int32))) h4) ∧ (¬ x1.toInt64 < (0 : Int64) → ((519 : Int64) < x1.toInt64 → ∀ h6 : ah_T, h6 = ah_wI h2 a0 0 (5 : Int32) → ah_ext h2 h6 → Q (some (iv (0 : Int32))) h6) ∧ (¬ (519 : Int64) < x1.toInt64 → (x2.toInt64 < (0 : Int64) → ∀ h8 : ah_T, h8 = ah_wI h2 a0 0 (5 : Int32) → ah_ext h2 h8 → Q (some (iv (0 : Int32))) h8) ∧ (¬ x2.toInt64 < (0 : Int64) → ((1000 : Int64) < x2.toInt64 → ∀ h10 : ah_T, h10 = ah_wI h2 a0 0 (5 : Int32) → ah_ext h2 h10 → Q (some (iv (0 : Int32))) h10) ∧ (¬ (1000 : Int64) < x2.toInt64 → vp_in x1 520 ∧ ∀ h12 : ah_T, h12 = ah_wI h2 (a0 + 60) x1.toNatClampNeg x2 → ah_ext h2 h12 → Q (some (iv (1 : Int32))) h12))))) : MX G mi_X8_price (d + 2) 0 [some (rv a0), some (iv x1), some (iv x2)] [] h Q E := by
  refine mx_aload_n dX8_price_0 rfl rfl ?_
  refine mx_iconst dX8_price_1 ic_0 ?_
  refine mx_putI 8 1 (ref := "PrairiePoolModel") cl_8 (Nat.le_of_ble_eq_true rfl) (Or.inl q1628) (Or.inl rfl) dX8_price_2 (Or.inl rfl) rfl (ly8_k La0_h) ?_
  refine mx_nmI  (fun h1 eh1 Xh1 Kh1 Lh1 => ?_)
  have H := H h1 eh1 Xh1
  have La0_h1 := La0_h.ext Xh1
  refine mx_aload_n dX8_price_5 rfl rfl ?_
  refine mx_iconst dX8_price_6 ic_0 ?_
  refine mx_putI 8 0 (ref := "PrairiePoolModel") cl_8 (Nat.le_of_ble_eq_true rfl) (Or.inl q1627) (Or.inl rfl) dX8_price_7 (Or.inl rfl) rfl (ly8_k La0_h1) ?_
  refine mx_nmI  (fun h2 eh2 Xh2 Kh2 Lh2 => ?_)
  have H := H h2 eh2 Xh2
  have Kh2 := Kh2.trans Kh1
  have Lh2 := Lh2.trans Lh1
  have La0_h2 := La0_h1.ext Xh2
  refine mx_iload_n dX8_price_10 rfl rfl ?_
  refine mx_callS (y' := mi_X8_isDay) (vs := [iv x1]) (st := []) (al' := [some (iv x1)]) S_X8_isDay q2028 dX8_price_11 rfl rfl (Nat.le_of_ble_eq_true rfl) (Nat.le_of_ble_eq_true rfl) ?_
  refine mx_iload_n dX8_isDay_0 rfl rfl ?_
  refine mx_i2l dX8_isDay_1 ?_
  refine mx_lconst dX8_isDay_2 lc_0 ?_
  refine mx_ldc2 q2031 dX8_isDay_3 ?_
  refine mx_callS (y' := mi_X8_isIn) (vs := [jv x1.toInt64, jv (0 : Int64), jv (519 : Int64)]) (st := []) (al' := [some (jv x1.toInt64), none, some (jv (0 : Int64)), none, some (jv (519 : Int64)), none]) S_X8_isIn q1996 dX8_isDay_6 rfl rfl (Nat.le_of_ble_eq_true rfl) (Nat.le_of_ble_eq_true rfl) ?_
  refine mx_lload_n dX8_isIn_0 rfl rfl ?_
  refine mx_lload_n dX8_isIn_1 rfl rfl ?_
  refine mx_lif_lt (tgt := 17) dX8_isIn_2 dX8_isIn_3 rfl (fun c3 => ?_) (fun c3 => ?_)
  · have H := H.1 c3
    refine mx_iconst dX8_isIn_17 ic_0 ?_
    refine mx_zretK rfl dX8_isIn_18 (Or.inl rfl) ?_
    refine mx_zretK rfl dX8_isDay_9 (Or.inl rfl) ?_
    refine mx_if_eq (tgt := 29) dX8_price_14 rfl (fun _ => ?_) (fun _ => absurd ‹_› (by decide))
    refine mx_aload_n dX8_price_29 rfl rfl ?_
    refine mx_iconst dX8_price_30 ic_5 ?_
    refine mx_callV 8 (y' := mi_X8_no) (vs := [iv (5 : Int32)]) (st := []) (al' := [some (rv a0), some (iv (5 : Int32))]) cl_8 V_X8_no (Or.inl q1963) dX8_price_31 rfl rfl (Nat.le_of_ble_eq_true rfl) (Nat.le_of_ble_eq_true rfl) (ly8_k La0_h2) ?_
    refine mx_aload_n dX8_no_0 rfl rfl ?_
    refine mx_iload_n dX8_no_1 rfl rfl ?_
    refine mx_putI 8 0 (ref := "PrairiePoolModel") cl_8 (Nat.le_of_ble_eq_true rfl) (Or.inl q1627) (Or.inl rfl) dX8_no_2 (Or.inl rfl) rfl (ly8_k La0_h2) ?_
    refine mx_nmI  (fun h4 eh4 Xh4 Kh4 Lh4 => ?_)
    have H := H h4 eh4 Xh4
    have Kh4 := Kh4.trans Kh2
    have Lh4 := Lh4.trans Lh2
    have La0_h4 := La0_h2.ext Xh4
    refine mx_iconst dX8_no_5 ic_0 ?_
    refine mx_zretK rfl dX8_no_6 (Or.inl rfl) ?_
    exact mx_zret rfl dX8_price_34 (Or.inl rfl) H
  · have H := H.2 c3
    refine mx_lload_n dX8_isIn_6 rfl rfl ?_
    refine mx_lload dX8_isIn_7 rfl ?_
    refine mx_lif_gt (tgt := 17) dX8_isIn_9 dX8_isIn_10 rfl (fun c5 => ?_) (fun c5 => ?_)
    · have H := H.1 c5
      refine mx_iconst dX8_isIn_17 ic_0 ?_
      refine mx_zretK rfl dX8_isIn_18 (Or.inl rfl) ?_
      refine mx_zretK rfl dX8_isDay_9 (Or.inl rfl) ?_
      refine mx_if_eq (tgt := 29) dX8_price_14 rfl (fun _ => ?_) (fun _ => absurd ‹_› (by decide))
      refine mx_aload_n dX8_price_29 rfl rfl ?_
      refine mx_iconst dX8_price_30 ic_5 ?_
      refine mx_callV 8 (y' := mi_X8_no) (vs := [iv (5 : Int32)]) (st := []) (al' := [some (rv a0), some (iv (5 : Int32))]) cl_8 V_X8_no (Or.inl q1963) dX8_price_31 rfl rfl (Nat.le_of_ble_eq_true rfl) (Nat.le_of_ble_eq_true rfl) (ly8_k La0_h2) ?_
      refine mx_aload_n dX8_no_0 rfl rfl ?_
      refine mx_iload_n dX8_no_1 rfl rfl ?_
      refine mx_putI 8 0 (ref := "PrairiePoolModel") cl_8 (Nat.le_of_ble_eq_true rfl) (Or.inl q1627) (Or.inl rfl) dX8_no_2 (Or.inl rfl) rfl (ly8_k La0_h2) ?_
      refine mx_nmI  (fun h6 eh6 Xh6 Kh6 Lh6 => ?_)
      have H := H h6 eh6 Xh6
      have Kh6 := Kh6.trans Kh2
      have Lh6 := Lh6.trans Lh2
      have La0_h6 := La0_h2.ext Xh6
      refine mx_iconst dX8_no_5 ic_0 ?_
      refine mx_zretK rfl dX8_no_6 (Or.inl rfl) ?_
      exact mx_zret rfl dX8_price_34 (Or.inl rfl) H
    · have H := H.2 c5
      refine mx_iconst dX8_isIn_13 ic_1 ?_
      refine mx_goto (tgt := 18) dX8_isIn_14 rfl ?_
      refine mx_zretK rfl dX8_isIn_18 (Or.inr rfl) ?_
      refine mx_zretK rfl dX8_isDay_9 (Or.inr rfl) ?_
      refine mx_if_eq (tgt := 29) dX8_price_14 rfl (fun _ => absurd ‹_› (by decide)) (fun _ => ?_)
      refine mx_iload_n dX8_price_17 rfl rfl ?_
      refine mx_i2l dX8_price_18 ?_
      refine mx_lconst dX8_price_19 lc_0 ?_
      refine mx_ldc2 q2023 dX8_price_20 ?_
      refine mx_callS (y' := mi_X8_isIn) (vs := [jv x2.toInt64, jv (0 : Int64), jv (1000 : Int64)]) (st := []) (al' := [some (jv x2.toInt64), none, some (jv (0 : Int64)), none, some (jv (1000 : Int64)), none]) S_X8_isIn q1996 dX8_price_23 rfl rfl (Nat.le_of_ble_eq_true rfl) (Nat.le_of_ble_eq_true rfl) ?_
      refine mx_lload_n dX8_isIn_0 rfl rfl ?_
      refine mx_lload_n dX8_isIn_1 rfl rfl ?_
      refine mx_lif_lt (tgt := 17) dX8_isIn_2 dX8_isIn_3 rfl (fun c7 => ?_) (fun c7 => ?_)
      · have H := H.1 c7
        refine mx_iconst dX8_isIn_17 ic_0 ?_
        refine mx_zretK rfl dX8_isIn_18 (Or.inl rfl) ?_
        refine mx_if_ne (tgt := 35) dX8_price_26 rfl (fun _ => absurd ‹_› (by decide)) (fun _ => ?_)
        refine mx_aload_n dX8_price_29 rfl rfl ?_
        refine mx_iconst dX8_price_30 ic_5 ?_
        refine mx_callV 8 (y' := mi_X8_no) (vs := [iv (5 : Int32)]) (st := []) (al' := [some (rv a0), some (iv (5 : Int32))]) cl_8 V_X8_no (Or.inl q1963) dX8_price_31 rfl rfl (Nat.le_of_ble_eq_true rfl) (Nat.le_of_ble_eq_true rfl) (ly8_k La0_h2) ?_
        refine mx_aload_n dX8_no_0 rfl rfl ?_
        refine mx_iload_n dX8_no_1 rfl rfl ?_
        refine mx_putI 8 0 (ref := "PrairiePoolModel") cl_8 (Nat.le_of_ble_eq_true rfl) (Or.inl q1627) (Or.inl rfl) dX8_no_2 (Or.inl rfl) rfl (ly8_k La0_h2) ?_
        refine mx_nmI  (fun h8 eh8 Xh8 Kh8 Lh8 => ?_)
        have H := H h8 eh8 Xh8
        have Kh8 := Kh8.trans Kh2
        have Lh8 := Lh8.trans Lh2
        have La0_h8 := La0_h2.ext Xh8
        refine mx_iconst dX8_no_5 ic_0 ?_
        refine mx_zretK rfl dX8_no_6 (Or.inl rfl) ?_
        exact mx_zret rfl dX8_price_34 (Or.inl rfl) H
      · have H := H.2 c7
        refine mx_lload_n dX8_isIn_6 rfl rfl ?_
        refine mx_lload dX8_isIn_7 rfl ?_
        refine mx_lif_gt (tgt := 17) dX8_isIn_9 dX8_isIn_10 rfl (fun c9 => ?_) (fun c9 => ?_)
        · have H := H.1 c9
          refine mx_iconst dX8_isIn_17 ic_0 ?_
          refine mx_zretK rfl dX8_isIn_18 (Or.inl rfl) ?_
          refine mx_if_ne (tgt := 35) dX8_price_26 rfl (fun _ => absurd ‹_› (by decide)) (fun _ => ?_)
          refine mx_aload_n dX8_price_29 rfl rfl ?_
          refine mx_iconst dX8_price_30 ic_5 ?_
          refine mx_callV 8 (y' := mi_X8_no) (vs := [iv (5 : Int32)]) (st := []) (al' := [some (rv a0), some (iv (5 : Int32))]) cl_8 V_X8_no (Or.inl q1963) dX8_price_31 rfl rfl (Nat.le_of_ble_eq_true rfl) (Nat.le_of_ble_eq_true rfl) (ly8_k La0_h2) ?_
          refine mx_aload_n dX8_no_0 rfl rfl ?_
          refine mx_iload_n dX8_no_1 rfl rfl ?_
          refine mx_putI 8 0 (ref := "PrairiePoolModel") cl_8 (Nat.le_of_ble_eq_true rfl) (Or.inl q1627) (Or.inl rfl) dX8_no_2 (Or.inl rfl) rfl (ly8_k La0_h2) ?_
          refine mx_nmI  (fun h10 eh10 Xh10 Kh10 Lh10 => ?_)
          have H := H h10 eh10 Xh10
          have Kh10 := Kh10.trans Kh2
          have Lh10 := Lh10.trans Lh2
          have La0_h10 := La0_h2.ext Xh10
          refine mx_iconst dX8_no_5 ic_0 ?_
          refine mx_zretK rfl dX8_no_6 (Or.inl rfl) ?_
          exact mx_zret rfl dX8_price_34 (Or.inl rfl) H
        · have H := H.2 c9
          refine mx_iconst dX8_isIn_13 ic_1 ?_
          refine mx_goto (tgt := 18) dX8_isIn_14 rfl ?_
          refine mx_zretK rfl dX8_isIn_18 (Or.inr rfl) ?_
          refine mx_if_ne (tgt := 35) dX8_price_26 rfl (fun _ => ?_) (fun _ => absurd ‹_› (by decide))
          refine mx_aload_n dX8_price_35 rfl rfl ?_
          refine mx_get 8 86 (ref := "PrairiePoolModel") cl_8 (Nat.le_of_ble_eq_true rfl) (Or.inl q1713) (Or.inl rfl) dX8_price_36 (fv_8_86 _ _) (ly8_k La0_h2) ?_
          refine mx_tr (ly8_R_0_86 La0_h2) ?_
          refine mx_iload_n dX8_price_39 rfl rfl ?_
          refine mx_iload_n dX8_price_40 rfl rfl ?_
          obtain ⟨k11, H⟩ := H
          refine my_iast dX8_price_41 rfl (ly8_A_60 La0_h2 k11) ?_
          refine mx_nmI  (fun h12 eh12 Xh12 Kh12 Lh12 => ?_)
          have H := H h12 eh12 Xh12
          have Kh12 := Kh12.trans Kh2
          have Lh12 := Lh12.trans Lh2
          have La0_h12 := La0_h2.ext Xh12
          refine mx_iconst dX8_price_42 ic_1 ?_
          exact mx_zret rfl dX8_price_43 (Or.inr rfl) H
theorem dX8_rules_0 : decode mi_X8_rules.2.1 0 = .ok (.aload_n 0, 1) := by decide +kernel
theorem dX8_rules_1 : decode mi_X8_rules.2.1 1 = .ok (.iconst 0, 1) := by decide +kernel
theorem dX8_rules_2 : decode mi_X8_rules.2.1 2 = .ok (.putfield 257, 3) := by decide +kernel
theorem dX8_rules_5 : decode mi_X8_rules.2.1 5 = .ok (.aload_n 0, 1) := by decide +kernel
theorem dX8_rules_6 : decode mi_X8_rules.2.1 6 = .ok (.iconst 0, 1) := by decide +kernel
theorem dX8_rules_7 : decode mi_X8_rules.2.1 7 = .ok (.putfield 260, 3) := by decide +kernel
theorem dX8_rules_10 : decode mi_X8_rules.2.1 10 = .ok (.iload_n 1, 1) := by decide +kernel
theorem dX8_rules_11 : decode mi_X8_rules.2.1 11 = .ok (.i2l, 1) := by decide +kernel
theorem dX8_rules_12 : decode mi_X8_rules.2.1 12 = .ok (.lconst 0, 1) := by decide +kernel
theorem dX8_rules_13 : decode mi_X8_rules.2.1 13 = .ok (.ldc2_w 636, 3) := by decide +kernel
theorem dX8_rules_16 : decode mi_X8_rules.2.1 16 = .ok (.invokestatic 265, 3) := by decide +kernel
theorem dX8_rules_19 : decode mi_X8_rules.2.1 19 = .ok (.ifCond .eq 15, 3) := by decide +kernel
theorem dX8_rules_22 : decode mi_X8_rules.2.1 22 = .ok (.iload_n 2, 1) := by decide +kernel
theorem dX8_rules_23 : decode mi_X8_rules.2.1 23 = .ok (.i2l, 1) := by decide +kernel
theorem dX8_rules_24 : decode mi_X8_rules.2.1 24 = .ok (.lconst 0, 1) := by decide +kernel
theorem dX8_rules_25 : decode mi_X8_rules.2.1 25 = .ok (.ldc2_w 624, 3) := by decide +kernel
theorem dX8_rules_28 : decode mi_X8_rules.2.1 28 = .ok (.invokestatic 265, 3) := by decide +kernel
theorem dX8_rules_31 : decode mi_X8_rules.2.1 31 = .ok (.ifCond .ne 9, 3) := by decide +kernel
theorem dX8_rules_34 : decode mi_X8_rules.2.1 34 = .ok (.aload_n 0, 1) := by decide +kernel
theorem dX8_rules_35 : decode mi_X8_rules.2.1 35 = .ok (.iconst 5, 1) := by decide +kernel
theorem dX8_rules_36 : decode mi_X8_rules.2.1 36 = .ok (.invokevirtual 273, 3) := by decide +kernel
theorem dX8_rules_39 : decode mi_X8_rules.2.1 39 = .ok (.ireturn, 1) := by decide +kernel
theorem dX8_rules_40 : decode mi_X8_rules.2.1 40 = .ok (.aload_n 0, 1) := by decide +kernel
theorem dX8_rules_41 : decode mi_X8_rules.2.1 41 = .ok (.iload_n 1, 1) := by decide +kernel
theorem dX8_rules_42 : decode mi_X8_rules.2.1 42 = .ok (.putfield 203, 3) := by decide +kernel
theorem dX8_rules_45 : decode mi_X8_rules.2.1 45 = .ok (.aload_n 0, 1) := by decide +kernel
theorem dX8_rules_46 : decode mi_X8_rules.2.1 46 = .ok (.iload_n 2, 1) := by decide +kernel
theorem dX8_rules_47 : decode mi_X8_rules.2.1 47 = .ok (.putfield 206, 3) := by decide +kernel
theorem dX8_rules_50 : decode mi_X8_rules.2.1 50 = .ok (.iconst 1, 1) := by decide +kernel
theorem dX8_rules_51 : decode mi_X8_rules.2.1 51 = .ok (.ireturn, 1) := by decide +kernel
theorem v_X8_rules {G : ma_G} {d : Nat} {a0 : Nat} {x1 : Int32} {x2 : Int32} {h : ah_T} {Q : Option ma_V → ah_T → Prop} {E : Nat → ah_T → Prop} (La0_h : LY8 h a0) (H : ∀ h1 : ah_T, h1 = ah_wI h a0 1 (0 : Int32) → ah_ext h h1 → ∀ h2 : ah_T, h2 = ah_wI h1 a0 0 (0 : Int32) → ah_ext h1 h2 → (x1.toInt64 < (0 : Int64) → ∀ h4 : ah_T, h4 = ah_wI h2 a0 0 (5 : Int32) → ah_ext h2 h4 → Q (some (iv (0 : Int32))) h4) ∧ (¬ x1.toInt64 < (0 : Int64) → ((100 : Int64) < x1.toInt64 → ∀ h6 : ah_T, h6 = ah_wI h2 a0 0 (5 : Int32) → ah_ext h2 h6 → Q (some (iv (0 : Int32))) h6) ∧ (¬ (100 : Int64) < x1.toInt64 → (x2.toInt64 < (0 : Int64) → ∀ h8 : ah_T, h8 = ah_wI h2 a0 0 (5 : Int32) → ah_ext h2 h8 → Q (some (iv (0 : Int32))) h8) ∧ (¬ x2.toInt64 < (0 : Int64) → ((20 : Int64) < x2.toInt64 → ∀ h10 : ah_T, h10 = ah_wI h2 a0 0 (5 : Int32) → ah_ext h2 h10 → Q (some (iv (0 : Int32))) h10) ∧ (¬ (20 : Int64) < x2.toInt64 → ∀ h11 : ah_T, h11 = ah_wI h2 a0 89 x1 → ah_ext h2 h11 → ∀ h12 : ah_T, h12 = ah_wI h11 a0 90 x2 → ah_ext h11 h12 → Q (some (iv (1 : Int32))) h12))))) : MX G mi_X8_rules (d + 1) 0 [some (rv a0), some (iv x1), some (iv x2)] [] h Q E := by
  refine mx_aload_n dX8_rules_0 rfl rfl ?_
  refine mx_iconst dX8_rules_1 ic_0 ?_
  refine mx_putI 8 1 (ref := "PrairiePoolModel") cl_8 (Nat.le_of_ble_eq_true rfl) (Or.inl q1628) (Or.inl rfl) dX8_rules_2 (Or.inl rfl) rfl (ly8_k La0_h) ?_
  refine mx_nmI  (fun h1 eh1 Xh1 Kh1 Lh1 => ?_)
  have H := H h1 eh1 Xh1
  have La0_h1 := La0_h.ext Xh1
  refine mx_aload_n dX8_rules_5 rfl rfl ?_
  refine mx_iconst dX8_rules_6 ic_0 ?_
  refine mx_putI 8 0 (ref := "PrairiePoolModel") cl_8 (Nat.le_of_ble_eq_true rfl) (Or.inl q1627) (Or.inl rfl) dX8_rules_7 (Or.inl rfl) rfl (ly8_k La0_h1) ?_
  refine mx_nmI  (fun h2 eh2 Xh2 Kh2 Lh2 => ?_)
  have H := H h2 eh2 Xh2
  have Kh2 := Kh2.trans Kh1
  have Lh2 := Lh2.trans Lh1
  have La0_h2 := La0_h1.ext Xh2
  refine mx_iload_n dX8_rules_10 rfl rfl ?_
  refine mx_i2l dX8_rules_11 ?_
  refine mx_lconst dX8_rules_12 lc_0 ?_
  refine mx_ldc2 q2389 dX8_rules_13 ?_
  refine mx_callS (y' := mi_X8_isIn) (vs := [jv x1.toInt64, jv (0 : Int64), jv (100 : Int64)]) (st := []) (al' := [some (jv x1.toInt64), none, some (jv (0 : Int64)), none, some (jv (100 : Int64)), none]) S_X8_isIn q1996 dX8_rules_16 rfl rfl (Nat.le_of_ble_eq_true rfl) (Nat.le_of_ble_eq_true rfl) ?_
  refine mx_lload_n dX8_isIn_0 rfl rfl ?_
  refine mx_lload_n dX8_isIn_1 rfl rfl ?_
  refine mx_lif_lt (tgt := 17) dX8_isIn_2 dX8_isIn_3 rfl (fun c3 => ?_) (fun c3 => ?_)
  · have H := H.1 c3
    refine mx_iconst dX8_isIn_17 ic_0 ?_
    refine mx_zretK rfl dX8_isIn_18 (Or.inl rfl) ?_
    refine mx_if_eq (tgt := 34) dX8_rules_19 rfl (fun _ => ?_) (fun _ => absurd ‹_› (by decide))
    refine mx_aload_n dX8_rules_34 rfl rfl ?_
    refine mx_iconst dX8_rules_35 ic_5 ?_
    refine mx_callV 8 (y' := mi_X8_no) (vs := [iv (5 : Int32)]) (st := []) (al' := [some (rv a0), some (iv (5 : Int32))]) cl_8 V_X8_no (Or.inl q1963) dX8_rules_36 rfl rfl (Nat.le_of_ble_eq_true rfl) (Nat.le_of_ble_eq_true rfl) (ly8_k La0_h2) ?_
    refine mx_aload_n dX8_no_0 rfl rfl ?_
    refine mx_iload_n dX8_no_1 rfl rfl ?_
    refine mx_putI 8 0 (ref := "PrairiePoolModel") cl_8 (Nat.le_of_ble_eq_true rfl) (Or.inl q1627) (Or.inl rfl) dX8_no_2 (Or.inl rfl) rfl (ly8_k La0_h2) ?_
    refine mx_nmI  (fun h4 eh4 Xh4 Kh4 Lh4 => ?_)
    have H := H h4 eh4 Xh4
    have Kh4 := Kh4.trans Kh2
    have Lh4 := Lh4.trans Lh2
    have La0_h4 := La0_h2.ext Xh4
    refine mx_iconst dX8_no_5 ic_0 ?_
    refine mx_zretK rfl dX8_no_6 (Or.inl rfl) ?_
    exact mx_zret rfl dX8_rules_39 (Or.inl rfl) H
  · have H := H.2 c3
    refine mx_lload_n dX8_isIn_6 rfl rfl ?_
    refine mx_lload dX8_isIn_7 rfl ?_
    refine mx_lif_gt (tgt := 17) dX8_isIn_9 dX8_isIn_10 rfl (fun c5 => ?_) (fun c5 => ?_)
    · have H := H.1 c5
      refine mx_iconst dX8_isIn_17 ic_0 ?_
      refine mx_zretK rfl dX8_isIn_18 (Or.inl rfl) ?_
      refine mx_if_eq (tgt := 34) dX8_rules_19 rfl (fun _ => ?_) (fun _ => absurd ‹_› (by decide))
      refine mx_aload_n dX8_rules_34 rfl rfl ?_
      refine mx_iconst dX8_rules_35 ic_5 ?_
      refine mx_callV 8 (y' := mi_X8_no) (vs := [iv (5 : Int32)]) (st := []) (al' := [some (rv a0), some (iv (5 : Int32))]) cl_8 V_X8_no (Or.inl q1963) dX8_rules_36 rfl rfl (Nat.le_of_ble_eq_true rfl) (Nat.le_of_ble_eq_true rfl) (ly8_k La0_h2) ?_
      refine mx_aload_n dX8_no_0 rfl rfl ?_
      refine mx_iload_n dX8_no_1 rfl rfl ?_
      refine mx_putI 8 0 (ref := "PrairiePoolModel") cl_8 (Nat.le_of_ble_eq_true rfl) (Or.inl q1627) (Or.inl rfl) dX8_no_2 (Or.inl rfl) rfl (ly8_k La0_h2) ?_
      refine mx_nmI  (fun h6 eh6 Xh6 Kh6 Lh6 => ?_)
      have H := H h6 eh6 Xh6
      have Kh6 := Kh6.trans Kh2
      have Lh6 := Lh6.trans Lh2
      have La0_h6 := La0_h2.ext Xh6
      refine mx_iconst dX8_no_5 ic_0 ?_
      refine mx_zretK rfl dX8_no_6 (Or.inl rfl) ?_
      exact mx_zret rfl dX8_rules_39 (Or.inl rfl) H
    · have H := H.2 c5
      refine mx_iconst dX8_isIn_13 ic_1 ?_
      refine mx_goto (tgt := 18) dX8_isIn_14 rfl ?_
      refine mx_zretK rfl dX8_isIn_18 (Or.inr rfl) ?_
      refine mx_if_eq (tgt := 34) dX8_rules_19 rfl (fun _ => absurd ‹_› (by decide)) (fun _ => ?_)
      refine mx_iload_n dX8_rules_22 rfl rfl ?_
      refine mx_i2l dX8_rules_23 ?_
      refine mx_lconst dX8_rules_24 lc_0 ?_
      refine mx_ldc2 q2352 dX8_rules_25 ?_
      refine mx_callS (y' := mi_X8_isIn) (vs := [jv x2.toInt64, jv (0 : Int64), jv (20 : Int64)]) (st := []) (al' := [some (jv x2.toInt64), none, some (jv (0 : Int64)), none, some (jv (20 : Int64)), none]) S_X8_isIn q1996 dX8_rules_28 rfl rfl (Nat.le_of_ble_eq_true rfl) (Nat.le_of_ble_eq_true rfl) ?_
      refine mx_lload_n dX8_isIn_0 rfl rfl ?_
      refine mx_lload_n dX8_isIn_1 rfl rfl ?_
      refine mx_lif_lt (tgt := 17) dX8_isIn_2 dX8_isIn_3 rfl (fun c7 => ?_) (fun c7 => ?_)
      · have H := H.1 c7
        refine mx_iconst dX8_isIn_17 ic_0 ?_
        refine mx_zretK rfl dX8_isIn_18 (Or.inl rfl) ?_
        refine mx_if_ne (tgt := 40) dX8_rules_31 rfl (fun _ => absurd ‹_› (by decide)) (fun _ => ?_)
        refine mx_aload_n dX8_rules_34 rfl rfl ?_
        refine mx_iconst dX8_rules_35 ic_5 ?_
        refine mx_callV 8 (y' := mi_X8_no) (vs := [iv (5 : Int32)]) (st := []) (al' := [some (rv a0), some (iv (5 : Int32))]) cl_8 V_X8_no (Or.inl q1963) dX8_rules_36 rfl rfl (Nat.le_of_ble_eq_true rfl) (Nat.le_of_ble_eq_true rfl) (ly8_k La0_h2) ?_
        refine mx_aload_n dX8_no_0 rfl rfl ?_
        refine mx_iload_n dX8_no_1 rfl rfl ?_
        refine mx_putI 8 0 (ref := "PrairiePoolModel") cl_8 (Nat.le_of_ble_eq_true rfl) (Or.inl q1627) (Or.inl rfl) dX8_no_2 (Or.inl rfl) rfl (ly8_k La0_h2) ?_
        refine mx_nmI  (fun h8 eh8 Xh8 Kh8 Lh8 => ?_)
        have H := H h8 eh8 Xh8
        have Kh8 := Kh8.trans Kh2
        have Lh8 := Lh8.trans Lh2
        have La0_h8 := La0_h2.ext Xh8
        refine mx_iconst dX8_no_5 ic_0 ?_
        refine mx_zretK rfl dX8_no_6 (Or.inl rfl) ?_
        exact mx_zret rfl dX8_rules_39 (Or.inl rfl) H
      · have H := H.2 c7
        refine mx_lload_n dX8_isIn_6 rfl rfl ?_
        refine mx_lload dX8_isIn_7 rfl ?_
        refine mx_lif_gt (tgt := 17) dX8_isIn_9 dX8_isIn_10 rfl (fun c9 => ?_) (fun c9 => ?_)
        · have H := H.1 c9
          refine mx_iconst dX8_isIn_17 ic_0 ?_
          refine mx_zretK rfl dX8_isIn_18 (Or.inl rfl) ?_
          refine mx_if_ne (tgt := 40) dX8_rules_31 rfl (fun _ => absurd ‹_› (by decide)) (fun _ => ?_)
          refine mx_aload_n dX8_rules_34 rfl rfl ?_
          refine mx_iconst dX8_rules_35 ic_5 ?_
          refine mx_callV 8 (y' := mi_X8_no) (vs := [iv (5 : Int32)]) (st := []) (al' := [some (rv a0), some (iv (5 : Int32))]) cl_8 V_X8_no (Or.inl q1963) dX8_rules_36 rfl rfl (Nat.le_of_ble_eq_true rfl) (Nat.le_of_ble_eq_true rfl) (ly8_k La0_h2) ?_
          refine mx_aload_n dX8_no_0 rfl rfl ?_
          refine mx_iload_n dX8_no_1 rfl rfl ?_
          refine mx_putI 8 0 (ref := "PrairiePoolModel") cl_8 (Nat.le_of_ble_eq_true rfl) (Or.inl q1627) (Or.inl rfl) dX8_no_2 (Or.inl rfl) rfl (ly8_k La0_h2) ?_
          refine mx_nmI  (fun h10 eh10 Xh10 Kh10 Lh10 => ?_)
          have H := H h10 eh10 Xh10
          have Kh10 := Kh10.trans Kh2
          have Lh10 := Lh10.trans Lh2
          have La0_h10 := La0_h2.ext Xh10
          refine mx_iconst dX8_no_5 ic_0 ?_
          refine mx_zretK rfl dX8_no_6 (Or.inl rfl) ?_
          exact mx_zret rfl dX8_rules_39 (Or.inl rfl) H
        · have H := H.2 c9
          refine mx_iconst dX8_isIn_13 ic_1 ?_
          refine mx_goto (tgt := 18) dX8_isIn_14 rfl ?_
          refine mx_zretK rfl dX8_isIn_18 (Or.inr rfl) ?_
          refine mx_if_ne (tgt := 40) dX8_rules_31 rfl (fun _ => ?_) (fun _ => absurd ‹_› (by decide))
          refine mx_aload_n dX8_rules_40 rfl rfl ?_
          refine mx_iload_n dX8_rules_41 rfl rfl ?_
          refine mx_putI 8 89 (ref := "PrairiePoolModel") cl_8 (Nat.le_of_ble_eq_true rfl) (Or.inl q1716) (Or.inl rfl) dX8_rules_42 (Or.inl rfl) rfl (ly8_k La0_h2) ?_
          refine mx_nmI  (fun h11 eh11 Xh11 Kh11 Lh11 => ?_)
          have H := H h11 eh11 Xh11
          have Kh11 := Kh11.trans Kh2
          have Lh11 := Lh11.trans Lh2
          have La0_h11 := La0_h2.ext Xh11
          refine mx_aload_n dX8_rules_45 rfl rfl ?_
          refine mx_iload_n dX8_rules_46 rfl rfl ?_
          refine mx_putI 8 90 (ref := "PrairiePoolModel") cl_8 (Nat.le_of_ble_eq_true rfl) (Or.inl q1717) (Or.inl rfl) dX8_rules_47 (Or.inl rfl) rfl (ly8_k La0_h11) ?_
          refine mx_nmI  (fun h12 eh12 Xh12 Kh12 Lh12 => ?_)
          have H := H h12 eh12 Xh12
          have Kh12 := Kh12.trans Kh11
          have Lh12 := Lh12.trans Lh11
          have La0_h12 := La0_h11.ext Xh12
          refine mx_iconst dX8_rules_50 ic_1 ?_
          exact mx_zret rfl dX8_rules_51 (Or.inr rfl) H
theorem dX8_alone_0 : decode mi_X8_alone.2.1 0 = .ok (.aload_n 0, 1) := by decide +kernel
theorem dX8_alone_1 : decode mi_X8_alone.2.1 1 = .ok (.iconst 0, 1) := by decide +kernel
theorem dX8_alone_2 : decode mi_X8_alone.2.1 2 = .ok (.putfield 257, 3) := by decide +kernel
theorem dX8_alone_5 : decode mi_X8_alone.2.1 5 = .ok (.aload_n 0, 1) := by decide +kernel
theorem dX8_alone_6 : decode mi_X8_alone.2.1 6 = .ok (.aload_n 0, 1) := by decide +kernel
theorem dX8_alone_7 : decode mi_X8_alone.2.1 7 = .ok (.iload_n 1, 1) := by decide +kernel
theorem dX8_alone_8 : decode mi_X8_alone.2.1 8 = .ok (.iload_n 2, 1) := by decide +kernel
theorem dX8_alone_9 : decode mi_X8_alone.2.1 9 = .ok (.iload_n 3, 1) := by decide +kernel
theorem dX8_alone_10 : decode mi_X8_alone.2.1 10 = .ok (.invokevirtual 618, 3) := by decide +kernel
theorem dX8_alone_13 : decode mi_X8_alone.2.1 13 = .ok (.putfield 260, 3) := by decide +kernel
theorem dX8_alone_16 : decode mi_X8_alone.2.1 16 = .ok (.aload_n 0, 1) := by decide +kernel
theorem dX8_alone_17 : decode mi_X8_alone.2.1 17 = .ok (.getfield 260, 3) := by decide +kernel
theorem dX8_alone_20 : decode mi_X8_alone.2.1 20 = .ok (.ifCond .le 7, 3) := by decide +kernel
theorem dX8_alone_23 : decode mi_X8_alone.2.1 23 = .ok (.ldc2_w 289, 3) := by decide +kernel
theorem dX8_alone_26 : decode mi_X8_alone.2.1 26 = .ok (.lreturn, 1) := by decide +kernel
theorem dX8_alone_27 : decode mi_X8_alone.2.1 27 = .ok (.aload_n 0, 1) := by decide +kernel
theorem dX8_alone_28 : decode mi_X8_alone.2.1 28 = .ok (.iload_n 3, 1) := by decide +kernel
theorem dX8_alone_29 : decode mi_X8_alone.2.1 29 = .ok (.invokevirtual 403, 3) := by decide +kernel
theorem dX8_alone_32 : decode mi_X8_alone.2.1 32 = .ok (.aload_n 0, 1) := by decide +kernel
theorem dX8_alone_33 : decode mi_X8_alone.2.1 33 = .ok (.iload_n 1, 1) := by decide +kernel
theorem dX8_alone_34 : decode mi_X8_alone.2.1 34 = .ok (.iload_n 2, 1) := by decide +kernel
theorem dX8_alone_35 : decode mi_X8_alone.2.1 35 = .ok (.iload_n 3, 1) := by decide +kernel
theorem dX8_alone_36 : decode mi_X8_alone.2.1 36 = .ok (.invokevirtual 638, 3) := by decide +kernel
theorem dX8_alone_39 : decode mi_X8_alone.2.1 39 = .ok (.lreturn, 1) := by decide +kernel
theorem v_X8_alone {G : ma_G} {d : Nat} {a0 : Nat} {x1 : Int32} {x2 : Int32} {x3 : Int32} {h : ah_T} {Q : Option ma_V → ah_T → Prop} {E : Nat → ah_T → Prop} (La0_h : LY8 h a0) (H : ∀ h1 : ah_T, h1 = ah_wI h a0 1 (0 : Int32) → ah_ext h h1 → (x1.toInt64 < (0 : Int64) → ∀ h3 : ah_T, h3 = ah_wI h1 a0 0 (2 : Int32) → ah_ext h1 h3 → Q (some (jv (-1 : Int64))) h3) ∧ (¬ x1.toInt64 < (0 : Int64) → (((ah_I h a0 5) - (1 : Int32)).toInt64 < x1.toInt64 → ∀ h5 : ah_T, h5 = ah_wI h1 a0 0 (2 : Int32) → ah_ext h1 h5 → Q (some (jv (-1 : Int64))) h5) ∧ (¬ ((ah_I h a0 5) - (1 : Int32)).toInt64 < x1.toInt64 → (x2.toInt64 < (0 : Int64) → ∀ h7 : ah_T, h7 = ah_wI h1 a0 0 (5 : Int32) → ah_ext h1 h7 → Q (some (jv (-1 : Int64))) h7) ∧ (¬ x2.toInt64 < (0 : Int64) → ((9 : Int64) < x2.toInt64 → ∀ h9 : ah_T, h9 = ah_wI h1 a0 0 (5 : Int32) → ah_ext h1 h9 → Q (some (jv (-1 : Int64))) h9) ∧ (¬ (9 : Int64) < x2.toInt64 → (x3.toInt64 < (0 : Int64) → ∀ h11 : ah_T, h11 = ah_wI h1 a0 0 (5 : Int32) → ah_ext h1 h11 → Q (some (jv (-1 : Int64))) h11) ∧ (¬ x3.toInt64 < (0 : Int64) → ((519 : Int64) < x3.toInt64 → ∀ h13 : ah_T, h13 = ah_wI h1 a0 0 (5 : Int32) → ah_ext h1 h13 → Q (some (jv (-1 : Int64))) h13) ∧ (¬ (519 : Int64) < x3.toInt64 → ∀ h14 : ah_T, h14 = ah_wI h1 a0 0 (0 : Int32) → ah_ext h1 h14 → MX G mi_X8_play (d + 2) 0 [some (rv a0), some (iv x3), none] [] h14 (Qv fun h15 => ah_ext h14 h15 → MX G mi_X8_aloneOf (d + 2) 0 [some (rv a0), some (iv x1), some (iv x2), some (iv x3), none, none, none, none] [] h15 (Ql fun r18 h17 => ah_ext h15 h17 → Q (some (jv r18)) h17) E) E))))))) : MX G mi_X8_alone (d + 3) 0 [some (rv a0), some (iv x1), some (iv x2), some (iv x3)] [] h Q E := by
  refine mx_aload_n dX8_alone_0 rfl rfl ?_
  refine mx_iconst dX8_alone_1 ic_0 ?_
  refine mx_putI 8 1 (ref := "PrairiePoolModel") cl_8 (Nat.le_of_ble_eq_true rfl) (Or.inl q1628) (Or.inl rfl) dX8_alone_2 (Or.inl rfl) rfl (ly8_k La0_h) ?_
  refine mx_nmI  (fun h1 eh1 Xh1 Kh1 Lh1 => ?_)
  have H := H h1 eh1 Xh1
  have La0_h1 := La0_h.ext Xh1
  refine mx_aload_n dX8_alone_5 rfl rfl ?_
  refine mx_aload_n dX8_alone_6 rfl rfl ?_
  refine mx_iload_n dX8_alone_7 rfl rfl ?_
  refine mx_iload_n dX8_alone_8 rfl rfl ?_
  refine mx_iload_n dX8_alone_9 rfl rfl ?_
  refine mx_callV 8 (y' := mi_X8_asksFarm) (vs := [iv x1, iv x2, iv x3]) (st := [rv a0]) (al' := [some (rv a0), some (iv x1), some (iv x2), some (iv x3)]) cl_8 V_X8_asksFarm (Or.inl q2328) dX8_alone_10 rfl rfl (Nat.le_of_ble_eq_true rfl) (Nat.le_of_ble_eq_true rfl) (ly8_k La0_h1) ?_
  refine mx_aload_n dX8_asksFarm_0 rfl rfl ?_
  refine mx_iload_n dX8_asksFarm_1 rfl rfl ?_
  refine mx_callV 8 (y' := mi_X8_isFarm) (vs := [iv x1]) (st := []) (al' := [some (rv a0), some (iv x1)]) cl_8 V_X8_isFarm (Or.inl q2014) dX8_asksFarm_2 rfl rfl (Nat.le_of_ble_eq_true rfl) (Nat.le_of_ble_eq_true rfl) (ly8_k La0_h1) ?_
  refine mx_iload_n dX8_isFarm_0 rfl rfl ?_
  refine mx_i2l dX8_isFarm_1 ?_
  refine mx_lconst dX8_isFarm_2 lc_0 ?_
  refine mx_aload_n dX8_isFarm_3 rfl rfl ?_
  refine mx_get 8 5 (ref := "PrairiePoolModel") cl_8 (Nat.le_of_ble_eq_true rfl) (Or.inl q1632) (Or.inl rfl) dX8_isFarm_4 (fv_8_5 _ _) (ly8_k La0_h1) ?_
  refine mx_ti (ah_skIK eh1 (by decide)) ?_
  refine mx_iconst dX8_isFarm_7 ic_1 ?_
  refine mx_isub dX8_isFarm_8 ?_
  refine mx_i2l dX8_isFarm_9 ?_
  refine mx_callS (y' := mi_X8_isIn) (vs := [jv x1.toInt64, jv (0 : Int64), jv ((ah_I h a0 5) - (1 : Int32)).toInt64]) (st := []) (al' := [some (jv x1.toInt64), none, some (jv (0 : Int64)), none, some (jv ((ah_I h a0 5) - (1 : Int32)).toInt64), none]) S_X8_isIn q1996 dX8_isFarm_10 rfl rfl (Nat.le_of_ble_eq_true rfl) (Nat.le_of_ble_eq_true rfl) ?_
  refine mx_lload_n dX8_isIn_0 rfl rfl ?_
  refine mx_lload_n dX8_isIn_1 rfl rfl ?_
  refine mx_lif_lt (tgt := 17) dX8_isIn_2 dX8_isIn_3 rfl (fun c2 => ?_) (fun c2 => ?_)
  · have H := H.1 c2
    refine mx_iconst dX8_isIn_17 ic_0 ?_
    refine mx_zretK rfl dX8_isIn_18 (Or.inl rfl) ?_
    refine mx_zretK rfl dX8_isFarm_13 (Or.inl rfl) ?_
    refine mx_if_ne (tgt := 12) dX8_asksFarm_5 rfl (fun _ => absurd ‹_› (by decide)) (fun _ => ?_)
    refine mx_iconst dX8_asksFarm_8 ic_2 ?_
    refine mx_goto (tgt := 31) dX8_asksFarm_9 rfl ?_
    refine mx_iretK rfl dX8_asksFarm_31 ?_
    refine mx_putI 8 0 (ref := "PrairiePoolModel") cl_8 (Nat.le_of_ble_eq_true rfl) (Or.inl q1627) (Or.inl rfl) dX8_alone_13 (Or.inl rfl) rfl (ly8_k La0_h1) ?_
    refine mx_nmI  (fun h3 eh3 Xh3 Kh3 Lh3 => ?_)
    have H := H h3 eh3 Xh3
    have Kh3 := Kh3.trans Kh1
    have Lh3 := Lh3.trans Lh1
    have La0_h3 := La0_h1.ext Xh3
    refine mx_aload_n dX8_alone_16 rfl rfl ?_
    refine mx_get 8 0 (ref := "PrairiePoolModel") cl_8 (Nat.le_of_ble_eq_true rfl) (Or.inl q1627) (Or.inl rfl) dX8_alone_17 (fv_8_0 _ _) (ly8_k La0_h3) ?_
    refine mx_ti (ah_hitI eh3) ?_
    refine mx_if_le (tgt := 27) dX8_alone_20 rfl (fun _ => absurd ‹_› (by decide)) (fun _ => ?_)
    refine mx_ldc2 q1986 dX8_alone_23 ?_
    exact mx_lret rfl dX8_alone_26 H
  · have H := H.2 c2
    refine mx_lload_n dX8_isIn_6 rfl rfl ?_
    refine mx_lload dX8_isIn_7 rfl ?_
    refine mx_lif_gt (tgt := 17) dX8_isIn_9 dX8_isIn_10 rfl (fun c4 => ?_) (fun c4 => ?_)
    · have H := H.1 c4
      refine mx_iconst dX8_isIn_17 ic_0 ?_
      refine mx_zretK rfl dX8_isIn_18 (Or.inl rfl) ?_
      refine mx_zretK rfl dX8_isFarm_13 (Or.inl rfl) ?_
      refine mx_if_ne (tgt := 12) dX8_asksFarm_5 rfl (fun _ => absurd ‹_› (by decide)) (fun _ => ?_)
      refine mx_iconst dX8_asksFarm_8 ic_2 ?_
      refine mx_goto (tgt := 31) dX8_asksFarm_9 rfl ?_
      refine mx_iretK rfl dX8_asksFarm_31 ?_
      refine mx_putI 8 0 (ref := "PrairiePoolModel") cl_8 (Nat.le_of_ble_eq_true rfl) (Or.inl q1627) (Or.inl rfl) dX8_alone_13 (Or.inl rfl) rfl (ly8_k La0_h1) ?_
      refine mx_nmI  (fun h5 eh5 Xh5 Kh5 Lh5 => ?_)
      have H := H h5 eh5 Xh5
      have Kh5 := Kh5.trans Kh1
      have Lh5 := Lh5.trans Lh1
      have La0_h5 := La0_h1.ext Xh5
      refine mx_aload_n dX8_alone_16 rfl rfl ?_
      refine mx_get 8 0 (ref := "PrairiePoolModel") cl_8 (Nat.le_of_ble_eq_true rfl) (Or.inl q1627) (Or.inl rfl) dX8_alone_17 (fv_8_0 _ _) (ly8_k La0_h5) ?_
      refine mx_ti (ah_hitI eh5) ?_
      refine mx_if_le (tgt := 27) dX8_alone_20 rfl (fun _ => absurd ‹_› (by decide)) (fun _ => ?_)
      refine mx_ldc2 q1986 dX8_alone_23 ?_
      exact mx_lret rfl dX8_alone_26 H
    · have H := H.2 c4
      refine mx_iconst dX8_isIn_13 ic_1 ?_
      refine mx_goto (tgt := 18) dX8_isIn_14 rfl ?_
      refine mx_zretK rfl dX8_isIn_18 (Or.inr rfl) ?_
      refine mx_zretK rfl dX8_isFarm_13 (Or.inr rfl) ?_
      refine mx_if_ne (tgt := 12) dX8_asksFarm_5 rfl (fun _ => ?_) (fun _ => absurd ‹_› (by decide))
      refine mx_iload_n dX8_asksFarm_12 rfl rfl ?_
      refine mx_callS (y' := mi_X8_isYear) (vs := [iv x2]) (st := []) (al' := [some (iv x2)]) S_X8_isYear q2039 dX8_asksFarm_13 rfl rfl (Nat.le_of_ble_eq_true rfl) (Nat.le_of_ble_eq_true rfl) ?_
      refine mx_iload_n dX8_isYear_0 rfl rfl ?_
      refine mx_i2l dX8_isYear_1 ?_
      refine mx_lconst dX8_isYear_2 lc_0 ?_
      refine mx_ldc2 q2042 dX8_isYear_3 ?_
      refine mx_callS (y' := mi_X8_isIn) (vs := [jv x2.toInt64, jv (0 : Int64), jv (9 : Int64)]) (st := []) (al' := [some (jv x2.toInt64), none, some (jv (0 : Int64)), none, some (jv (9 : Int64)), none]) S_X8_isIn q1996 dX8_isYear_6 rfl rfl (Nat.le_of_ble_eq_true rfl) (Nat.le_of_ble_eq_true rfl) ?_
      refine mx_lload_n dX8_isIn_0 rfl rfl ?_
      refine mx_lload_n dX8_isIn_1 rfl rfl ?_
      refine mx_lif_lt (tgt := 17) dX8_isIn_2 dX8_isIn_3 rfl (fun c6 => ?_) (fun c6 => ?_)
      · have H := H.1 c6
        refine mx_iconst dX8_isIn_17 ic_0 ?_
        refine mx_zretK rfl dX8_isIn_18 (Or.inl rfl) ?_
        refine mx_zretK rfl dX8_isYear_9 (Or.inl rfl) ?_
        refine mx_if_eq (tgt := 26) dX8_asksFarm_16 rfl (fun _ => ?_) (fun _ => absurd ‹_› (by decide))
        refine mx_iconst dX8_asksFarm_26 ic_5 ?_
        refine mx_goto (tgt := 31) dX8_asksFarm_27 rfl ?_
        refine mx_iretK rfl dX8_asksFarm_31 ?_
        refine mx_putI 8 0 (ref := "PrairiePoolModel") cl_8 (Nat.le_of_ble_eq_true rfl) (Or.inl q1627) (Or.inl rfl) dX8_alone_13 (Or.inl rfl) rfl (ly8_k La0_h1) ?_
        refine mx_nmI  (fun h7 eh7 Xh7 Kh7 Lh7 => ?_)
        have H := H h7 eh7 Xh7
        have Kh7 := Kh7.trans Kh1
        have Lh7 := Lh7.trans Lh1
        have La0_h7 := La0_h1.ext Xh7
        refine mx_aload_n dX8_alone_16 rfl rfl ?_
        refine mx_get 8 0 (ref := "PrairiePoolModel") cl_8 (Nat.le_of_ble_eq_true rfl) (Or.inl q1627) (Or.inl rfl) dX8_alone_17 (fv_8_0 _ _) (ly8_k La0_h7) ?_
        refine mx_ti (ah_hitI eh7) ?_
        refine mx_if_le (tgt := 27) dX8_alone_20 rfl (fun _ => absurd ‹_› (by decide)) (fun _ => ?_)
        refine mx_ldc2 q1986 dX8_alone_23 ?_
        exact mx_lret rfl dX8_alone_26 H
      · have H := H.2 c6
        refine mx_lload_n dX8_isIn_6 rfl rfl ?_
        refine mx_lload dX8_isIn_7 rfl ?_
        refine mx_lif_gt (tgt := 17) dX8_isIn_9 dX8_isIn_10 rfl (fun c8 => ?_) (fun c8 => ?_)
        · have H := H.1 c8
          refine mx_iconst dX8_isIn_17 ic_0 ?_
          refine mx_zretK rfl dX8_isIn_18 (Or.inl rfl) ?_
          refine mx_zretK rfl dX8_isYear_9 (Or.inl rfl) ?_
          refine mx_if_eq (tgt := 26) dX8_asksFarm_16 rfl (fun _ => ?_) (fun _ => absurd ‹_› (by decide))
          refine mx_iconst dX8_asksFarm_26 ic_5 ?_
          refine mx_goto (tgt := 31) dX8_asksFarm_27 rfl ?_
          refine mx_iretK rfl dX8_asksFarm_31 ?_
          refine mx_putI 8 0 (ref := "PrairiePoolModel") cl_8 (Nat.le_of_ble_eq_true rfl) (Or.inl q1627) (Or.inl rfl) dX8_alone_13 (Or.inl rfl) rfl (ly8_k La0_h1) ?_
          refine mx_nmI  (fun h9 eh9 Xh9 Kh9 Lh9 => ?_)
          have H := H h9 eh9 Xh9
          have Kh9 := Kh9.trans Kh1
          have Lh9 := Lh9.trans Lh1
          have La0_h9 := La0_h1.ext Xh9
          refine mx_aload_n dX8_alone_16 rfl rfl ?_
          refine mx_get 8 0 (ref := "PrairiePoolModel") cl_8 (Nat.le_of_ble_eq_true rfl) (Or.inl q1627) (Or.inl rfl) dX8_alone_17 (fv_8_0 _ _) (ly8_k La0_h9) ?_
          refine mx_ti (ah_hitI eh9) ?_
          refine mx_if_le (tgt := 27) dX8_alone_20 rfl (fun _ => absurd ‹_› (by decide)) (fun _ => ?_)
          refine mx_ldc2 q1986 dX8_alone_23 ?_
          exact mx_lret rfl dX8_alone_26 H
        · have H := H.2 c8
          refine mx_iconst dX8_isIn_13 ic_1 ?_
          refine mx_goto (tgt := 18) dX8_isIn_14 rfl ?_
          refine mx_zretK rfl dX8_isIn_18 (Or.inr rfl) ?_
          refine mx_zretK rfl dX8_isYear_9 (Or.inr rfl) ?_
          refine mx_if_eq (tgt := 26) dX8_asksFarm_16 rfl (fun _ => absurd ‹_› (by decide)) (fun _ => ?_)
          refine mx_iload_n dX8_asksFarm_19 rfl rfl ?_
          refine mx_callS (y' := mi_X8_isDay) (vs := [iv x3]) (st := []) (al' := [some (iv x3)]) S_X8_isDay q2028 dX8_asksFarm_20 rfl rfl (Nat.le_of_ble_eq_true rfl) (Nat.le_of_ble_eq_true rfl) ?_
          refine mx_iload_n dX8_isDay_0 rfl rfl ?_
          refine mx_i2l dX8_isDay_1 ?_
          refine mx_lconst dX8_isDay_2 lc_0 ?_
          refine mx_ldc2 q2031 dX8_isDay_3 ?_
          refine mx_callS (y' := mi_X8_isIn) (vs := [jv x3.toInt64, jv (0 : Int64), jv (519 : Int64)]) (st := []) (al' := [some (jv x3.toInt64), none, some (jv (0 : Int64)), none, some (jv (519 : Int64)), none]) S_X8_isIn q1996 dX8_isDay_6 rfl rfl (Nat.le_of_ble_eq_true rfl) (Nat.le_of_ble_eq_true rfl) ?_
          refine mx_lload_n dX8_isIn_0 rfl rfl ?_
          refine mx_lload_n dX8_isIn_1 rfl rfl ?_
          refine mx_lif_lt (tgt := 17) dX8_isIn_2 dX8_isIn_3 rfl (fun c10 => ?_) (fun c10 => ?_)
          · have H := H.1 c10
            refine mx_iconst dX8_isIn_17 ic_0 ?_
            refine mx_zretK rfl dX8_isIn_18 (Or.inl rfl) ?_
            refine mx_zretK rfl dX8_isDay_9 (Or.inl rfl) ?_
            refine mx_if_ne (tgt := 30) dX8_asksFarm_23 rfl (fun _ => absurd ‹_› (by decide)) (fun _ => ?_)
            refine mx_iconst dX8_asksFarm_26 ic_5 ?_
            refine mx_goto (tgt := 31) dX8_asksFarm_27 rfl ?_
            refine mx_iretK rfl dX8_asksFarm_31 ?_
            refine mx_putI 8 0 (ref := "PrairiePoolModel") cl_8 (Nat.le_of_ble_eq_true rfl) (Or.inl q1627) (Or.inl rfl) dX8_alone_13 (Or.inl rfl) rfl (ly8_k La0_h1) ?_
            refine mx_nmI  (fun h11 eh11 Xh11 Kh11 Lh11 => ?_)
            have H := H h11 eh11 Xh11
            have Kh11 := Kh11.trans Kh1
            have Lh11 := Lh11.trans Lh1
            have La0_h11 := La0_h1.ext Xh11
            refine mx_aload_n dX8_alone_16 rfl rfl ?_
            refine mx_get 8 0 (ref := "PrairiePoolModel") cl_8 (Nat.le_of_ble_eq_true rfl) (Or.inl q1627) (Or.inl rfl) dX8_alone_17 (fv_8_0 _ _) (ly8_k La0_h11) ?_
            refine mx_ti (ah_hitI eh11) ?_
            refine mx_if_le (tgt := 27) dX8_alone_20 rfl (fun _ => absurd ‹_› (by decide)) (fun _ => ?_)
            refine mx_ldc2 q1986 dX8_alone_23 ?_
            exact mx_lret rfl dX8_alone_26 H
          · have H := H.2 c10
            refine mx_lload_n dX8_isIn_6 rfl rfl ?_
            refine mx_lload dX8_isIn_7 rfl ?_
            refine mx_lif_gt (tgt := 17) dX8_isIn_9 dX8_isIn_10 rfl (fun c12 => ?_) (fun c12 => ?_)
            · have H := H.1 c12
              refine mx_iconst dX8_isIn_17 ic_0 ?_
              refine mx_zretK rfl dX8_isIn_18 (Or.inl rfl) ?_
              refine mx_zretK rfl dX8_isDay_9 (Or.inl rfl) ?_
              refine mx_if_ne (tgt := 30) dX8_asksFarm_23 rfl (fun _ => absurd ‹_› (by decide)) (fun _ => ?_)
              refine mx_iconst dX8_asksFarm_26 ic_5 ?_
              refine mx_goto (tgt := 31) dX8_asksFarm_27 rfl ?_
              refine mx_iretK rfl dX8_asksFarm_31 ?_
              refine mx_putI 8 0 (ref := "PrairiePoolModel") cl_8 (Nat.le_of_ble_eq_true rfl) (Or.inl q1627) (Or.inl rfl) dX8_alone_13 (Or.inl rfl) rfl (ly8_k La0_h1) ?_
              refine mx_nmI  (fun h13 eh13 Xh13 Kh13 Lh13 => ?_)
              have H := H h13 eh13 Xh13
              have Kh13 := Kh13.trans Kh1
              have Lh13 := Lh13.trans Lh1
              have La0_h13 := La0_h1.ext Xh13
              refine mx_aload_n dX8_alone_16 rfl rfl ?_
              refine mx_get 8 0 (ref := "PrairiePoolModel") cl_8 (Nat.le_of_ble_eq_true rfl) (Or.inl q1627) (Or.inl rfl) dX8_alone_17 (fv_8_0 _ _) (ly8_k La0_h13) ?_
              refine mx_ti (ah_hitI eh13) ?_
              refine mx_if_le (tgt := 27) dX8_alone_20 rfl (fun _ => absurd ‹_› (by decide)) (fun _ => ?_)
              refine mx_ldc2 q1986 dX8_alone_23 ?_
              exact mx_lret rfl dX8_alone_26 H
            · have H := H.2 c12
              refine mx_iconst dX8_isIn_13 ic_1 ?_
              refine mx_goto (tgt := 18) dX8_isIn_14 rfl ?_
              refine mx_zretK rfl dX8_isIn_18 (Or.inr rfl) ?_
              refine mx_zretK rfl dX8_isDay_9 (Or.inr rfl) ?_
              refine mx_if_ne (tgt := 30) dX8_asksFarm_23 rfl (fun _ => ?_) (fun _ => absurd ‹_› (by decide))
              refine mx_iconst dX8_asksFarm_30 ic_0 ?_
              refine mx_iretK rfl dX8_asksFarm_31 ?_
              refine mx_putI 8 0 (ref := "PrairiePoolModel") cl_8 (Nat.le_of_ble_eq_true rfl) (Or.inl q1627) (Or.inl rfl) dX8_alone_13 (Or.inl rfl) rfl (ly8_k La0_h1) ?_
              refine mx_nmI  (fun h14 eh14 Xh14 Kh14 Lh14 => ?_)
              have H := H h14 eh14 Xh14
              have Kh14 := Kh14.trans Kh1
              have Lh14 := Lh14.trans Lh1
              have La0_h14 := La0_h1.ext Xh14
              refine mx_aload_n dX8_alone_16 rfl rfl ?_
              refine mx_get 8 0 (ref := "PrairiePoolModel") cl_8 (Nat.le_of_ble_eq_true rfl) (Or.inl q1627) (Or.inl rfl) dX8_alone_17 (fv_8_0 _ _) (ly8_k La0_h14) ?_
              refine mx_ti (ah_hitI eh14) ?_
              refine mx_if_le (tgt := 27) dX8_alone_20 rfl (fun _ => ?_) (fun _ => absurd ‹_› (by decide))
              refine mx_aload_n dX8_alone_27 rfl rfl ?_
              refine mx_iload_n dX8_alone_28 rfl rfl ?_
              refine mx_callV 8 (y' := mi_X8_play) (vs := [iv x3]) (st := []) (al' := [some (rv a0), some (iv x3), none]) cl_8 V_X8_play (Or.inl q2119) dX8_alone_29 rfl rfl (Nat.le_of_ble_eq_true rfl) (Nat.le_of_ble_eq_true rfl) (ly8_k La0_h14) ?_
              refine ma_kv H (fun h15 Xh15 H => ?_) (fun x1 h1 X1 H => mt_out rfl H)
              have H := H Xh15
              have La0_h15 := La0_h14.ext Xh15
              refine mx_aload_n dX8_alone_32 rfl rfl ?_
              refine mx_iload_n dX8_alone_33 rfl rfl ?_
              refine mx_iload_n dX8_alone_34 rfl rfl ?_
              refine mx_iload_n dX8_alone_35 rfl rfl ?_
              refine mx_callV 8 (y' := mi_X8_aloneOf) (vs := [iv x1, iv x2, iv x3]) (st := []) (al' := [some (rv a0), some (iv x1), some (iv x2), some (iv x3), none, none, none, none]) cl_8 V_X8_aloneOf (Or.inl q2394) dX8_alone_36 rfl rfl (Nat.le_of_ble_eq_true rfl) (Nat.le_of_ble_eq_true rfl) (ly8_k La0_h15) ?_
              refine ma_kl H (fun r18 h17 Xh17 H => ?_) (fun x1 h1 X1 H => mt_out rfl H)
              have H := H Xh17
              have La0_h17 := La0_h15.ext Xh17
              exact mx_lret rfl dX8_alone_39 H
theorem dX8_aloneOf_0 : decode mi_X8_aloneOf.2.1 0 = .ok (.lconst 0, 1) := by decide +kernel
theorem dX8_aloneOf_1 : decode mi_X8_aloneOf.2.1 1 = .ok (.lstore 4, 2) := by decide +kernel
theorem dX8_aloneOf_3 : decode mi_X8_aloneOf.2.1 3 = .ok (.iconst 0, 1) := by decide +kernel
theorem dX8_aloneOf_4 : decode mi_X8_aloneOf.2.1 4 = .ok (.istore 6, 2) := by decide +kernel
theorem dX8_aloneOf_6 : decode mi_X8_aloneOf.2.1 6 = .ok (.iload 6, 2) := by decide +kernel
theorem dX8_aloneOf_8 : decode mi_X8_aloneOf.2.1 8 = .ok (.aload_n 0, 1) := by decide +kernel
theorem dX8_aloneOf_9 : decode mi_X8_aloneOf.2.1 9 = .ok (.getfield 309, 3) := by decide +kernel
theorem dX8_aloneOf_12 : decode mi_X8_aloneOf.2.1 12 = .ok (.if_icmp .ge 119, 3) := by decide +kernel
theorem dX8_aloneOf_15 : decode mi_X8_aloneOf.2.1 15 = .ok (.aload_n 0, 1) := by decide +kernel
theorem dX8_aloneOf_16 : decode mi_X8_aloneOf.2.1 16 = .ok (.getfield 62, 3) := by decide +kernel
theorem dX8_aloneOf_19 : decode mi_X8_aloneOf.2.1 19 = .ok (.iload 6, 2) := by decide +kernel
theorem dX8_aloneOf_21 : decode mi_X8_aloneOf.2.1 21 = .ok (.iaload, 1) := by decide +kernel
theorem dX8_aloneOf_22 : decode mi_X8_aloneOf.2.1 22 = .ok (.iload_n 3, 1) := by decide +kernel
theorem dX8_aloneOf_23 : decode mi_X8_aloneOf.2.1 23 = .ok (.if_icmp .gt 102, 3) := by decide +kernel
theorem dX8_aloneOf_26 : decode mi_X8_aloneOf.2.1 26 = .ok (.aload_n 0, 1) := by decide +kernel
theorem dX8_aloneOf_27 : decode mi_X8_aloneOf.2.1 27 = .ok (.getfield 35, 3) := by decide +kernel
theorem dX8_aloneOf_30 : decode mi_X8_aloneOf.2.1 30 = .ok (.iload 6, 2) := by decide +kernel
theorem dX8_aloneOf_32 : decode mi_X8_aloneOf.2.1 32 = .ok (.iaload, 1) := by decide +kernel
theorem dX8_aloneOf_33 : decode mi_X8_aloneOf.2.1 33 = .ok (.ifCond .ne 92, 3) := by decide +kernel
theorem dX8_aloneOf_36 : decode mi_X8_aloneOf.2.1 36 = .ok (.aload_n 0, 1) := by decide +kernel
theorem dX8_aloneOf_37 : decode mi_X8_aloneOf.2.1 37 = .ok (.getfield 38, 3) := by decide +kernel
theorem dX8_aloneOf_40 : decode mi_X8_aloneOf.2.1 40 = .ok (.iload 6, 2) := by decide +kernel
theorem dX8_aloneOf_42 : decode mi_X8_aloneOf.2.1 42 = .ok (.iaload, 1) := by decide +kernel
theorem dX8_aloneOf_43 : decode mi_X8_aloneOf.2.1 43 = .ok (.iload_n 1, 1) := by decide +kernel
theorem dX8_aloneOf_44 : decode mi_X8_aloneOf.2.1 44 = .ok (.if_icmp .ne 81, 3) := by decide +kernel
theorem dX8_aloneOf_47 : decode mi_X8_aloneOf.2.1 47 = .ok (.aload_n 0, 1) := by decide +kernel
theorem dX8_aloneOf_48 : decode mi_X8_aloneOf.2.1 48 = .ok (.getfield 50, 3) := by decide +kernel
theorem dX8_aloneOf_51 : decode mi_X8_aloneOf.2.1 51 = .ok (.iload 6, 2) := by decide +kernel
theorem dX8_aloneOf_53 : decode mi_X8_aloneOf.2.1 53 = .ok (.iaload, 1) := by decide +kernel
theorem dX8_aloneOf_54 : decode mi_X8_aloneOf.2.1 54 = .ok (.iload_n 2, 1) := by decide +kernel
theorem dX8_aloneOf_55 : decode mi_X8_aloneOf.2.1 55 = .ok (.if_icmp .eq 6, 3) := by decide +kernel
theorem dX8_aloneOf_58 : decode mi_X8_aloneOf.2.1 58 = .ok (.goto 67, 3) := by decide +kernel
theorem dX8_aloneOf_61 : decode mi_X8_aloneOf.2.1 61 = .ok (.iconst 0, 1) := by decide +kernel
theorem dX8_aloneOf_62 : decode mi_X8_aloneOf.2.1 62 = .ok (.aload_n 0, 1) := by decide +kernel
theorem dX8_aloneOf_63 : decode mi_X8_aloneOf.2.1 63 = .ok (.getfield 197, 3) := by decide +kernel
theorem dX8_aloneOf_66 : decode mi_X8_aloneOf.2.1 66 = .ok (.iconst 0, 1) := by decide +kernel
theorem dX8_aloneOf_67 : decode mi_X8_aloneOf.2.1 67 = .ok (.aload_n 0, 1) := by decide +kernel
theorem dX8_aloneOf_68 : decode mi_X8_aloneOf.2.1 68 = .ok (.getfield 59, 3) := by decide +kernel
theorem dX8_aloneOf_71 : decode mi_X8_aloneOf.2.1 71 = .ok (.iload 6, 2) := by decide +kernel
theorem dX8_aloneOf_73 : decode mi_X8_aloneOf.2.1 73 = .ok (.iaload, 1) := by decide +kernel
theorem dX8_aloneOf_74 : decode mi_X8_aloneOf.2.1 74 = .ok (.aload_n 0, 1) := by decide +kernel
theorem dX8_aloneOf_75 : decode mi_X8_aloneOf.2.1 75 = .ok (.getfield 206, 3) := by decide +kernel
theorem dX8_aloneOf_78 : decode mi_X8_aloneOf.2.1 78 = .ok (.isub, 1) := by decide +kernel
theorem dX8_aloneOf_79 : decode mi_X8_aloneOf.2.1 79 = .ok (.invokestatic 393, 3) := by decide +kernel
theorem dX8_aloneOf_82 : decode mi_X8_aloneOf.2.1 82 = .ok (.iaload, 1) := by decide +kernel
theorem dX8_aloneOf_83 : decode mi_X8_aloneOf.2.1 83 = .ok (.aload_n 0, 1) := by decide +kernel
theorem dX8_aloneOf_84 : decode mi_X8_aloneOf.2.1 84 = .ok (.getfield 203, 3) := by decide +kernel
theorem dX8_aloneOf_87 : decode mi_X8_aloneOf.2.1 87 = .ok (.aload_n 0, 1) := by decide +kernel
theorem dX8_aloneOf_88 : decode mi_X8_aloneOf.2.1 88 = .ok (.getfield 89, 3) := by decide +kernel
theorem dX8_aloneOf_91 : decode mi_X8_aloneOf.2.1 91 = .ok (.iload 6, 2) := by decide +kernel
theorem dX8_aloneOf_93 : decode mi_X8_aloneOf.2.1 93 = .ok (.iaload, 1) := by decide +kernel
theorem dX8_aloneOf_94 : decode mi_X8_aloneOf.2.1 94 = .ok (.imul, 1) := by decide +kernel
theorem dX8_aloneOf_95 : decode mi_X8_aloneOf.2.1 95 = .ok (.isub, 1) := by decide +kernel
theorem dX8_aloneOf_96 : decode mi_X8_aloneOf.2.1 96 = .ok (.invokestatic 393, 3) := by decide +kernel
theorem dX8_aloneOf_99 : decode mi_X8_aloneOf.2.1 99 = .ok (.istore 7, 2) := by decide +kernel
theorem dX8_aloneOf_101 : decode mi_X8_aloneOf.2.1 101 = .ok (.lload 4, 2) := by decide +kernel
theorem dX8_aloneOf_103 : decode mi_X8_aloneOf.2.1 103 = .ok (.iload 7, 2) := by decide +kernel
theorem dX8_aloneOf_105 : decode mi_X8_aloneOf.2.1 105 = .ok (.i2l, 1) := by decide +kernel
theorem dX8_aloneOf_106 : decode mi_X8_aloneOf.2.1 106 = .ok (.aload_n 0, 1) := by decide +kernel
theorem dX8_aloneOf_107 : decode mi_X8_aloneOf.2.1 107 = .ok (.iload 6, 2) := by decide +kernel
theorem dX8_aloneOf_109 : decode mi_X8_aloneOf.2.1 109 = .ok (.invokevirtual 347, 3) := by decide +kernel
theorem dX8_aloneOf_112 : decode mi_X8_aloneOf.2.1 112 = .ok (.aload_n 0, 1) := by decide +kernel
theorem dX8_aloneOf_113 : decode mi_X8_aloneOf.2.1 113 = .ok (.getfield 83, 3) := by decide +kernel
theorem dX8_aloneOf_116 : decode mi_X8_aloneOf.2.1 116 = .ok (.iload 6, 2) := by decide +kernel
theorem dX8_aloneOf_118 : decode mi_X8_aloneOf.2.1 118 = .ok (.iaload, 1) := by decide +kernel
theorem dX8_aloneOf_119 : decode mi_X8_aloneOf.2.1 119 = .ok (.isub, 1) := by decide +kernel
theorem dX8_aloneOf_120 : decode mi_X8_aloneOf.2.1 120 = .ok (.i2l, 1) := by decide +kernel
theorem dX8_aloneOf_121 : decode mi_X8_aloneOf.2.1 121 = .ok (.lmul, 1) := by decide +kernel
theorem dX8_aloneOf_122 : decode mi_X8_aloneOf.2.1 122 = .ok (.ladd, 1) := by decide +kernel
theorem dX8_aloneOf_123 : decode mi_X8_aloneOf.2.1 123 = .ok (.lstore 4, 2) := by decide +kernel
theorem dX8_aloneOf_125 : decode mi_X8_aloneOf.2.1 125 = .ok (.iinc 6 1, 3) := by decide +kernel
theorem dX8_aloneOf_128 : decode mi_X8_aloneOf.2.1 128 = .ok (.goto (-122), 3) := by decide +kernel
theorem dX8_aloneOf_131 : decode mi_X8_aloneOf.2.1 131 = .ok (.lload 4, 2) := by decide +kernel
theorem dX8_aloneOf_133 : decode mi_X8_aloneOf.2.1 133 = .ok (.lreturn, 1) := by decide +kernel
theorem v_X8_aloneOf {G : ma_G} {d : Nat} {a0 : Nat} {x1 : Int32} {x2 : Int32} {x3 : Int32} {h : ah_T} {Q : Option ma_V → ah_T → Prop} {E : Nat → ah_T → Prop} (La0_h : LY8 h a0) (H : MX G mi_X8_aloneOf (d + 1) 6 [some (rv a0), some (iv x1), some (iv x2), some (iv x3), some (jv (0 : Int64)), none, some (iv (0 : Int32)), none] [] h Q E) : MX G mi_X8_aloneOf (d + 1) 0 [some (rv a0), some (iv x1), some (iv x2), some (iv x3), none, none, none, none] [] h Q E := by
  refine mx_lconst dX8_aloneOf_0 lc_0 ?_
  refine mx_lstore (al' := [some (rv a0), some (iv x1), some (iv x2), some (iv x3), some (jv (0 : Int64)), none, none, none]) dX8_aloneOf_1 (Nat.le_of_ble_eq_true rfl) rfl ?_
  refine mx_iconst dX8_aloneOf_3 ic_0 ?_
  refine mx_istore (al' := [some (rv a0), some (iv x1), some (iv x2), some (iv x3), some (jv (0 : Int64)), none, some (iv (0 : Int32)), none]) dX8_aloneOf_4 (Nat.le_of_ble_eq_true rfl) rfl ?_
  exact mx_weak (al' := [some (rv a0), some (iv x1), some (iv x2), some (iv x3), some (jv (0 : Int64)), none, some (iv (0 : Int32)), none]) ⟨rfl, ⟨rfl, ⟨rfl, ⟨rfl, ⟨rfl, ⟨rfl, trivial⟩⟩⟩⟩⟩⟩ H
theorem v_X8_aloneOf_6 {G : ma_G} {d : Nat} {a0 : Nat} {x1 : Int32} {x2 : Int32} {x3 : Int32} {x4 : Int64} {x6 : Int32} {h : ah_T} {Q : Option ma_V → ah_T → Prop} {E : Nat → ah_T → Prop} (La0_h : LY8 h a0) (H : ((ah_I h a0 7) ≤ x6 → Q (some (jv x4)) h) ∧ (¬ (ah_I h a0 7) ≤ x6 → vp_in x6 120 ∧ (x3 < (ah_I h (a0 + 18) x6.toNatClampNeg) → MX G mi_X8_aloneOf (d + 1) 6 [some (rv a0), some (iv x1), some (iv x2), some (iv x3), some (jv x4), none, some (iv (x6 + (1 : Int32))), none] [] h Q E) ∧ (¬ x3 < (ah_I h (a0 + 18) x6.toNatClampNeg) → (¬ (ah_I h (a0 + 9) x6.toNatClampNeg) = 0 → MX G mi_X8_aloneOf (d + 1) 6 [some (rv a0), some (iv x1), some (iv x2), some (iv x3), some (jv x4), none, some (iv (x6 + (1 : Int32))), none] [] h Q E) ∧ ((ah_I h (a0 + 9) x6.toNatClampNeg) = 0 → (¬ (ah_I h (a0 + 10) x6.toNatClampNeg) = x1 → MX G mi_X8_aloneOf (d + 1) 6 [some (rv a0), some (iv x1), some (iv x2), some (iv x3), some (jv x4), none, some (iv (x6 + (1 : Int32))), none] [] h Q E) ∧ ((ah_I h (a0 + 10) x6.toNatClampNeg) = x1 → ((ah_I h (a0 + 14) x6.toNatClampNeg) = x2 → vp_in (iMax (0 : Int32) ((ah_I h (a0 + 17) x6.toNatClampNeg) - (ah_I h a0 90))) 520 ∧ MX G mi_X8_aloneOf (d + 1) 6 [some (rv a0), some (iv x1), some (iv x2), some (iv x3), some (jv (x4 + ((iMax (0 : Int32) ((ah_I h (a0 + 60) (iMax (0 : Int32) ((ah_I h (a0 + 17) x6.toNatClampNeg) - (ah_I h a0 90))).toNatClampNeg) - ((ah_I h a0 89) * (ah_I h (a0 + 27) x6.toNatClampNeg)))).toInt64 * (((ah_I h (a0 + 15) x6.toNatClampNeg) - (((ah_I h (a0 + 15) x6.toNatClampNeg) * (ah_I h (a0 + 16) x6.toNatClampNeg)) / (1000 : Int32))) - (ah_I h (a0 + 25) x6.toNatClampNeg)).toInt64))), none, some (iv (x6 + (1 : Int32))), none] [] h Q E) ∧ (¬ (ah_I h (a0 + 14) x6.toNatClampNeg) = x2 → MX G mi_X8_aloneOf (d + 1) 6 [some (rv a0), some (iv x1), some (iv x2), some (iv x3), some (jv x4), none, some (iv (x6 + (1 : Int32))), none] [] h Q E)))))) : MX G mi_X8_aloneOf (d + 1) 6 [some (rv a0), some (iv x1), some (iv x2), some (iv x3), some (jv x4), none, some (iv x6), none] [] h Q E := by
  refine mx_iload dX8_aloneOf_6 rfl ?_
  refine mx_aload_n dX8_aloneOf_8 rfl rfl ?_
  refine mx_get 8 7 (ref := "PrairiePoolModel") cl_8 (Nat.le_of_ble_eq_true rfl) (Or.inl q1634) (Or.inl rfl) dX8_aloneOf_9 (fv_8_7 _ _) (ly8_k La0_h) ?_
  refine mx_icmp_ge (tgt := 131) dX8_aloneOf_12 rfl (fun c1 => ?_) (fun c1 => ?_)
  · have H := H.1 c1
    refine mx_lload dX8_aloneOf_131 rfl ?_
    exact mx_lret rfl dX8_aloneOf_133 H
  · have H := H.2 c1
    refine mx_aload_n dX8_aloneOf_15 rfl rfl ?_
    refine mx_get 8 25 (ref := "PrairiePoolModel") cl_8 (Nat.le_of_ble_eq_true rfl) (Or.inl q1652) (Or.inl rfl) dX8_aloneOf_16 (fv_8_25 _ _) (ly8_k La0_h) ?_
    refine mx_tr (ly8_R_0_25 La0_h) ?_
    refine mx_iload dX8_aloneOf_19 rfl ?_
    obtain ⟨k2, H⟩ := H
    refine my_iald dX8_aloneOf_21 rfl (ly8_A_18 La0_h k2) ?_
    refine mx_iload_n dX8_aloneOf_22 rfl rfl ?_
    refine mx_icmp_gt (tgt := 125) dX8_aloneOf_23 rfl (fun c3 => ?_) (fun c3 => ?_)
    · have H := H.1 c3
      refine mx_iinc (al' := [some (rv a0), some (iv x1), some (iv x2), some (iv x3), some (jv x4), none, some (iv (x6 + (1 : Int32))), none]) dX8_aloneOf_125 rfl ic_1 rfl ?_
      refine mx_goto (tgt := 6) dX8_aloneOf_128 rfl ?_
      exact mx_weak (al' := [some (rv a0), some (iv x1), some (iv x2), some (iv x3), some (jv x4), none, some (iv (x6 + (1 : Int32))), none]) ⟨rfl, ⟨rfl, ⟨rfl, ⟨rfl, ⟨rfl, ⟨rfl, trivial⟩⟩⟩⟩⟩⟩ H
    · have H := H.2 c3
      refine mx_aload_n dX8_aloneOf_26 rfl rfl ?_
      refine mx_get 8 16 (ref := "PrairiePoolModel") cl_8 (Nat.le_of_ble_eq_true rfl) (Or.inl q1643) (Or.inl rfl) dX8_aloneOf_27 (fv_8_16 _ _) (ly8_k La0_h) ?_
      refine mx_tr (ly8_R_0_16 La0_h) ?_
      refine mx_iload dX8_aloneOf_30 rfl ?_
      refine my_iald dX8_aloneOf_32 rfl (ly8_A_9 La0_h k2) ?_
      refine mx_if_ne (tgt := 125) dX8_aloneOf_33 rfl (fun c4 => ?_) (fun c4 => ?_)
      · have H := H.1 c4
        refine mx_iinc (al' := [some (rv a0), some (iv x1), some (iv x2), some (iv x3), some (jv x4), none, some (iv (x6 + (1 : Int32))), none]) dX8_aloneOf_125 rfl ic_1 rfl ?_
        refine mx_goto (tgt := 6) dX8_aloneOf_128 rfl ?_
        exact mx_weak (al' := [some (rv a0), some (iv x1), some (iv x2), some (iv x3), some (jv x4), none, some (iv (x6 + (1 : Int32))), none]) ⟨rfl, ⟨rfl, ⟨rfl, ⟨rfl, ⟨rfl, ⟨rfl, trivial⟩⟩⟩⟩⟩⟩ H
      · have H := H.2 c4
        refine mx_aload_n dX8_aloneOf_36 rfl rfl ?_
        refine mx_get 8 17 (ref := "PrairiePoolModel") cl_8 (Nat.le_of_ble_eq_true rfl) (Or.inl q1644) (Or.inl rfl) dX8_aloneOf_37 (fv_8_17 _ _) (ly8_k La0_h) ?_
        refine mx_tr (ly8_R_0_17 La0_h) ?_
        refine mx_iload dX8_aloneOf_40 rfl ?_
        refine my_iald dX8_aloneOf_42 rfl (ly8_A_10 La0_h k2) ?_
        refine mx_iload_n dX8_aloneOf_43 rfl rfl ?_
        refine mx_icmp_ne (tgt := 125) dX8_aloneOf_44 rfl (fun c5 => ?_) (fun c5 => ?_)
        · have H := H.1 c5
          refine mx_iinc (al' := [some (rv a0), some (iv x1), some (iv x2), some (iv x3), some (jv x4), none, some (iv (x6 + (1 : Int32))), none]) dX8_aloneOf_125 rfl ic_1 rfl ?_
          refine mx_goto (tgt := 6) dX8_aloneOf_128 rfl ?_
          exact mx_weak (al' := [some (rv a0), some (iv x1), some (iv x2), some (iv x3), some (jv x4), none, some (iv (x6 + (1 : Int32))), none]) ⟨rfl, ⟨rfl, ⟨rfl, ⟨rfl, ⟨rfl, ⟨rfl, trivial⟩⟩⟩⟩⟩⟩ H
        · have H := H.2 c5
          refine mx_aload_n dX8_aloneOf_47 rfl rfl ?_
          refine mx_get 8 21 (ref := "PrairiePoolModel") cl_8 (Nat.le_of_ble_eq_true rfl) (Or.inl q1648) (Or.inl rfl) dX8_aloneOf_48 (fv_8_21 _ _) (ly8_k La0_h) ?_
          refine mx_tr (ly8_R_0_21 La0_h) ?_
          refine mx_iload dX8_aloneOf_51 rfl ?_
          refine my_iald dX8_aloneOf_53 rfl (ly8_A_14 La0_h k2) ?_
          refine mx_iload_n dX8_aloneOf_54 rfl rfl ?_
          refine mx_icmp_eq (tgt := 61) dX8_aloneOf_55 rfl (fun c6 => ?_) (fun c6 => ?_)
          · have H := H.1 c6
            refine mx_iconst dX8_aloneOf_61 ic_0 ?_
            refine mx_aload_n dX8_aloneOf_62 rfl rfl ?_
            refine mx_get 8 86 (ref := "PrairiePoolModel") cl_8 (Nat.le_of_ble_eq_true rfl) (Or.inl q1713) (Or.inl rfl) dX8_aloneOf_63 (fv_8_86 _ _) (ly8_k La0_h) ?_
            refine mx_tr (ly8_R_0_86 La0_h) ?_
            refine mx_iconst dX8_aloneOf_66 ic_0 ?_
            refine mx_aload_n dX8_aloneOf_67 rfl rfl ?_
            refine mx_get 8 24 (ref := "PrairiePoolModel") cl_8 (Nat.le_of_ble_eq_true rfl) (Or.inl q1651) (Or.inl rfl) dX8_aloneOf_68 (fv_8_24 _ _) (ly8_k La0_h) ?_
            refine mx_tr (ly8_R_0_24 La0_h) ?_
            refine mx_iload dX8_aloneOf_71 rfl ?_
            refine my_iald dX8_aloneOf_73 rfl (ly8_A_17 La0_h k2) ?_
            refine mx_aload_n dX8_aloneOf_74 rfl rfl ?_
            refine mx_get 8 90 (ref := "PrairiePoolModel") cl_8 (Nat.le_of_ble_eq_true rfl) (Or.inl q1717) (Or.inl rfl) dX8_aloneOf_75 (fv_8_90 _ _) (ly8_k La0_h) ?_
            refine mx_isub dX8_aloneOf_78 ?_
            refine mx_callS (y' := mi_J8_max_2) (vs := [iv (0 : Int32), iv ((ah_I h (a0 + 17) x6.toNatClampNeg) - (ah_I h a0 90))]) (st := [rv (a0 + 60), iv (0 : Int32)]) (al' := [some (iv (0 : Int32)), some (iv ((ah_I h (a0 + 17) x6.toNatClampNeg) - (ah_I h a0 90)))]) S_J8_max_2 q2134 dX8_aloneOf_79 rfl rfl (Nat.le_of_ble_eq_true rfl) (Nat.le_of_ble_eq_true rfl) ?_
            refine pv_J8_max_2 ?_
            obtain ⟨k7, H⟩ := H
            refine my_iald dX8_aloneOf_82 rfl (ly8_A_60 La0_h k7) ?_
            refine mx_aload_n dX8_aloneOf_83 rfl rfl ?_
            refine mx_get 8 89 (ref := "PrairiePoolModel") cl_8 (Nat.le_of_ble_eq_true rfl) (Or.inl q1716) (Or.inl rfl) dX8_aloneOf_84 (fv_8_89 _ _) (ly8_k La0_h) ?_
            refine mx_aload_n dX8_aloneOf_87 rfl rfl ?_
            refine mx_get 8 34 (ref := "PrairiePoolModel") cl_8 (Nat.le_of_ble_eq_true rfl) (Or.inl q1661) (Or.inl rfl) dX8_aloneOf_88 (fv_8_34 _ _) (ly8_k La0_h) ?_
            refine mx_tr (ly8_R_0_34 La0_h) ?_
            refine mx_iload dX8_aloneOf_91 rfl ?_
            refine my_iald dX8_aloneOf_93 rfl (ly8_A_27 La0_h k2) ?_
            refine mx_imul dX8_aloneOf_94 ?_
            refine mx_isub dX8_aloneOf_95 ?_
            refine mx_callS (y' := mi_J8_max_2) (vs := [iv (0 : Int32), iv ((ah_I h (a0 + 60) (iMax (0 : Int32) ((ah_I h (a0 + 17) x6.toNatClampNeg) - (ah_I h a0 90))).toNatClampNeg) - ((ah_I h a0 89) * (ah_I h (a0 + 27) x6.toNatClampNeg)))]) (st := []) (al' := [some (iv (0 : Int32)), some (iv ((ah_I h (a0 + 60) (iMax (0 : Int32) ((ah_I h (a0 + 17) x6.toNatClampNeg) - (ah_I h a0 90))).toNatClampNeg) - ((ah_I h a0 89) * (ah_I h (a0 + 27) x6.toNatClampNeg))))]) S_J8_max_2 q2134 dX8_aloneOf_96 rfl rfl (Nat.le_of_ble_eq_true rfl) (Nat.le_of_ble_eq_true rfl) ?_
            refine pv_J8_max_2 ?_
            refine mx_istore (al' := [some (rv a0), some (iv x1), some (iv x2), some (iv x3), some (jv x4), none, some (iv x6), some (iv (iMax (0 : Int32) ((ah_I h (a0 + 60) (iMax (0 : Int32) ((ah_I h (a0 + 17) x6.toNatClampNeg) - (ah_I h a0 90))).toNatClampNeg) - ((ah_I h a0 89) * (ah_I h (a0 + 27) x6.toNatClampNeg)))))]) dX8_aloneOf_99 (Nat.le_of_ble_eq_true rfl) rfl ?_
            refine mx_lload dX8_aloneOf_101 rfl ?_
            refine mx_iload dX8_aloneOf_103 rfl ?_
            refine mx_i2l dX8_aloneOf_105 ?_
            refine mx_aload_n dX8_aloneOf_106 rfl rfl ?_
            refine mx_iload dX8_aloneOf_107 rfl ?_
            refine mx_callV 8 (y' := mi_X8_net) (vs := [iv x6]) (st := [jv (iMax (0 : Int32) ((ah_I h (a0 + 60) (iMax (0 : Int32) ((ah_I h (a0 + 17) x6.toNatClampNeg) - (ah_I h a0 90))).toNatClampNeg) - ((ah_I h a0 89) * (ah_I h (a0 + 27) x6.toNatClampNeg)))).toInt64, jv x4]) (al' := [some (rv a0), some (iv x6)]) cl_8 V_X8_net (Or.inl q2071) dX8_aloneOf_109 rfl rfl (Nat.le_of_ble_eq_true rfl) (Nat.le_of_ble_eq_true rfl) (ly8_k La0_h) ?_
            refine mx_aload_n dX8_net_0 rfl rfl ?_
            refine mx_get 8 22 (ref := "PrairiePoolModel") cl_8 (Nat.le_of_ble_eq_true rfl) (Or.inl q1649) (Or.inl rfl) dX8_net_1 (fv_8_22 _ _) (ly8_k La0_h) ?_
            refine mx_tr (ly8_R_0_22 La0_h) ?_
            refine mx_iload_n dX8_net_4 rfl rfl ?_
            refine my_iald dX8_net_5 rfl (ly8_A_15 La0_h k2) ?_
            refine mx_aload_n dX8_net_6 rfl rfl ?_
            refine mx_get 8 22 (ref := "PrairiePoolModel") cl_8 (Nat.le_of_ble_eq_true rfl) (Or.inl q1649) (Or.inl rfl) dX8_net_7 (fv_8_22 _ _) (ly8_k La0_h) ?_
            refine mx_tr (ly8_R_0_22 La0_h) ?_
            refine mx_iload_n dX8_net_10 rfl rfl ?_
            refine my_iald dX8_net_11 rfl (ly8_A_15 La0_h k2) ?_
            refine mx_aload_n dX8_net_12 rfl rfl ?_
            refine mx_get 8 23 (ref := "PrairiePoolModel") cl_8 (Nat.le_of_ble_eq_true rfl) (Or.inl q1650) (Or.inl rfl) dX8_net_13 (fv_8_23 _ _) (ly8_k La0_h) ?_
            refine mx_tr (ly8_R_0_23 La0_h) ?_
            refine mx_iload_n dX8_net_16 rfl rfl ?_
            refine my_iald dX8_net_17 rfl (ly8_A_16 La0_h k2) ?_
            refine mx_imul dX8_net_18 ?_
            refine mx_sipush dX8_net_19 is_1000 ?_
            refine mx_idiv dX8_net_22 (by decide) ?_
            refine mx_isub dX8_net_23 ?_
            refine mx_iretK rfl dX8_net_24 ?_
            refine mx_aload_n dX8_aloneOf_112 rfl rfl ?_
            refine mx_get 8 32 (ref := "PrairiePoolModel") cl_8 (Nat.le_of_ble_eq_true rfl) (Or.inl q1659) (Or.inl rfl) dX8_aloneOf_113 (fv_8_32 _ _) (ly8_k La0_h) ?_
            refine mx_tr (ly8_R_0_32 La0_h) ?_
            refine mx_iload dX8_aloneOf_116 rfl ?_
            refine my_iald dX8_aloneOf_118 rfl (ly8_A_25 La0_h k2) ?_
            refine mx_isub dX8_aloneOf_119 ?_
            refine mx_i2l dX8_aloneOf_120 ?_
            refine mx_lmul dX8_aloneOf_121 ?_
            refine mx_ladd dX8_aloneOf_122 ?_
            refine mx_lstore (al' := [some (rv a0), some (iv x1), some (iv x2), some (iv x3), some (jv (x4 + ((iMax (0 : Int32) ((ah_I h (a0 + 60) (iMax (0 : Int32) ((ah_I h (a0 + 17) x6.toNatClampNeg) - (ah_I h a0 90))).toNatClampNeg) - ((ah_I h a0 89) * (ah_I h (a0 + 27) x6.toNatClampNeg)))).toInt64 * (((ah_I h (a0 + 15) x6.toNatClampNeg) - (((ah_I h (a0 + 15) x6.toNatClampNeg) * (ah_I h (a0 + 16) x6.toNatClampNeg)) / (1000 : Int32))) - (ah_I h (a0 + 25) x6.toNatClampNeg)).toInt64))), none, some (iv x6), some (iv (iMax (0 : Int32) ((ah_I h (a0 + 60) (iMax (0 : Int32) ((ah_I h (a0 + 17) x6.toNatClampNeg) - (ah_I h a0 90))).toNatClampNeg) - ((ah_I h a0 89) * (ah_I h (a0 + 27) x6.toNatClampNeg)))))]) dX8_aloneOf_123 (Nat.le_of_ble_eq_true rfl) rfl ?_
            refine mx_iinc (al' := [some (rv a0), some (iv x1), some (iv x2), some (iv x3), some (jv (x4 + ((iMax (0 : Int32) ((ah_I h (a0 + 60) (iMax (0 : Int32) ((ah_I h (a0 + 17) x6.toNatClampNeg) - (ah_I h a0 90))).toNatClampNeg) - ((ah_I h a0 89) * (ah_I h (a0 + 27) x6.toNatClampNeg)))).toInt64 * (((ah_I h (a0 + 15) x6.toNatClampNeg) - (((ah_I h (a0 + 15) x6.toNatClampNeg) * (ah_I h (a0 + 16) x6.toNatClampNeg)) / (1000 : Int32))) - (ah_I h (a0 + 25) x6.toNatClampNeg)).toInt64))), none, some (iv (x6 + (1 : Int32))), some (iv (iMax (0 : Int32) ((ah_I h (a0 + 60) (iMax (0 : Int32) ((ah_I h (a0 + 17) x6.toNatClampNeg) - (ah_I h a0 90))).toNatClampNeg) - ((ah_I h a0 89) * (ah_I h (a0 + 27) x6.toNatClampNeg)))))]) dX8_aloneOf_125 rfl ic_1 rfl ?_
            refine mx_goto (tgt := 6) dX8_aloneOf_128 rfl ?_
            exact mx_weak (al' := [some (rv a0), some (iv x1), some (iv x2), some (iv x3), some (jv (x4 + ((iMax (0 : Int32) ((ah_I h (a0 + 60) (iMax (0 : Int32) ((ah_I h (a0 + 17) x6.toNatClampNeg) - (ah_I h a0 90))).toNatClampNeg) - ((ah_I h a0 89) * (ah_I h (a0 + 27) x6.toNatClampNeg)))).toInt64 * (((ah_I h (a0 + 15) x6.toNatClampNeg) - (((ah_I h (a0 + 15) x6.toNatClampNeg) * (ah_I h (a0 + 16) x6.toNatClampNeg)) / (1000 : Int32))) - (ah_I h (a0 + 25) x6.toNatClampNeg)).toInt64))), none, some (iv (x6 + (1 : Int32))), none]) ⟨rfl, ⟨rfl, ⟨rfl, ⟨rfl, ⟨rfl, ⟨rfl, trivial⟩⟩⟩⟩⟩⟩ H
          · have H := H.2 c6
            refine mx_goto (tgt := 125) dX8_aloneOf_58 rfl ?_
            refine mx_iinc (al' := [some (rv a0), some (iv x1), some (iv x2), some (iv x3), some (jv x4), none, some (iv (x6 + (1 : Int32))), none]) dX8_aloneOf_125 rfl ic_1 rfl ?_
            refine mx_goto (tgt := 6) dX8_aloneOf_128 rfl ?_
            exact mx_weak (al' := [some (rv a0), some (iv x1), some (iv x2), some (iv x3), some (jv x4), none, some (iv (x6 + (1 : Int32))), none]) ⟨rfl, ⟨rfl, ⟨rfl, ⟨rfl, ⟨rfl, ⟨rfl, trivial⟩⟩⟩⟩⟩⟩ H
theorem dX8_more_0 : decode mi_X8_more.2.1 0 = .ok (.aload_n 0, 1) := by decide +kernel
theorem dX8_more_1 : decode mi_X8_more.2.1 1 = .ok (.iconst 0, 1) := by decide +kernel
theorem dX8_more_2 : decode mi_X8_more.2.1 2 = .ok (.putfield 257, 3) := by decide +kernel
theorem dX8_more_5 : decode mi_X8_more.2.1 5 = .ok (.aload_n 0, 1) := by decide +kernel
theorem dX8_more_6 : decode mi_X8_more.2.1 6 = .ok (.iconst 0, 1) := by decide +kernel
theorem dX8_more_7 : decode mi_X8_more.2.1 7 = .ok (.putfield 260, 3) := by decide +kernel
theorem dX8_more_10 : decode mi_X8_more.2.1 10 = .ok (.iload_n 1, 1) := by decide +kernel
theorem dX8_more_11 : decode mi_X8_more.2.1 11 = .ok (.invokestatic 335, 3) := by decide +kernel
theorem dX8_more_14 : decode mi_X8_more.2.1 14 = .ok (.ifCond .eq 10, 3) := by decide +kernel
theorem dX8_more_17 : decode mi_X8_more.2.1 17 = .ok (.iload_n 2, 1) := by decide +kernel
theorem dX8_more_18 : decode mi_X8_more.2.1 18 = .ok (.invokestatic 306, 3) := by decide +kernel
theorem dX8_more_21 : decode mi_X8_more.2.1 21 = .ok (.ifCond .ne 9, 3) := by decide +kernel
theorem dX8_more_24 : decode mi_X8_more.2.1 24 = .ok (.aload_n 0, 1) := by decide +kernel
theorem dX8_more_25 : decode mi_X8_more.2.1 25 = .ok (.iconst 5, 1) := by decide +kernel
theorem dX8_more_26 : decode mi_X8_more.2.1 26 = .ok (.invokevirtual 297, 3) := by decide +kernel
theorem dX8_more_29 : decode mi_X8_more.2.1 29 = .ok (.ireturn, 1) := by decide +kernel
theorem dX8_more_30 : decode mi_X8_more.2.1 30 = .ok (.aload_n 0, 1) := by decide +kernel
theorem dX8_more_31 : decode mi_X8_more.2.1 31 = .ok (.iload_n 1, 1) := by decide +kernel
theorem dX8_more_32 : decode mi_X8_more.2.1 32 = .ok (.iload_n 2, 1) := by decide +kernel
theorem dX8_more_33 : decode mi_X8_more.2.1 33 = .ok (.invokevirtual 621, 3) := by decide +kernel
theorem dX8_more_36 : decode mi_X8_more.2.1 36 = .ok (.iconst 0, 1) := by decide +kernel
theorem dX8_more_37 : decode mi_X8_more.2.1 37 = .ok (.istore_n 3, 1) := by decide +kernel
theorem dX8_more_38 : decode mi_X8_more.2.1 38 = .ok (.iconst 0, 1) := by decide +kernel
theorem dX8_more_39 : decode mi_X8_more.2.1 39 = .ok (.istore 4, 2) := by decide +kernel
theorem dX8_more_41 : decode mi_X8_more.2.1 41 = .ok (.iload 4, 2) := by decide +kernel
theorem dX8_more_43 : decode mi_X8_more.2.1 43 = .ok (.aload_n 0, 1) := by decide +kernel
theorem dX8_more_44 : decode mi_X8_more.2.1 44 = .ok (.getfield 291, 3) := by decide +kernel
theorem dX8_more_47 : decode mi_X8_more.2.1 47 = .ok (.if_icmp .ge 136, 3) := by decide +kernel
theorem dX8_more_50 : decode mi_X8_more.2.1 50 = .ok (.lconst 0, 1) := by decide +kernel
theorem dX8_more_51 : decode mi_X8_more.2.1 51 = .ok (.lstore 5, 2) := by decide +kernel
theorem dX8_more_53 : decode mi_X8_more.2.1 53 = .ok (.iconst 0, 1) := by decide +kernel
theorem dX8_more_54 : decode mi_X8_more.2.1 54 = .ok (.istore 7, 2) := by decide +kernel
theorem dX8_more_56 : decode mi_X8_more.2.1 56 = .ok (.iload 7, 2) := by decide +kernel
theorem dX8_more_58 : decode mi_X8_more.2.1 58 = .ok (.aload_n 0, 1) := by decide +kernel
theorem dX8_more_59 : decode mi_X8_more.2.1 59 = .ok (.getfield 309, 3) := by decide +kernel
theorem dX8_more_62 : decode mi_X8_more.2.1 62 = .ok (.if_icmp .ge 73, 3) := by decide +kernel
theorem dX8_more_65 : decode mi_X8_more.2.1 65 = .ok (.aload_n 0, 1) := by decide +kernel
theorem dX8_more_66 : decode mi_X8_more.2.1 66 = .ok (.getfield 62, 3) := by decide +kernel
theorem dX8_more_69 : decode mi_X8_more.2.1 69 = .ok (.iload 7, 2) := by decide +kernel
theorem dX8_more_71 : decode mi_X8_more.2.1 71 = .ok (.iaload, 1) := by decide +kernel
theorem dX8_more_72 : decode mi_X8_more.2.1 72 = .ok (.iload_n 2, 1) := by decide +kernel
theorem dX8_more_73 : decode mi_X8_more.2.1 73 = .ok (.if_icmp .gt 56, 3) := by decide +kernel
theorem dX8_more_76 : decode mi_X8_more.2.1 76 = .ok (.aload_n 0, 1) := by decide +kernel
theorem dX8_more_77 : decode mi_X8_more.2.1 77 = .ok (.getfield 35, 3) := by decide +kernel
theorem dX8_more_80 : decode mi_X8_more.2.1 80 = .ok (.iload 7, 2) := by decide +kernel
theorem dX8_more_82 : decode mi_X8_more.2.1 82 = .ok (.iaload, 1) := by decide +kernel
theorem dX8_more_83 : decode mi_X8_more.2.1 83 = .ok (.ifCond .ne 46, 3) := by decide +kernel
theorem dX8_more_86 : decode mi_X8_more.2.1 86 = .ok (.aload_n 0, 1) := by decide +kernel
theorem dX8_more_87 : decode mi_X8_more.2.1 87 = .ok (.getfield 38, 3) := by decide +kernel
theorem dX8_more_90 : decode mi_X8_more.2.1 90 = .ok (.iload 7, 2) := by decide +kernel
theorem dX8_more_92 : decode mi_X8_more.2.1 92 = .ok (.iaload, 1) := by decide +kernel
theorem dX8_more_93 : decode mi_X8_more.2.1 93 = .ok (.iload 4, 2) := by decide +kernel
theorem dX8_more_95 : decode mi_X8_more.2.1 95 = .ok (.if_icmp .ne 34, 3) := by decide +kernel
theorem dX8_more_98 : decode mi_X8_more.2.1 98 = .ok (.aload_n 0, 1) := by decide +kernel
theorem dX8_more_99 : decode mi_X8_more.2.1 99 = .ok (.getfield 50, 3) := by decide +kernel
theorem dX8_more_102 : decode mi_X8_more.2.1 102 = .ok (.iload 7, 2) := by decide +kernel
theorem dX8_more_104 : decode mi_X8_more.2.1 104 = .ok (.iaload, 1) := by decide +kernel
theorem dX8_more_105 : decode mi_X8_more.2.1 105 = .ok (.iload_n 1, 1) := by decide +kernel
theorem dX8_more_106 : decode mi_X8_more.2.1 106 = .ok (.if_icmp .ne 23, 3) := by decide +kernel
theorem dX8_more_109 : decode mi_X8_more.2.1 109 = .ok (.lload 5, 2) := by decide +kernel
theorem dX8_more_111 : decode mi_X8_more.2.1 111 = .ok (.aload_n 0, 1) := by decide +kernel
theorem dX8_more_112 : decode mi_X8_more.2.1 112 = .ok (.iload 7, 2) := by decide +kernel
theorem dX8_more_114 : decode mi_X8_more.2.1 114 = .ok (.invokevirtual 347, 3) := by decide +kernel
theorem dX8_more_117 : decode mi_X8_more.2.1 117 = .ok (.aload_n 0, 1) := by decide +kernel
theorem dX8_more_118 : decode mi_X8_more.2.1 118 = .ok (.getfield 83, 3) := by decide +kernel
theorem dX8_more_121 : decode mi_X8_more.2.1 121 = .ok (.iload 7, 2) := by decide +kernel
theorem dX8_more_123 : decode mi_X8_more.2.1 123 = .ok (.iaload, 1) := by decide +kernel
theorem dX8_more_124 : decode mi_X8_more.2.1 124 = .ok (.isub, 1) := by decide +kernel
theorem dX8_more_125 : decode mi_X8_more.2.1 125 = .ok (.i2l, 1) := by decide +kernel
theorem dX8_more_126 : decode mi_X8_more.2.1 126 = .ok (.ladd, 1) := by decide +kernel
theorem dX8_more_127 : decode mi_X8_more.2.1 127 = .ok (.lstore 5, 2) := by decide +kernel
theorem dX8_more_129 : decode mi_X8_more.2.1 129 = .ok (.iinc 7 1, 3) := by decide +kernel
theorem dX8_more_132 : decode mi_X8_more.2.1 132 = .ok (.goto (-76), 3) := by decide +kernel
theorem dX8_more_135 : decode mi_X8_more.2.1 135 = .ok (.iload_n 3, 1) := by decide +kernel
theorem dX8_more_136 : decode mi_X8_more.2.1 136 = .ok (.lload 5, 2) := by decide +kernel
theorem dX8_more_138 : decode mi_X8_more.2.1 138 = .ok (.lconst 0, 1) := by decide +kernel
theorem dX8_more_139 : decode mi_X8_more.2.1 139 = .ok (.lcmp, 1) := by decide +kernel
theorem dX8_more_140 : decode mi_X8_more.2.1 140 = .ok (.ifCond .le 34, 3) := by decide +kernel
theorem dX8_more_143 : decode mi_X8_more.2.1 143 = .ok (.aload_n 0, 1) := by decide +kernel
theorem dX8_more_144 : decode mi_X8_more.2.1 144 = .ok (.getfield 167, 3) := by decide +kernel
theorem dX8_more_147 : decode mi_X8_more.2.1 147 = .ok (.iload 4, 2) := by decide +kernel
theorem dX8_more_149 : decode mi_X8_more.2.1 149 = .ok (.laload, 1) := by decide +kernel
theorem dX8_more_150 : decode mi_X8_more.2.1 150 = .ok (.aload_n 0, 1) := by decide +kernel
theorem dX8_more_151 : decode mi_X8_more.2.1 151 = .ok (.getfield 170, 3) := by decide +kernel
theorem dX8_more_154 : decode mi_X8_more.2.1 154 = .ok (.iload 4, 2) := by decide +kernel
theorem dX8_more_156 : decode mi_X8_more.2.1 156 = .ok (.laload, 1) := by decide +kernel
theorem dX8_more_157 : decode mi_X8_more.2.1 157 = .ok (.ladd, 1) := by decide +kernel
theorem dX8_more_158 : decode mi_X8_more.2.1 158 = .ok (.aload_n 0, 1) := by decide +kernel
theorem dX8_more_159 : decode mi_X8_more.2.1 159 = .ok (.iload 4, 2) := by decide +kernel
theorem dX8_more_161 : decode mi_X8_more.2.1 161 = .ok (.iload_n 1, 1) := by decide +kernel
theorem dX8_more_162 : decode mi_X8_more.2.1 162 = .ok (.iload_n 2, 1) := by decide +kernel
theorem dX8_more_163 : decode mi_X8_more.2.1 163 = .ok (.invokevirtual 638, 3) := by decide +kernel
theorem dX8_more_166 : decode mi_X8_more.2.1 166 = .ok (.lcmp, 1) := by decide +kernel
theorem dX8_more_167 : decode mi_X8_more.2.1 167 = .ok (.ifCond .le 7, 3) := by decide +kernel
theorem dX8_more_170 : decode mi_X8_more.2.1 170 = .ok (.iconst 1, 1) := by decide +kernel
theorem dX8_more_171 : decode mi_X8_more.2.1 171 = .ok (.goto 4, 3) := by decide +kernel
theorem dX8_more_174 : decode mi_X8_more.2.1 174 = .ok (.iconst 0, 1) := by decide +kernel
theorem dX8_more_175 : decode mi_X8_more.2.1 175 = .ok (.iadd, 1) := by decide +kernel
theorem dX8_more_176 : decode mi_X8_more.2.1 176 = .ok (.istore_n 3, 1) := by decide +kernel
theorem dX8_more_177 : decode mi_X8_more.2.1 177 = .ok (.iinc 4 1, 3) := by decide +kernel
theorem dX8_more_180 : decode mi_X8_more.2.1 180 = .ok (.goto (-139), 3) := by decide +kernel
theorem dX8_more_183 : decode mi_X8_more.2.1 183 = .ok (.iload_n 3, 1) := by decide +kernel
theorem dX8_more_184 : decode mi_X8_more.2.1 184 = .ok (.ireturn, 1) := by decide +kernel
theorem v_X8_more {G : ma_G} {d : Nat} {a0 : Nat} {x1 : Int32} {x2 : Int32} {h : ah_T} {Q : Option ma_V → ah_T → Prop} {E : Nat → ah_T → Prop} (La0_h : LY8 h a0) (H : ∀ h1 : ah_T, h1 = ah_wI h a0 1 (0 : Int32) → ah_ext h h1 → ∀ h2 : ah_T, h2 = ah_wI h1 a0 0 (0 : Int32) → ah_ext h1 h2 → (x1.toInt64 < (0 : Int64) → ∀ h4 : ah_T, h4 = ah_wI h2 a0 0 (5 : Int32) → ah_ext h2 h4 → Q (some (iv (-1 : Int32))) h4) ∧ (¬ x1.toInt64 < (0 : Int64) → ((9 : Int64) < x1.toInt64 → ∀ h6 : ah_T, h6 = ah_wI h2 a0 0 (5 : Int32) → ah_ext h2 h6 → Q (some (iv (-1 : Int32))) h6) ∧ (¬ (9 : Int64) < x1.toInt64 → (x2.toInt64 < (0 : Int64) → ∀ h8 : ah_T, h8 = ah_wI h2 a0 0 (5 : Int32) → ah_ext h2 h8 → Q (some (iv (-1 : Int32))) h8) ∧ (¬ x2.toInt64 < (0 : Int64) → ((519 : Int64) < x2.toInt64 → ∀ h10 : ah_T, h10 = ah_wI h2 a0 0 (5 : Int32) → ah_ext h2 h10 → Q (some (iv (-1 : Int32))) h10) ∧ (¬ (519 : Int64) < x2.toInt64 → MX G mi_X8_pay (d + 1) 0 [some (rv a0), some (iv x1), some (iv x2), none, none, none, none, none, none] [] h2 (Qv fun h11 => ah_ext h2 h11 → MX G mi_X8_more (d + 2) 41 [some (rv a0), some (iv x1), some (iv x2), some (iv (0 : Int32)), some (iv (0 : Int32)), none, none, none] [] h11 Q E) E))))) : MX G mi_X8_more (d + 2) 0 [some (rv a0), some (iv x1), some (iv x2), none, none, none, none, none] [] h Q E := by
  refine mx_aload_n dX8_more_0 rfl rfl ?_
  refine mx_iconst dX8_more_1 ic_0 ?_
  refine mx_putI 8 1 (ref := "PrairiePoolModel") cl_8 (Nat.le_of_ble_eq_true rfl) (Or.inl q1628) (Or.inl rfl) dX8_more_2 (Or.inl rfl) rfl (ly8_k La0_h) ?_
  refine mx_nmI  (fun h1 eh1 Xh1 Kh1 Lh1 => ?_)
  have H := H h1 eh1 Xh1
  have La0_h1 := La0_h.ext Xh1
  refine mx_aload_n dX8_more_5 rfl rfl ?_
  refine mx_iconst dX8_more_6 ic_0 ?_
  refine mx_putI 8 0 (ref := "PrairiePoolModel") cl_8 (Nat.le_of_ble_eq_true rfl) (Or.inl q1627) (Or.inl rfl) dX8_more_7 (Or.inl rfl) rfl (ly8_k La0_h1) ?_
  refine mx_nmI  (fun h2 eh2 Xh2 Kh2 Lh2 => ?_)
  have H := H h2 eh2 Xh2
  have Kh2 := Kh2.trans Kh1
  have Lh2 := Lh2.trans Lh1
  have La0_h2 := La0_h1.ext Xh2
  refine mx_iload_n dX8_more_10 rfl rfl ?_
  refine mx_callS (y' := mi_X8_isYear) (vs := [iv x1]) (st := []) (al' := [some (iv x1)]) S_X8_isYear q2039 dX8_more_11 rfl rfl (Nat.le_of_ble_eq_true rfl) (Nat.le_of_ble_eq_true rfl) ?_
  refine mx_iload_n dX8_isYear_0 rfl rfl ?_
  refine mx_i2l dX8_isYear_1 ?_
  refine mx_lconst dX8_isYear_2 lc_0 ?_
  refine mx_ldc2 q2042 dX8_isYear_3 ?_
  refine mx_callS (y' := mi_X8_isIn) (vs := [jv x1.toInt64, jv (0 : Int64), jv (9 : Int64)]) (st := []) (al' := [some (jv x1.toInt64), none, some (jv (0 : Int64)), none, some (jv (9 : Int64)), none]) S_X8_isIn q1996 dX8_isYear_6 rfl rfl (Nat.le_of_ble_eq_true rfl) (Nat.le_of_ble_eq_true rfl) ?_
  refine mx_lload_n dX8_isIn_0 rfl rfl ?_
  refine mx_lload_n dX8_isIn_1 rfl rfl ?_
  refine mx_lif_lt (tgt := 17) dX8_isIn_2 dX8_isIn_3 rfl (fun c3 => ?_) (fun c3 => ?_)
  · have H := H.1 c3
    refine mx_iconst dX8_isIn_17 ic_0 ?_
    refine mx_zretK rfl dX8_isIn_18 (Or.inl rfl) ?_
    refine mx_zretK rfl dX8_isYear_9 (Or.inl rfl) ?_
    refine mx_if_eq (tgt := 24) dX8_more_14 rfl (fun _ => ?_) (fun _ => absurd ‹_› (by decide))
    refine mx_aload_n dX8_more_24 rfl rfl ?_
    refine mx_iconst dX8_more_25 ic_5 ?_
    refine mx_callV 8 (y' := mi_X8_refuse) (vs := [iv (5 : Int32)]) (st := []) (al' := [some (rv a0), some (iv (5 : Int32))]) cl_8 V_X8_refuse (Or.inl q1999) dX8_more_26 rfl rfl (Nat.le_of_ble_eq_true rfl) (Nat.le_of_ble_eq_true rfl) (ly8_k La0_h2) ?_
    refine mx_aload_n dX8_refuse_0 rfl rfl ?_
    refine mx_iload_n dX8_refuse_1 rfl rfl ?_
    refine mx_putI 8 0 (ref := "PrairiePoolModel") cl_8 (Nat.le_of_ble_eq_true rfl) (Or.inl q1627) (Or.inl rfl) dX8_refuse_2 (Or.inl rfl) rfl (ly8_k La0_h2) ?_
    refine mx_nmI  (fun h4 eh4 Xh4 Kh4 Lh4 => ?_)
    have H := H h4 eh4 Xh4
    have Kh4 := Kh4.trans Kh2
    have Lh4 := Lh4.trans Lh2
    have La0_h4 := La0_h2.ext Xh4
    refine mx_iconst dX8_refuse_5 ic_m1 ?_
    refine mx_iretK rfl dX8_refuse_6 ?_
    exact mx_iret rfl dX8_more_29 H
  · have H := H.2 c3
    refine mx_lload_n dX8_isIn_6 rfl rfl ?_
    refine mx_lload dX8_isIn_7 rfl ?_
    refine mx_lif_gt (tgt := 17) dX8_isIn_9 dX8_isIn_10 rfl (fun c5 => ?_) (fun c5 => ?_)
    · have H := H.1 c5
      refine mx_iconst dX8_isIn_17 ic_0 ?_
      refine mx_zretK rfl dX8_isIn_18 (Or.inl rfl) ?_
      refine mx_zretK rfl dX8_isYear_9 (Or.inl rfl) ?_
      refine mx_if_eq (tgt := 24) dX8_more_14 rfl (fun _ => ?_) (fun _ => absurd ‹_› (by decide))
      refine mx_aload_n dX8_more_24 rfl rfl ?_
      refine mx_iconst dX8_more_25 ic_5 ?_
      refine mx_callV 8 (y' := mi_X8_refuse) (vs := [iv (5 : Int32)]) (st := []) (al' := [some (rv a0), some (iv (5 : Int32))]) cl_8 V_X8_refuse (Or.inl q1999) dX8_more_26 rfl rfl (Nat.le_of_ble_eq_true rfl) (Nat.le_of_ble_eq_true rfl) (ly8_k La0_h2) ?_
      refine mx_aload_n dX8_refuse_0 rfl rfl ?_
      refine mx_iload_n dX8_refuse_1 rfl rfl ?_
      refine mx_putI 8 0 (ref := "PrairiePoolModel") cl_8 (Nat.le_of_ble_eq_true rfl) (Or.inl q1627) (Or.inl rfl) dX8_refuse_2 (Or.inl rfl) rfl (ly8_k La0_h2) ?_
      refine mx_nmI  (fun h6 eh6 Xh6 Kh6 Lh6 => ?_)
      have H := H h6 eh6 Xh6
      have Kh6 := Kh6.trans Kh2
      have Lh6 := Lh6.trans Lh2
      have La0_h6 := La0_h2.ext Xh6
      refine mx_iconst dX8_refuse_5 ic_m1 ?_
      refine mx_iretK rfl dX8_refuse_6 ?_
      exact mx_iret rfl dX8_more_29 H
    · have H := H.2 c5
      refine mx_iconst dX8_isIn_13 ic_1 ?_
      refine mx_goto (tgt := 18) dX8_isIn_14 rfl ?_
      refine mx_zretK rfl dX8_isIn_18 (Or.inr rfl) ?_
      refine mx_zretK rfl dX8_isYear_9 (Or.inr rfl) ?_
      refine mx_if_eq (tgt := 24) dX8_more_14 rfl (fun _ => absurd ‹_› (by decide)) (fun _ => ?_)
      refine mx_iload_n dX8_more_17 rfl rfl ?_
      refine mx_callS (y' := mi_X8_isDay) (vs := [iv x2]) (st := []) (al' := [some (iv x2)]) S_X8_isDay q2028 dX8_more_18 rfl rfl (Nat.le_of_ble_eq_true rfl) (Nat.le_of_ble_eq_true rfl) ?_
      refine mx_iload_n dX8_isDay_0 rfl rfl ?_
      refine mx_i2l dX8_isDay_1 ?_
      refine mx_lconst dX8_isDay_2 lc_0 ?_
      refine mx_ldc2 q2031 dX8_isDay_3 ?_
      refine mx_callS (y' := mi_X8_isIn) (vs := [jv x2.toInt64, jv (0 : Int64), jv (519 : Int64)]) (st := []) (al' := [some (jv x2.toInt64), none, some (jv (0 : Int64)), none, some (jv (519 : Int64)), none]) S_X8_isIn q1996 dX8_isDay_6 rfl rfl (Nat.le_of_ble_eq_true rfl) (Nat.le_of_ble_eq_true rfl) ?_
      refine mx_lload_n dX8_isIn_0 rfl rfl ?_
      refine mx_lload_n dX8_isIn_1 rfl rfl ?_
      refine mx_lif_lt (tgt := 17) dX8_isIn_2 dX8_isIn_3 rfl (fun c7 => ?_) (fun c7 => ?_)
      · have H := H.1 c7
        refine mx_iconst dX8_isIn_17 ic_0 ?_
        refine mx_zretK rfl dX8_isIn_18 (Or.inl rfl) ?_
        refine mx_zretK rfl dX8_isDay_9 (Or.inl rfl) ?_
        refine mx_if_ne (tgt := 30) dX8_more_21 rfl (fun _ => absurd ‹_› (by decide)) (fun _ => ?_)
        refine mx_aload_n dX8_more_24 rfl rfl ?_
        refine mx_iconst dX8_more_25 ic_5 ?_
        refine mx_callV 8 (y' := mi_X8_refuse) (vs := [iv (5 : Int32)]) (st := []) (al' := [some (rv a0), some (iv (5 : Int32))]) cl_8 V_X8_refuse (Or.inl q1999) dX8_more_26 rfl rfl (Nat.le_of_ble_eq_true rfl) (Nat.le_of_ble_eq_true rfl) (ly8_k La0_h2) ?_
        refine mx_aload_n dX8_refuse_0 rfl rfl ?_
        refine mx_iload_n dX8_refuse_1 rfl rfl ?_
        refine mx_putI 8 0 (ref := "PrairiePoolModel") cl_8 (Nat.le_of_ble_eq_true rfl) (Or.inl q1627) (Or.inl rfl) dX8_refuse_2 (Or.inl rfl) rfl (ly8_k La0_h2) ?_
        refine mx_nmI  (fun h8 eh8 Xh8 Kh8 Lh8 => ?_)
        have H := H h8 eh8 Xh8
        have Kh8 := Kh8.trans Kh2
        have Lh8 := Lh8.trans Lh2
        have La0_h8 := La0_h2.ext Xh8
        refine mx_iconst dX8_refuse_5 ic_m1 ?_
        refine mx_iretK rfl dX8_refuse_6 ?_
        exact mx_iret rfl dX8_more_29 H
      · have H := H.2 c7
        refine mx_lload_n dX8_isIn_6 rfl rfl ?_
        refine mx_lload dX8_isIn_7 rfl ?_
        refine mx_lif_gt (tgt := 17) dX8_isIn_9 dX8_isIn_10 rfl (fun c9 => ?_) (fun c9 => ?_)
        · have H := H.1 c9
          refine mx_iconst dX8_isIn_17 ic_0 ?_
          refine mx_zretK rfl dX8_isIn_18 (Or.inl rfl) ?_
          refine mx_zretK rfl dX8_isDay_9 (Or.inl rfl) ?_
          refine mx_if_ne (tgt := 30) dX8_more_21 rfl (fun _ => absurd ‹_› (by decide)) (fun _ => ?_)
          refine mx_aload_n dX8_more_24 rfl rfl ?_
          refine mx_iconst dX8_more_25 ic_5 ?_
          refine mx_callV 8 (y' := mi_X8_refuse) (vs := [iv (5 : Int32)]) (st := []) (al' := [some (rv a0), some (iv (5 : Int32))]) cl_8 V_X8_refuse (Or.inl q1999) dX8_more_26 rfl rfl (Nat.le_of_ble_eq_true rfl) (Nat.le_of_ble_eq_true rfl) (ly8_k La0_h2) ?_
          refine mx_aload_n dX8_refuse_0 rfl rfl ?_
          refine mx_iload_n dX8_refuse_1 rfl rfl ?_
          refine mx_putI 8 0 (ref := "PrairiePoolModel") cl_8 (Nat.le_of_ble_eq_true rfl) (Or.inl q1627) (Or.inl rfl) dX8_refuse_2 (Or.inl rfl) rfl (ly8_k La0_h2) ?_
          refine mx_nmI  (fun h10 eh10 Xh10 Kh10 Lh10 => ?_)
          have H := H h10 eh10 Xh10
          have Kh10 := Kh10.trans Kh2
          have Lh10 := Lh10.trans Lh2
          have La0_h10 := La0_h2.ext Xh10
          refine mx_iconst dX8_refuse_5 ic_m1 ?_
          refine mx_iretK rfl dX8_refuse_6 ?_
          exact mx_iret rfl dX8_more_29 H
        · have H := H.2 c9
          refine mx_iconst dX8_isIn_13 ic_1 ?_
          refine mx_goto (tgt := 18) dX8_isIn_14 rfl ?_
          refine mx_zretK rfl dX8_isIn_18 (Or.inr rfl) ?_
          refine mx_zretK rfl dX8_isDay_9 (Or.inr rfl) ?_
          refine mx_if_ne (tgt := 30) dX8_more_21 rfl (fun _ => ?_) (fun _ => absurd ‹_› (by decide))
          refine mx_aload_n dX8_more_30 rfl rfl ?_
          refine mx_iload_n dX8_more_31 rfl rfl ?_
          refine mx_iload_n dX8_more_32 rfl rfl ?_
          refine mx_callV 8 (y' := mi_X8_pay) (vs := [iv x1, iv x2]) (st := []) (al' := [some (rv a0), some (iv x1), some (iv x2), none, none, none, none, none, none]) cl_8 V_X8_pay (Or.inl q2332) dX8_more_33 rfl rfl (Nat.le_of_ble_eq_true rfl) (Nat.le_of_ble_eq_true rfl) (ly8_k La0_h2) ?_
          refine ma_kv H (fun h11 Xh11 H => ?_) (fun x1 h1 X1 H => mt_out rfl H)
          have H := H Xh11
          have La0_h11 := La0_h2.ext Xh11
          refine mx_iconst dX8_more_36 ic_0 ?_
          refine mx_istore_n (al' := [some (rv a0), some (iv x1), some (iv x2), some (iv (0 : Int32)), none, none, none, none]) dX8_more_37 rfl (Nat.le_of_ble_eq_true rfl) rfl ?_
          refine mx_iconst dX8_more_38 ic_0 ?_
          refine mx_istore (al' := [some (rv a0), some (iv x1), some (iv x2), some (iv (0 : Int32)), some (iv (0 : Int32)), none, none, none]) dX8_more_39 (Nat.le_of_ble_eq_true rfl) rfl ?_
          exact mx_weak (al' := [some (rv a0), some (iv x1), some (iv x2), some (iv (0 : Int32)), some (iv (0 : Int32)), none, none, none]) ⟨rfl, ⟨rfl, ⟨rfl, ⟨rfl, ⟨rfl, trivial⟩⟩⟩⟩⟩ H
theorem v_X8_more_41 {G : ma_G} {d : Nat} {a0 : Nat} {x1 : Int32} {x2 : Int32} {x3 : Int32} {x4 : Int32} {h : ah_T} {Q : Option ma_V → ah_T → Prop} {E : Nat → ah_T → Prop} (La0_h : LY8 h a0) (H : ((ah_I h a0 5) ≤ x4 → Q (some (iv x3)) h) ∧ (¬ (ah_I h a0 5) ≤ x4 → MX G mi_X8_more (d + 2) 56 [some (rv a0), some (iv x1), some (iv x2), some (iv x3), some (iv x4), some (jv (0 : Int64)), none, some (iv (0 : Int32))] [] h Q E)) : MX G mi_X8_more (d + 2) 41 [some (rv a0), some (iv x1), some (iv x2), some (iv x3), some (iv x4), none, none, none] [] h Q E := by
  refine mx_iload dX8_more_41 rfl ?_
  refine mx_aload_n dX8_more_43 rfl rfl ?_
  refine mx_get 8 5 (ref := "PrairiePoolModel") cl_8 (Nat.le_of_ble_eq_true rfl) (Or.inl q1632) (Or.inl rfl) dX8_more_44 (fv_8_5 _ _) (ly8_k La0_h) ?_
  refine mx_icmp_ge (tgt := 183) dX8_more_47 rfl (fun c1 => ?_) (fun c1 => ?_)
  · have H := H.1 c1
    refine mx_iload_n dX8_more_183 rfl rfl ?_
    exact mx_iret rfl dX8_more_184 H
  · have H := H.2 c1
    refine mx_lconst dX8_more_50 lc_0 ?_
    refine mx_lstore (al' := [some (rv a0), some (iv x1), some (iv x2), some (iv x3), some (iv x4), some (jv (0 : Int64)), none, none]) dX8_more_51 (Nat.le_of_ble_eq_true rfl) rfl ?_
    refine mx_iconst dX8_more_53 ic_0 ?_
    refine mx_istore (al' := [some (rv a0), some (iv x1), some (iv x2), some (iv x3), some (iv x4), some (jv (0 : Int64)), none, some (iv (0 : Int32))]) dX8_more_54 (Nat.le_of_ble_eq_true rfl) rfl ?_
    exact mx_weak (al' := [some (rv a0), some (iv x1), some (iv x2), some (iv x3), some (iv x4), some (jv (0 : Int64)), none, some (iv (0 : Int32))]) ⟨rfl, ⟨rfl, ⟨rfl, ⟨rfl, ⟨rfl, ⟨rfl, ⟨rfl, trivial⟩⟩⟩⟩⟩⟩⟩ H
theorem v_X8_more_56 {G : ma_G} {d : Nat} {a0 : Nat} {x1 : Int32} {x2 : Int32} {x3 : Int32} {x4 : Int32} {x5 : Int64} {x7 : Int32} {h : ah_T} {Q : Option ma_V → ah_T → Prop} {E : Nat → ah_T → Prop} (La0_h : LY8 h a0) (H : ((ah_I h a0 7) ≤ x7 → (x5 ≤ (0 : Int64) → MX G mi_X8_more (d + 2) 41 [some (rv a0), some (iv x1), some (iv x2), some (iv (x3 + (0 : Int32))), some (iv (x4 + (1 : Int32))), none, none, none] [] h Q E) ∧ (¬ x5 ≤ (0 : Int64) → vp_in x4 20 ∧ MX G mi_X8_aloneOf (d + 1) 0 [some (rv a0), some (iv x4), some (iv x1), some (iv x2), none, none, none, none] [] h (Ql fun r5 h4 => ah_ext h h4 → (((ah_J h (a0 + 50) x4.toNatClampNeg) + (ah_J h (a0 + 51) x4.toNatClampNeg)) ≤ r5 → MX G mi_X8_more (d + 2) 41 [some (rv a0), some (iv x1), some (iv x2), some (iv (x3 + (0 : Int32))), some (iv (x4 + (1 : Int32))), none, none, none] [] h4 Q E) ∧ (¬ ((ah_J h (a0 + 50) x4.toNatClampNeg) + (ah_J h (a0 + 51) x4.toNatClampNeg)) ≤ r5 → MX G mi_X8_more (d + 2) 41 [some (rv a0), some (iv x1), some (iv x2), some (iv (x3 + (1 : Int32))), some (iv (x4 + (1 : Int32))), none, none, none] [] h4 Q E)) E)) ∧ (¬ (ah_I h a0 7) ≤ x7 → vp_in x7 120 ∧ (x2 < (ah_I h (a0 + 18) x7.toNatClampNeg) → MX G mi_X8_more (d + 2) 56 [some (rv a0), some (iv x1), some (iv x2), some (iv x3), some (iv x4), some (jv x5), none, some (iv (x7 + (1 : Int32)))] [] h Q E) ∧ (¬ x2 < (ah_I h (a0 + 18) x7.toNatClampNeg) → (¬ (ah_I h (a0 + 9) x7.toNatClampNeg) = 0 → MX G mi_X8_more (d + 2) 56 [some (rv a0), some (iv x1), some (iv x2), some (iv x3), some (iv x4), some (jv x5), none, some (iv (x7 + (1 : Int32)))] [] h Q E) ∧ ((ah_I h (a0 + 9) x7.toNatClampNeg) = 0 → (¬ (ah_I h (a0 + 10) x7.toNatClampNeg) = x4 → MX G mi_X8_more (d + 2) 56 [some (rv a0), some (iv x1), some (iv x2), some (iv x3), some (iv x4), some (jv x5), none, some (iv (x7 + (1 : Int32)))] [] h Q E) ∧ ((ah_I h (a0 + 10) x7.toNatClampNeg) = x4 → (¬ (ah_I h (a0 + 14) x7.toNatClampNeg) = x1 → MX G mi_X8_more (d + 2) 56 [some (rv a0), some (iv x1), some (iv x2), some (iv x3), some (iv x4), some (jv x5), none, some (iv (x7 + (1 : Int32)))] [] h Q E) ∧ ((ah_I h (a0 + 14) x7.toNatClampNeg) = x1 → MX G mi_X8_more (d + 2) 56 [some (rv a0), some (iv x1), some (iv x2), some (iv x3), some (iv x4), some (jv (x5 + (((ah_I h (a0 + 15) x7.toNatClampNeg) - (((ah_I h (a0 + 15) x7.toNatClampNeg) * (ah_I h (a0 + 16) x7.toNatClampNeg)) / (1000 : Int32))) - (ah_I h (a0 + 25) x7.toNatClampNeg)).toInt64)), none, some (iv (x7 + (1 : Int32)))] [] h Q E)))))) : MX G mi_X8_more (d + 2) 56 [some (rv a0), some (iv x1), some (iv x2), some (iv x3), some (iv x4), some (jv x5), none, some (iv x7)] [] h Q E := by
  refine mx_iload dX8_more_56 rfl ?_
  refine mx_aload_n dX8_more_58 rfl rfl ?_
  refine mx_get 8 7 (ref := "PrairiePoolModel") cl_8 (Nat.le_of_ble_eq_true rfl) (Or.inl q1634) (Or.inl rfl) dX8_more_59 (fv_8_7 _ _) (ly8_k La0_h) ?_
  refine mx_icmp_ge (tgt := 135) dX8_more_62 rfl (fun c1 => ?_) (fun c1 => ?_)
  · have H := H.1 c1
    refine mx_iload_n dX8_more_135 rfl rfl ?_
    refine mx_lload dX8_more_136 rfl ?_
    refine mx_lconst dX8_more_138 lc_0 ?_
    refine mx_lif_le (tgt := 174) dX8_more_139 dX8_more_140 rfl (fun c2 => ?_) (fun c2 => ?_)
    · have H := H.1 c2
      refine mx_iconst dX8_more_174 ic_0 ?_
      refine mx_iadd dX8_more_175 ?_
      refine mx_istore_n (al' := [some (rv a0), some (iv x1), some (iv x2), some (iv (x3 + (0 : Int32))), some (iv x4), some (jv x5), none, some (iv x7)]) dX8_more_176 rfl (Nat.le_of_ble_eq_true rfl) rfl ?_
      refine mx_iinc (al' := [some (rv a0), some (iv x1), some (iv x2), some (iv (x3 + (0 : Int32))), some (iv (x4 + (1 : Int32))), some (jv x5), none, some (iv x7)]) dX8_more_177 rfl ic_1 rfl ?_
      refine mx_goto (tgt := 41) dX8_more_180 rfl ?_
      exact mx_weak (al' := [some (rv a0), some (iv x1), some (iv x2), some (iv (x3 + (0 : Int32))), some (iv (x4 + (1 : Int32))), none, none, none]) ⟨rfl, ⟨rfl, ⟨rfl, ⟨rfl, ⟨rfl, trivial⟩⟩⟩⟩⟩ H
    · have H := H.2 c2
      refine mx_aload_n dX8_more_143 rfl rfl ?_
      refine mx_get 8 74 (ref := "PrairiePoolModel") cl_8 (Nat.le_of_ble_eq_true rfl) (Or.inl q1701) (Or.inl rfl) dX8_more_144 (fv_8_74 _ _) (ly8_k La0_h) ?_
      refine mx_tr (ly8_R_0_74 La0_h) ?_
      refine mx_iload dX8_more_147 rfl ?_
      obtain ⟨k3, H⟩ := H
      refine my_lald dX8_more_149 rfl (ly8_A_50 La0_h k3) ?_
      refine mx_aload_n dX8_more_150 rfl rfl ?_
      refine mx_get 8 75 (ref := "PrairiePoolModel") cl_8 (Nat.le_of_ble_eq_true rfl) (Or.inl q1702) (Or.inl rfl) dX8_more_151 (fv_8_75 _ _) (ly8_k La0_h) ?_
      refine mx_tr (ly8_R_0_75 La0_h) ?_
      refine mx_iload dX8_more_154 rfl ?_
      refine my_lald dX8_more_156 rfl (ly8_A_51 La0_h k3) ?_
      refine mx_ladd dX8_more_157 ?_
      refine mx_aload_n dX8_more_158 rfl rfl ?_
      refine mx_iload dX8_more_159 rfl ?_
      refine mx_iload_n dX8_more_161 rfl rfl ?_
      refine mx_iload_n dX8_more_162 rfl rfl ?_
      refine mx_callV 8 (y' := mi_X8_aloneOf) (vs := [iv x4, iv x1, iv x2]) (st := [jv ((ah_J h (a0 + 50) x4.toNatClampNeg) + (ah_J h (a0 + 51) x4.toNatClampNeg)), iv x3]) (al' := [some (rv a0), some (iv x4), some (iv x1), some (iv x2), none, none, none, none]) cl_8 V_X8_aloneOf (Or.inl q2394) dX8_more_163 rfl rfl (Nat.le_of_ble_eq_true rfl) (Nat.le_of_ble_eq_true rfl) (ly8_k La0_h) ?_
      refine ma_kl H (fun r5 h4 Xh4 H => ?_) (fun x1 h1 X1 H => mt_out rfl H)
      have H := H Xh4
      have La0_h4 := La0_h.ext Xh4
      refine mx_lif_le (tgt := 174) dX8_more_166 dX8_more_167 rfl (fun c6 => ?_) (fun c6 => ?_)
      · have H := H.1 c6
        refine mx_iconst dX8_more_174 ic_0 ?_
        refine mx_iadd dX8_more_175 ?_
        refine mx_istore_n (al' := [some (rv a0), some (iv x1), some (iv x2), some (iv (x3 + (0 : Int32))), some (iv x4), some (jv x5), none, some (iv x7)]) dX8_more_176 rfl (Nat.le_of_ble_eq_true rfl) rfl ?_
        refine mx_iinc (al' := [some (rv a0), some (iv x1), some (iv x2), some (iv (x3 + (0 : Int32))), some (iv (x4 + (1 : Int32))), some (jv x5), none, some (iv x7)]) dX8_more_177 rfl ic_1 rfl ?_
        refine mx_goto (tgt := 41) dX8_more_180 rfl ?_
        exact mx_weak (al' := [some (rv a0), some (iv x1), some (iv x2), some (iv (x3 + (0 : Int32))), some (iv (x4 + (1 : Int32))), none, none, none]) ⟨rfl, ⟨rfl, ⟨rfl, ⟨rfl, ⟨rfl, trivial⟩⟩⟩⟩⟩ H
      · have H := H.2 c6
        refine mx_iconst dX8_more_170 ic_1 ?_
        refine mx_goto (tgt := 175) dX8_more_171 rfl ?_
        refine mx_iadd dX8_more_175 ?_
        refine mx_istore_n (al' := [some (rv a0), some (iv x1), some (iv x2), some (iv (x3 + (1 : Int32))), some (iv x4), some (jv x5), none, some (iv x7)]) dX8_more_176 rfl (Nat.le_of_ble_eq_true rfl) rfl ?_
        refine mx_iinc (al' := [some (rv a0), some (iv x1), some (iv x2), some (iv (x3 + (1 : Int32))), some (iv (x4 + (1 : Int32))), some (jv x5), none, some (iv x7)]) dX8_more_177 rfl ic_1 rfl ?_
        refine mx_goto (tgt := 41) dX8_more_180 rfl ?_
        exact mx_weak (al' := [some (rv a0), some (iv x1), some (iv x2), some (iv (x3 + (1 : Int32))), some (iv (x4 + (1 : Int32))), none, none, none]) ⟨rfl, ⟨rfl, ⟨rfl, ⟨rfl, ⟨rfl, trivial⟩⟩⟩⟩⟩ H
  · have H := H.2 c1
    refine mx_aload_n dX8_more_65 rfl rfl ?_
    refine mx_get 8 25 (ref := "PrairiePoolModel") cl_8 (Nat.le_of_ble_eq_true rfl) (Or.inl q1652) (Or.inl rfl) dX8_more_66 (fv_8_25 _ _) (ly8_k La0_h) ?_
    refine mx_tr (ly8_R_0_25 La0_h) ?_
    refine mx_iload dX8_more_69 rfl ?_
    obtain ⟨k7, H⟩ := H
    refine my_iald dX8_more_71 rfl (ly8_A_18 La0_h k7) ?_
    refine mx_iload_n dX8_more_72 rfl rfl ?_
    refine mx_icmp_gt (tgt := 129) dX8_more_73 rfl (fun c8 => ?_) (fun c8 => ?_)
    · have H := H.1 c8
      refine mx_iinc (al' := [some (rv a0), some (iv x1), some (iv x2), some (iv x3), some (iv x4), some (jv x5), none, some (iv (x7 + (1 : Int32)))]) dX8_more_129 rfl ic_1 rfl ?_
      refine mx_goto (tgt := 56) dX8_more_132 rfl ?_
      exact mx_weak (al' := [some (rv a0), some (iv x1), some (iv x2), some (iv x3), some (iv x4), some (jv x5), none, some (iv (x7 + (1 : Int32)))]) ⟨rfl, ⟨rfl, ⟨rfl, ⟨rfl, ⟨rfl, ⟨rfl, ⟨rfl, trivial⟩⟩⟩⟩⟩⟩⟩ H
    · have H := H.2 c8
      refine mx_aload_n dX8_more_76 rfl rfl ?_
      refine mx_get 8 16 (ref := "PrairiePoolModel") cl_8 (Nat.le_of_ble_eq_true rfl) (Or.inl q1643) (Or.inl rfl) dX8_more_77 (fv_8_16 _ _) (ly8_k La0_h) ?_
      refine mx_tr (ly8_R_0_16 La0_h) ?_
      refine mx_iload dX8_more_80 rfl ?_
      refine my_iald dX8_more_82 rfl (ly8_A_9 La0_h k7) ?_
      refine mx_if_ne (tgt := 129) dX8_more_83 rfl (fun c9 => ?_) (fun c9 => ?_)
      · have H := H.1 c9
        refine mx_iinc (al' := [some (rv a0), some (iv x1), some (iv x2), some (iv x3), some (iv x4), some (jv x5), none, some (iv (x7 + (1 : Int32)))]) dX8_more_129 rfl ic_1 rfl ?_
        refine mx_goto (tgt := 56) dX8_more_132 rfl ?_
        exact mx_weak (al' := [some (rv a0), some (iv x1), some (iv x2), some (iv x3), some (iv x4), some (jv x5), none, some (iv (x7 + (1 : Int32)))]) ⟨rfl, ⟨rfl, ⟨rfl, ⟨rfl, ⟨rfl, ⟨rfl, ⟨rfl, trivial⟩⟩⟩⟩⟩⟩⟩ H
      · have H := H.2 c9
        refine mx_aload_n dX8_more_86 rfl rfl ?_
        refine mx_get 8 17 (ref := "PrairiePoolModel") cl_8 (Nat.le_of_ble_eq_true rfl) (Or.inl q1644) (Or.inl rfl) dX8_more_87 (fv_8_17 _ _) (ly8_k La0_h) ?_
        refine mx_tr (ly8_R_0_17 La0_h) ?_
        refine mx_iload dX8_more_90 rfl ?_
        refine my_iald dX8_more_92 rfl (ly8_A_10 La0_h k7) ?_
        refine mx_iload dX8_more_93 rfl ?_
        refine mx_icmp_ne (tgt := 129) dX8_more_95 rfl (fun c10 => ?_) (fun c10 => ?_)
        · have H := H.1 c10
          refine mx_iinc (al' := [some (rv a0), some (iv x1), some (iv x2), some (iv x3), some (iv x4), some (jv x5), none, some (iv (x7 + (1 : Int32)))]) dX8_more_129 rfl ic_1 rfl ?_
          refine mx_goto (tgt := 56) dX8_more_132 rfl ?_
          exact mx_weak (al' := [some (rv a0), some (iv x1), some (iv x2), some (iv x3), some (iv x4), some (jv x5), none, some (iv (x7 + (1 : Int32)))]) ⟨rfl, ⟨rfl, ⟨rfl, ⟨rfl, ⟨rfl, ⟨rfl, ⟨rfl, trivial⟩⟩⟩⟩⟩⟩⟩ H
        · have H := H.2 c10
          refine mx_aload_n dX8_more_98 rfl rfl ?_
          refine mx_get 8 21 (ref := "PrairiePoolModel") cl_8 (Nat.le_of_ble_eq_true rfl) (Or.inl q1648) (Or.inl rfl) dX8_more_99 (fv_8_21 _ _) (ly8_k La0_h) ?_
          refine mx_tr (ly8_R_0_21 La0_h) ?_
          refine mx_iload dX8_more_102 rfl ?_
          refine my_iald dX8_more_104 rfl (ly8_A_14 La0_h k7) ?_
          refine mx_iload_n dX8_more_105 rfl rfl ?_
          refine mx_icmp_ne (tgt := 129) dX8_more_106 rfl (fun c11 => ?_) (fun c11 => ?_)
          · have H := H.1 c11
            refine mx_iinc (al' := [some (rv a0), some (iv x1), some (iv x2), some (iv x3), some (iv x4), some (jv x5), none, some (iv (x7 + (1 : Int32)))]) dX8_more_129 rfl ic_1 rfl ?_
            refine mx_goto (tgt := 56) dX8_more_132 rfl ?_
            exact mx_weak (al' := [some (rv a0), some (iv x1), some (iv x2), some (iv x3), some (iv x4), some (jv x5), none, some (iv (x7 + (1 : Int32)))]) ⟨rfl, ⟨rfl, ⟨rfl, ⟨rfl, ⟨rfl, ⟨rfl, ⟨rfl, trivial⟩⟩⟩⟩⟩⟩⟩ H
          · have H := H.2 c11
            refine mx_lload dX8_more_109 rfl ?_
            refine mx_aload_n dX8_more_111 rfl rfl ?_
            refine mx_iload dX8_more_112 rfl ?_
            refine mx_callV 8 (y' := mi_X8_net) (vs := [iv x7]) (st := [jv x5]) (al' := [some (rv a0), some (iv x7)]) cl_8 V_X8_net (Or.inl q2071) dX8_more_114 rfl rfl (Nat.le_of_ble_eq_true rfl) (Nat.le_of_ble_eq_true rfl) (ly8_k La0_h) ?_
            refine mx_aload_n dX8_net_0 rfl rfl ?_
            refine mx_get 8 22 (ref := "PrairiePoolModel") cl_8 (Nat.le_of_ble_eq_true rfl) (Or.inl q1649) (Or.inl rfl) dX8_net_1 (fv_8_22 _ _) (ly8_k La0_h) ?_
            refine mx_tr (ly8_R_0_22 La0_h) ?_
            refine mx_iload_n dX8_net_4 rfl rfl ?_
            refine my_iald dX8_net_5 rfl (ly8_A_15 La0_h k7) ?_
            refine mx_aload_n dX8_net_6 rfl rfl ?_
            refine mx_get 8 22 (ref := "PrairiePoolModel") cl_8 (Nat.le_of_ble_eq_true rfl) (Or.inl q1649) (Or.inl rfl) dX8_net_7 (fv_8_22 _ _) (ly8_k La0_h) ?_
            refine mx_tr (ly8_R_0_22 La0_h) ?_
            refine mx_iload_n dX8_net_10 rfl rfl ?_
            refine my_iald dX8_net_11 rfl (ly8_A_15 La0_h k7) ?_
            refine mx_aload_n dX8_net_12 rfl rfl ?_
            refine mx_get 8 23 (ref := "PrairiePoolModel") cl_8 (Nat.le_of_ble_eq_true rfl) (Or.inl q1650) (Or.inl rfl) dX8_net_13 (fv_8_23 _ _) (ly8_k La0_h) ?_
            refine mx_tr (ly8_R_0_23 La0_h) ?_
            refine mx_iload_n dX8_net_16 rfl rfl ?_
            refine my_iald dX8_net_17 rfl (ly8_A_16 La0_h k7) ?_
            refine mx_imul dX8_net_18 ?_
            refine mx_sipush dX8_net_19 is_1000 ?_
            refine mx_idiv dX8_net_22 (by decide) ?_
            refine mx_isub dX8_net_23 ?_
            refine mx_iretK rfl dX8_net_24 ?_
            refine mx_aload_n dX8_more_117 rfl rfl ?_
            refine mx_get 8 32 (ref := "PrairiePoolModel") cl_8 (Nat.le_of_ble_eq_true rfl) (Or.inl q1659) (Or.inl rfl) dX8_more_118 (fv_8_32 _ _) (ly8_k La0_h) ?_
            refine mx_tr (ly8_R_0_32 La0_h) ?_
            refine mx_iload dX8_more_121 rfl ?_
            refine my_iald dX8_more_123 rfl (ly8_A_25 La0_h k7) ?_
            refine mx_isub dX8_more_124 ?_
            refine mx_i2l dX8_more_125 ?_
            refine mx_ladd dX8_more_126 ?_
            refine mx_lstore (al' := [some (rv a0), some (iv x1), some (iv x2), some (iv x3), some (iv x4), some (jv (x5 + (((ah_I h (a0 + 15) x7.toNatClampNeg) - (((ah_I h (a0 + 15) x7.toNatClampNeg) * (ah_I h (a0 + 16) x7.toNatClampNeg)) / (1000 : Int32))) - (ah_I h (a0 + 25) x7.toNatClampNeg)).toInt64)), none, some (iv x7)]) dX8_more_127 (Nat.le_of_ble_eq_true rfl) rfl ?_
            refine mx_iinc (al' := [some (rv a0), some (iv x1), some (iv x2), some (iv x3), some (iv x4), some (jv (x5 + (((ah_I h (a0 + 15) x7.toNatClampNeg) - (((ah_I h (a0 + 15) x7.toNatClampNeg) * (ah_I h (a0 + 16) x7.toNatClampNeg)) / (1000 : Int32))) - (ah_I h (a0 + 25) x7.toNatClampNeg)).toInt64)), none, some (iv (x7 + (1 : Int32)))]) dX8_more_129 rfl ic_1 rfl ?_
            refine mx_goto (tgt := 56) dX8_more_132 rfl ?_
            exact mx_weak (al' := [some (rv a0), some (iv x1), some (iv x2), some (iv x3), some (iv x4), some (jv (x5 + (((ah_I h (a0 + 15) x7.toNatClampNeg) - (((ah_I h (a0 + 15) x7.toNatClampNeg) * (ah_I h (a0 + 16) x7.toNatClampNeg)) / (1000 : Int32))) - (ah_I h (a0 + 25) x7.toNatClampNeg)).toInt64)), none, some (iv (x7 + (1 : Int32)))]) ⟨rfl, ⟨rfl, ⟨rfl, ⟨rfl, ⟨rfl, ⟨rfl, ⟨rfl, trivial⟩⟩⟩⟩⟩⟩⟩ H
theorem dX8_vote_0 : decode mi_X8_vote.2.1 0 = .ok (.aload_n 0, 1) := by decide +kernel
theorem dX8_vote_1 : decode mi_X8_vote.2.1 1 = .ok (.iconst 0, 1) := by decide +kernel
theorem dX8_vote_2 : decode mi_X8_vote.2.1 2 = .ok (.putfield 257, 3) := by decide +kernel
theorem dX8_vote_5 : decode mi_X8_vote.2.1 5 = .ok (.aload_n 0, 1) := by decide +kernel
theorem dX8_vote_6 : decode mi_X8_vote.2.1 6 = .ok (.iconst 0, 1) := by decide +kernel
theorem dX8_vote_7 : decode mi_X8_vote.2.1 7 = .ok (.putfield 260, 3) := by decide +kernel
theorem dX8_vote_10 : decode mi_X8_vote.2.1 10 = .ok (.aload_n 0, 1) := by decide +kernel
theorem dX8_vote_11 : decode mi_X8_vote.2.1 11 = .ok (.iload_n 1, 1) := by decide +kernel
theorem dX8_vote_12 : decode mi_X8_vote.2.1 12 = .ok (.invokevirtual 318, 3) := by decide +kernel
theorem dX8_vote_15 : decode mi_X8_vote.2.1 15 = .ok (.ifCond .ne 9, 3) := by decide +kernel
theorem dX8_vote_18 : decode mi_X8_vote.2.1 18 = .ok (.aload_n 0, 1) := by decide +kernel
theorem dX8_vote_19 : decode mi_X8_vote.2.1 19 = .ok (.iconst 2, 1) := by decide +kernel
theorem dX8_vote_20 : decode mi_X8_vote.2.1 20 = .ok (.invokevirtual 273, 3) := by decide +kernel
theorem dX8_vote_23 : decode mi_X8_vote.2.1 23 = .ok (.ireturn, 1) := by decide +kernel
theorem dX8_vote_24 : decode mi_X8_vote.2.1 24 = .ok (.iload_n 2, 1) := by decide +kernel
theorem dX8_vote_25 : decode mi_X8_vote.2.1 25 = .ok (.i2l, 1) := by decide +kernel
theorem dX8_vote_26 : decode mi_X8_vote.2.1 26 = .ok (.ldc2_w 289, 3) := by decide +kernel
theorem dX8_vote_29 : decode mi_X8_vote.2.1 29 = .ok (.lconst 1, 1) := by decide +kernel
theorem dX8_vote_30 : decode mi_X8_vote.2.1 30 = .ok (.invokestatic 265, 3) := by decide +kernel
theorem dX8_vote_33 : decode mi_X8_vote.2.1 33 = .ok (.ifCond .ne 9, 3) := by decide +kernel
theorem dX8_vote_36 : decode mi_X8_vote.2.1 36 = .ok (.aload_n 0, 1) := by decide +kernel
theorem dX8_vote_37 : decode mi_X8_vote.2.1 37 = .ok (.iconst 5, 1) := by decide +kernel
theorem dX8_vote_38 : decode mi_X8_vote.2.1 38 = .ok (.invokevirtual 273, 3) := by decide +kernel
theorem dX8_vote_41 : decode mi_X8_vote.2.1 41 = .ok (.ireturn, 1) := by decide +kernel
theorem dX8_vote_42 : decode mi_X8_vote.2.1 42 = .ok (.aload_n 0, 1) := by decide +kernel
theorem dX8_vote_43 : decode mi_X8_vote.2.1 43 = .ok (.getfield 182, 3) := by decide +kernel
theorem dX8_vote_46 : decode mi_X8_vote.2.1 46 = .ok (.iload_n 1, 1) := by decide +kernel
theorem dX8_vote_47 : decode mi_X8_vote.2.1 47 = .ok (.iload_n 2, 1) := by decide +kernel
theorem dX8_vote_48 : decode mi_X8_vote.2.1 48 = .ok (.iastore, 1) := by decide +kernel
theorem dX8_vote_49 : decode mi_X8_vote.2.1 49 = .ok (.iconst 1, 1) := by decide +kernel
theorem dX8_vote_50 : decode mi_X8_vote.2.1 50 = .ok (.ireturn, 1) := by decide +kernel
theorem v_X8_vote {G : ma_G} {d : Nat} {a0 : Nat} {x1 : Int32} {x2 : Int32} {h : ah_T} {Q : Option ma_V → ah_T → Prop} {E : Nat → ah_T → Prop} (La0_h : LY8 h a0) (H : ∀ h1 : ah_T, h1 = ah_wI h a0 1 (0 : Int32) → ah_ext h h1 → ∀ h2 : ah_T, h2 = ah_wI h1 a0 0 (0 : Int32) → ah_ext h1 h2 → (x1.toInt64 < (0 : Int64) → ∀ h4 : ah_T, h4 = ah_wI h2 a0 0 (2 : Int32) → ah_ext h2 h4 → Q (some (iv (0 : Int32))) h4) ∧ (¬ x1.toInt64 < (0 : Int64) → (((ah_I h a0 5) - (1 : Int32)).toInt64 < x1.toInt64 → ∀ h6 : ah_T, h6 = ah_wI h2 a0 0 (2 : Int32) → ah_ext h2 h6 → Q (some (iv (0 : Int32))) h6) ∧ (¬ ((ah_I h a0 5) - (1 : Int32)).toInt64 < x1.toInt64 → (x2.toInt64 < (-1 : Int64) → ∀ h8 : ah_T, h8 = ah_wI h2 a0 0 (5 : Int32) → ah_ext h2 h8 → Q (some (iv (0 : Int32))) h8) ∧ (¬ x2.toInt64 < (-1 : Int64) → ((1 : Int64) < x2.toInt64 → ∀ h10 : ah_T, h10 = ah_wI h2 a0 0 (5 : Int32) → ah_ext h2 h10 → Q (some (iv (0 : Int32))) h10) ∧ (¬ (1 : Int64) < x2.toInt64 → vp_in x1 20 ∧ ∀ h12 : ah_T, h12 = ah_wI h2 (a0 + 55) x1.toNatClampNeg x2 → ah_ext h2 h12 → Q (some (iv (1 : Int32))) h12))))) : MX G mi_X8_vote (d + 2) 0 [some (rv a0), some (iv x1), some (iv x2)] [] h Q E := by
  refine mx_aload_n dX8_vote_0 rfl rfl ?_
  refine mx_iconst dX8_vote_1 ic_0 ?_
  refine mx_putI 8 1 (ref := "PrairiePoolModel") cl_8 (Nat.le_of_ble_eq_true rfl) (Or.inl q1628) (Or.inl rfl) dX8_vote_2 (Or.inl rfl) rfl (ly8_k La0_h) ?_
  refine mx_nmI  (fun h1 eh1 Xh1 Kh1 Lh1 => ?_)
  have H := H h1 eh1 Xh1
  have La0_h1 := La0_h.ext Xh1
  refine mx_aload_n dX8_vote_5 rfl rfl ?_
  refine mx_iconst dX8_vote_6 ic_0 ?_
  refine mx_putI 8 0 (ref := "PrairiePoolModel") cl_8 (Nat.le_of_ble_eq_true rfl) (Or.inl q1627) (Or.inl rfl) dX8_vote_7 (Or.inl rfl) rfl (ly8_k La0_h1) ?_
  refine mx_nmI  (fun h2 eh2 Xh2 Kh2 Lh2 => ?_)
  have H := H h2 eh2 Xh2
  have Kh2 := Kh2.trans Kh1
  have Lh2 := Lh2.trans Lh1
  have La0_h2 := La0_h1.ext Xh2
  refine mx_aload_n dX8_vote_10 rfl rfl ?_
  refine mx_iload_n dX8_vote_11 rfl rfl ?_
  refine mx_callV 8 (y' := mi_X8_isFarm) (vs := [iv x1]) (st := []) (al' := [some (rv a0), some (iv x1)]) cl_8 V_X8_isFarm (Or.inl q2014) dX8_vote_12 rfl rfl (Nat.le_of_ble_eq_true rfl) (Nat.le_of_ble_eq_true rfl) (ly8_k La0_h2) ?_
  refine mx_iload_n dX8_isFarm_0 rfl rfl ?_
  refine mx_i2l dX8_isFarm_1 ?_
  refine mx_lconst dX8_isFarm_2 lc_0 ?_
  refine mx_aload_n dX8_isFarm_3 rfl rfl ?_
  refine mx_get 8 5 (ref := "PrairiePoolModel") cl_8 (Nat.le_of_ble_eq_true rfl) (Or.inl q1632) (Or.inl rfl) dX8_isFarm_4 (fv_8_5 _ _) (ly8_k La0_h2) ?_
  refine mx_ti ((ah_skIK eh2 (by decide)).trans (ah_skIK eh1 (by decide))) ?_
  refine mx_iconst dX8_isFarm_7 ic_1 ?_
  refine mx_isub dX8_isFarm_8 ?_
  refine mx_i2l dX8_isFarm_9 ?_
  refine mx_callS (y' := mi_X8_isIn) (vs := [jv x1.toInt64, jv (0 : Int64), jv ((ah_I h a0 5) - (1 : Int32)).toInt64]) (st := []) (al' := [some (jv x1.toInt64), none, some (jv (0 : Int64)), none, some (jv ((ah_I h a0 5) - (1 : Int32)).toInt64), none]) S_X8_isIn q1996 dX8_isFarm_10 rfl rfl (Nat.le_of_ble_eq_true rfl) (Nat.le_of_ble_eq_true rfl) ?_
  refine mx_lload_n dX8_isIn_0 rfl rfl ?_
  refine mx_lload_n dX8_isIn_1 rfl rfl ?_
  refine mx_lif_lt (tgt := 17) dX8_isIn_2 dX8_isIn_3 rfl (fun c3 => ?_) (fun c3 => ?_)
  · have H := H.1 c3
    refine mx_iconst dX8_isIn_17 ic_0 ?_
    refine mx_zretK rfl dX8_isIn_18 (Or.inl rfl) ?_
    refine mx_zretK rfl dX8_isFarm_13 (Or.inl rfl) ?_
    refine mx_if_ne (tgt := 24) dX8_vote_15 rfl (fun _ => absurd ‹_› (by decide)) (fun _ => ?_)
    refine mx_aload_n dX8_vote_18 rfl rfl ?_
    refine mx_iconst dX8_vote_19 ic_2 ?_
    refine mx_callV 8 (y' := mi_X8_no) (vs := [iv (2 : Int32)]) (st := []) (al' := [some (rv a0), some (iv (2 : Int32))]) cl_8 V_X8_no (Or.inl q1963) dX8_vote_20 rfl rfl (Nat.le_of_ble_eq_true rfl) (Nat.le_of_ble_eq_true rfl) (ly8_k La0_h2) ?_
    refine mx_aload_n dX8_no_0 rfl rfl ?_
    refine mx_iload_n dX8_no_1 rfl rfl ?_
    refine mx_putI 8 0 (ref := "PrairiePoolModel") cl_8 (Nat.le_of_ble_eq_true rfl) (Or.inl q1627) (Or.inl rfl) dX8_no_2 (Or.inl rfl) rfl (ly8_k La0_h2) ?_
    refine mx_nmI  (fun h4 eh4 Xh4 Kh4 Lh4 => ?_)
    have H := H h4 eh4 Xh4
    have Kh4 := Kh4.trans Kh2
    have Lh4 := Lh4.trans Lh2
    have La0_h4 := La0_h2.ext Xh4
    refine mx_iconst dX8_no_5 ic_0 ?_
    refine mx_zretK rfl dX8_no_6 (Or.inl rfl) ?_
    exact mx_zret rfl dX8_vote_23 (Or.inl rfl) H
  · have H := H.2 c3
    refine mx_lload_n dX8_isIn_6 rfl rfl ?_
    refine mx_lload dX8_isIn_7 rfl ?_
    refine mx_lif_gt (tgt := 17) dX8_isIn_9 dX8_isIn_10 rfl (fun c5 => ?_) (fun c5 => ?_)
    · have H := H.1 c5
      refine mx_iconst dX8_isIn_17 ic_0 ?_
      refine mx_zretK rfl dX8_isIn_18 (Or.inl rfl) ?_
      refine mx_zretK rfl dX8_isFarm_13 (Or.inl rfl) ?_
      refine mx_if_ne (tgt := 24) dX8_vote_15 rfl (fun _ => absurd ‹_› (by decide)) (fun _ => ?_)
      refine mx_aload_n dX8_vote_18 rfl rfl ?_
      refine mx_iconst dX8_vote_19 ic_2 ?_
      refine mx_callV 8 (y' := mi_X8_no) (vs := [iv (2 : Int32)]) (st := []) (al' := [some (rv a0), some (iv (2 : Int32))]) cl_8 V_X8_no (Or.inl q1963) dX8_vote_20 rfl rfl (Nat.le_of_ble_eq_true rfl) (Nat.le_of_ble_eq_true rfl) (ly8_k La0_h2) ?_
      refine mx_aload_n dX8_no_0 rfl rfl ?_
      refine mx_iload_n dX8_no_1 rfl rfl ?_
      refine mx_putI 8 0 (ref := "PrairiePoolModel") cl_8 (Nat.le_of_ble_eq_true rfl) (Or.inl q1627) (Or.inl rfl) dX8_no_2 (Or.inl rfl) rfl (ly8_k La0_h2) ?_
      refine mx_nmI  (fun h6 eh6 Xh6 Kh6 Lh6 => ?_)
      have H := H h6 eh6 Xh6
      have Kh6 := Kh6.trans Kh2
      have Lh6 := Lh6.trans Lh2
      have La0_h6 := La0_h2.ext Xh6
      refine mx_iconst dX8_no_5 ic_0 ?_
      refine mx_zretK rfl dX8_no_6 (Or.inl rfl) ?_
      exact mx_zret rfl dX8_vote_23 (Or.inl rfl) H
    · have H := H.2 c5
      refine mx_iconst dX8_isIn_13 ic_1 ?_
      refine mx_goto (tgt := 18) dX8_isIn_14 rfl ?_
      refine mx_zretK rfl dX8_isIn_18 (Or.inr rfl) ?_
      refine mx_zretK rfl dX8_isFarm_13 (Or.inr rfl) ?_
      refine mx_if_ne (tgt := 24) dX8_vote_15 rfl (fun _ => ?_) (fun _ => absurd ‹_› (by decide))
      refine mx_iload_n dX8_vote_24 rfl rfl ?_
      refine mx_i2l dX8_vote_25 ?_
      refine mx_ldc2 q1986 dX8_vote_26 ?_
      refine mx_lconst dX8_vote_29 lc_1 ?_
      refine mx_callS (y' := mi_X8_isIn) (vs := [jv x2.toInt64, jv (-1 : Int64), jv (1 : Int64)]) (st := []) (al' := [some (jv x2.toInt64), none, some (jv (-1 : Int64)), none, some (jv (1 : Int64)), none]) S_X8_isIn q1996 dX8_vote_30 rfl rfl (Nat.le_of_ble_eq_true rfl) (Nat.le_of_ble_eq_true rfl) ?_
      refine mx_lload_n dX8_isIn_0 rfl rfl ?_
      refine mx_lload_n dX8_isIn_1 rfl rfl ?_
      refine mx_lif_lt (tgt := 17) dX8_isIn_2 dX8_isIn_3 rfl (fun c7 => ?_) (fun c7 => ?_)
      · have H := H.1 c7
        refine mx_iconst dX8_isIn_17 ic_0 ?_
        refine mx_zretK rfl dX8_isIn_18 (Or.inl rfl) ?_
        refine mx_if_ne (tgt := 42) dX8_vote_33 rfl (fun _ => absurd ‹_› (by decide)) (fun _ => ?_)
        refine mx_aload_n dX8_vote_36 rfl rfl ?_
        refine mx_iconst dX8_vote_37 ic_5 ?_
        refine mx_callV 8 (y' := mi_X8_no) (vs := [iv (5 : Int32)]) (st := []) (al' := [some (rv a0), some (iv (5 : Int32))]) cl_8 V_X8_no (Or.inl q1963) dX8_vote_38 rfl rfl (Nat.le_of_ble_eq_true rfl) (Nat.le_of_ble_eq_true rfl) (ly8_k La0_h2) ?_
        refine mx_aload_n dX8_no_0 rfl rfl ?_
        refine mx_iload_n dX8_no_1 rfl rfl ?_
        refine mx_putI 8 0 (ref := "PrairiePoolModel") cl_8 (Nat.le_of_ble_eq_true rfl) (Or.inl q1627) (Or.inl rfl) dX8_no_2 (Or.inl rfl) rfl (ly8_k La0_h2) ?_
        refine mx_nmI  (fun h8 eh8 Xh8 Kh8 Lh8 => ?_)
        have H := H h8 eh8 Xh8
        have Kh8 := Kh8.trans Kh2
        have Lh8 := Lh8.trans Lh2
        have La0_h8 := La0_h2.ext Xh8
        refine mx_iconst dX8_no_5 ic_0 ?_
        refine mx_zretK rfl dX8_no_6 (Or.inl rfl) ?_
        exact mx_zret rfl dX8_vote_41 (Or.inl rfl) H
      · have H := H.2 c7
        refine mx_lload_n dX8_isIn_6 rfl rfl ?_
        refine mx_lload dX8_isIn_7 rfl ?_
        refine mx_lif_gt (tgt := 17) dX8_isIn_9 dX8_isIn_10 rfl (fun c9 => ?_) (fun c9 => ?_)
        · have H := H.1 c9
          refine mx_iconst dX8_isIn_17 ic_0 ?_
          refine mx_zretK rfl dX8_isIn_18 (Or.inl rfl) ?_
          refine mx_if_ne (tgt := 42) dX8_vote_33 rfl (fun _ => absurd ‹_› (by decide)) (fun _ => ?_)
          refine mx_aload_n dX8_vote_36 rfl rfl ?_
          refine mx_iconst dX8_vote_37 ic_5 ?_
          refine mx_callV 8 (y' := mi_X8_no) (vs := [iv (5 : Int32)]) (st := []) (al' := [some (rv a0), some (iv (5 : Int32))]) cl_8 V_X8_no (Or.inl q1963) dX8_vote_38 rfl rfl (Nat.le_of_ble_eq_true rfl) (Nat.le_of_ble_eq_true rfl) (ly8_k La0_h2) ?_
          refine mx_aload_n dX8_no_0 rfl rfl ?_
          refine mx_iload_n dX8_no_1 rfl rfl ?_
          refine mx_putI 8 0 (ref := "PrairiePoolModel") cl_8 (Nat.le_of_ble_eq_true rfl) (Or.inl q1627) (Or.inl rfl) dX8_no_2 (Or.inl rfl) rfl (ly8_k La0_h2) ?_
          refine mx_nmI  (fun h10 eh10 Xh10 Kh10 Lh10 => ?_)
          have H := H h10 eh10 Xh10
          have Kh10 := Kh10.trans Kh2
          have Lh10 := Lh10.trans Lh2
          have La0_h10 := La0_h2.ext Xh10
          refine mx_iconst dX8_no_5 ic_0 ?_
          refine mx_zretK rfl dX8_no_6 (Or.inl rfl) ?_
          exact mx_zret rfl dX8_vote_41 (Or.inl rfl) H
        · have H := H.2 c9
          refine mx_iconst dX8_isIn_13 ic_1 ?_
          refine mx_goto (tgt := 18) dX8_isIn_14 rfl ?_
          refine mx_zretK rfl dX8_isIn_18 (Or.inr rfl) ?_
          refine mx_if_ne (tgt := 42) dX8_vote_33 rfl (fun _ => ?_) (fun _ => absurd ‹_› (by decide))
          refine mx_aload_n dX8_vote_42 rfl rfl ?_
          refine mx_get 8 81 (ref := "PrairiePoolModel") cl_8 (Nat.le_of_ble_eq_true rfl) (Or.inl q1708) (Or.inl rfl) dX8_vote_43 (fv_8_81 _ _) (ly8_k La0_h2) ?_
          refine mx_tr (ly8_R_0_81 La0_h2) ?_
          refine mx_iload_n dX8_vote_46 rfl rfl ?_
          refine mx_iload_n dX8_vote_47 rfl rfl ?_
          obtain ⟨k11, H⟩ := H
          refine my_iast dX8_vote_48 rfl (ly8_A_55 La0_h2 k11) ?_
          refine mx_nmI  (fun h12 eh12 Xh12 Kh12 Lh12 => ?_)
          have H := H h12 eh12 Xh12
          have Kh12 := Kh12.trans Kh2
          have Lh12 := Lh12.trans Lh2
          have La0_h12 := La0_h2.ext Xh12
          refine mx_iconst dX8_vote_49 ic_1 ?_
          exact mx_zret rfl dX8_vote_50 (Or.inr rfl) H
theorem dX8_result_0 : decode mi_X8_result.2.1 0 = .ok (.aload_n 0, 1) := by decide +kernel
theorem dX8_result_1 : decode mi_X8_result.2.1 1 = .ok (.iconst 0, 1) := by decide +kernel
theorem dX8_result_2 : decode mi_X8_result.2.1 2 = .ok (.putfield 257, 3) := by decide +kernel
theorem dX8_result_5 : decode mi_X8_result.2.1 5 = .ok (.aload_n 0, 1) := by decide +kernel
theorem dX8_result_6 : decode mi_X8_result.2.1 6 = .ok (.iconst 0, 1) := by decide +kernel
theorem dX8_result_7 : decode mi_X8_result.2.1 7 = .ok (.putfield 260, 3) := by decide +kernel
theorem dX8_result_10 : decode mi_X8_result.2.1 10 = .ok (.iload_n 1, 1) := by decide +kernel
theorem dX8_result_11 : decode mi_X8_result.2.1 11 = .ok (.i2l, 1) := by decide +kernel
theorem dX8_result_12 : decode mi_X8_result.2.1 12 = .ok (.ldc2_w 289, 3) := by decide +kernel
theorem dX8_result_15 : decode mi_X8_result.2.1 15 = .ok (.ldc2_w 271, 3) := by decide +kernel
theorem dX8_result_18 : decode mi_X8_result.2.1 18 = .ok (.invokestatic 265, 3) := by decide +kernel
theorem dX8_result_21 : decode mi_X8_result.2.1 21 = .ok (.ifCond .ne 9, 3) := by decide +kernel
theorem dX8_result_24 : decode mi_X8_result.2.1 24 = .ok (.aload_n 0, 1) := by decide +kernel
theorem dX8_result_25 : decode mi_X8_result.2.1 25 = .ok (.iconst 2, 1) := by decide +kernel
theorem dX8_result_26 : decode mi_X8_result.2.1 26 = .ok (.invokevirtual 297, 3) := by decide +kernel
theorem dX8_result_29 : decode mi_X8_result.2.1 29 = .ok (.ireturn, 1) := by decide +kernel
theorem dX8_result_30 : decode mi_X8_result.2.1 30 = .ok (.iload_n 2, 1) := by decide +kernel
theorem dX8_result_31 : decode mi_X8_result.2.1 31 = .ok (.invokestatic 306, 3) := by decide +kernel
theorem dX8_result_34 : decode mi_X8_result.2.1 34 = .ok (.ifCond .ne 9, 3) := by decide +kernel
theorem dX8_result_37 : decode mi_X8_result.2.1 37 = .ok (.aload_n 0, 1) := by decide +kernel
theorem dX8_result_38 : decode mi_X8_result.2.1 38 = .ok (.iconst 5, 1) := by decide +kernel
theorem dX8_result_39 : decode mi_X8_result.2.1 39 = .ok (.invokevirtual 297, 3) := by decide +kernel
theorem dX8_result_42 : decode mi_X8_result.2.1 42 = .ok (.ireturn, 1) := by decide +kernel
theorem dX8_result_43 : decode mi_X8_result.2.1 43 = .ok (.aload_n 0, 1) := by decide +kernel
theorem dX8_result_44 : decode mi_X8_result.2.1 44 = .ok (.iload_n 2, 1) := by decide +kernel
theorem dX8_result_45 : decode mi_X8_result.2.1 45 = .ok (.invokevirtual 641, 3) := by decide +kernel
theorem dX8_result_48 : decode mi_X8_result.2.1 48 = .ok (.iload_n 1, 1) := by decide +kernel
theorem dX8_result_49 : decode mi_X8_result.2.1 49 = .ok (.iconst (-1), 1) := by decide +kernel
theorem dX8_result_50 : decode mi_X8_result.2.1 50 = .ok (.if_icmp .ne 13, 3) := by decide +kernel
theorem dX8_result_53 : decode mi_X8_result.2.1 53 = .ok (.aload_n 0, 1) := by decide +kernel
theorem dX8_result_54 : decode mi_X8_result.2.1 54 = .ok (.invokevirtual 644, 3) := by decide +kernel
theorem dX8_result_57 : decode mi_X8_result.2.1 57 = .ok (.ifCond .eq 26, 3) := by decide +kernel
theorem dX8_result_60 : decode mi_X8_result.2.1 60 = .ok (.goto 19, 3) := by decide +kernel
theorem dX8_result_63 : decode mi_X8_result.2.1 63 = .ok (.aload_n 0, 1) := by decide +kernel
theorem dX8_result_64 : decode mi_X8_result.2.1 64 = .ok (.getfield 215, 3) := by decide +kernel
theorem dX8_result_67 : decode mi_X8_result.2.1 67 = .ok (.iload_n 1, 1) := by decide +kernel
theorem dX8_result_68 : decode mi_X8_result.2.1 68 = .ok (.laload, 1) := by decide +kernel
theorem dX8_result_69 : decode mi_X8_result.2.1 69 = .ok (.aload_n 0, 1) := by decide +kernel
theorem dX8_result_70 : decode mi_X8_result.2.1 70 = .ok (.getfield 218, 3) := by decide +kernel
theorem dX8_result_73 : decode mi_X8_result.2.1 73 = .ok (.iload_n 1, 1) := by decide +kernel
theorem dX8_result_74 : decode mi_X8_result.2.1 74 = .ok (.laload, 1) := by decide +kernel
theorem dX8_result_75 : decode mi_X8_result.2.1 75 = .ok (.lcmp, 1) := by decide +kernel
theorem dX8_result_76 : decode mi_X8_result.2.1 76 = .ok (.ifCond .le 7, 3) := by decide +kernel
theorem dX8_result_79 : decode mi_X8_result.2.1 79 = .ok (.iconst 1, 1) := by decide +kernel
theorem dX8_result_80 : decode mi_X8_result.2.1 80 = .ok (.goto 4, 3) := by decide +kernel
theorem dX8_result_83 : decode mi_X8_result.2.1 83 = .ok (.iconst 0, 1) := by decide +kernel
theorem dX8_result_84 : decode mi_X8_result.2.1 84 = .ok (.ireturn, 1) := by decide +kernel
theorem v_X8_result {G : ma_G} {d : Nat} {a0 : Nat} {x1 : Int32} {x2 : Int32} {h : ah_T} {Q : Option ma_V → ah_T → Prop} {E : Nat → ah_T → Prop} (La0_h : LY8 h a0) (H : ∀ h1 : ah_T, h1 = ah_wI h a0 1 (0 : Int32) → ah_ext h h1 → ∀ h2 : ah_T, h2 = ah_wI h1 a0 0 (0 : Int32) → ah_ext h1 h2 → (x1.toInt64 < (-1 : Int64) → ∀ h4 : ah_T, h4 = ah_wI h2 a0 0 (2 : Int32) → ah_ext h2 h4 → Q (some (iv (-1 : Int32))) h4) ∧ (¬ x1.toInt64 < (-1 : Int64) → ((5 : Int64) < x1.toInt64 → ∀ h6 : ah_T, h6 = ah_wI h2 a0 0 (2 : Int32) → ah_ext h2 h6 → Q (some (iv (-1 : Int32))) h6) ∧ (¬ (5 : Int64) < x1.toInt64 → (x2.toInt64 < (0 : Int64) → ∀ h8 : ah_T, h8 = ah_wI h2 a0 0 (5 : Int32) → ah_ext h2 h8 → Q (some (iv (-1 : Int32))) h8) ∧ (¬ x2.toInt64 < (0 : Int64) → ((519 : Int64) < x2.toInt64 → ∀ h10 : ah_T, h10 = ah_wI h2 a0 0 (5 : Int32) → ah_ext h2 h10 → Q (some (iv (-1 : Int32))) h10) ∧ (¬ (519 : Int64) < x2.toInt64 → MX G mi_X8_findVotes (d + 1) 0 [some (rv a0), some (iv x2), none] [] h2 (Qv fun h11 => ah_ext h2 h11 → (¬ x1 = (-1 : Int32) → vp_in x1 6 ∧ ((ah_J h11 (a0 + 64) x1.toNatClampNeg) ≤ (ah_J h11 (a0 + 65) x1.toNatClampNeg) → Q (some (iv (0 : Int32))) h11) ∧ (¬ (ah_J h11 (a0 + 64) x1.toNatClampNeg) ≤ (ah_J h11 (a0 + 65) x1.toNatClampNeg) → Q (some (iv (1 : Int32))) h11)) ∧ (x1 = (-1 : Int32) → MX G mi_X8_isFor (d + 1) 0 [some (rv a0), none, none] [] h11 (Qi fun r17 h16 => ah_ext h11 h16 → (r17 = 0 → Q (some (iv (0 : Int32))) h16) ∧ (¬ r17 = 0 → Q (some (iv (1 : Int32))) h16)) E)) E))))) : MX G mi_X8_result (d + 2) 0 [some (rv a0), some (iv x1), some (iv x2)] [] h Q E := by
  refine mx_aload_n dX8_result_0 rfl rfl ?_
  refine mx_iconst dX8_result_1 ic_0 ?_
  refine mx_putI 8 1 (ref := "PrairiePoolModel") cl_8 (Nat.le_of_ble_eq_true rfl) (Or.inl q1628) (Or.inl rfl) dX8_result_2 (Or.inl rfl) rfl (ly8_k La0_h) ?_
  refine mx_nmI  (fun h1 eh1 Xh1 Kh1 Lh1 => ?_)
  have H := H h1 eh1 Xh1
  have La0_h1 := La0_h.ext Xh1
  refine mx_aload_n dX8_result_5 rfl rfl ?_
  refine mx_iconst dX8_result_6 ic_0 ?_
  refine mx_putI 8 0 (ref := "PrairiePoolModel") cl_8 (Nat.le_of_ble_eq_true rfl) (Or.inl q1627) (Or.inl rfl) dX8_result_7 (Or.inl rfl) rfl (ly8_k La0_h1) ?_
  refine mx_nmI  (fun h2 eh2 Xh2 Kh2 Lh2 => ?_)
  have H := H h2 eh2 Xh2
  have Kh2 := Kh2.trans Kh1
  have Lh2 := Lh2.trans Lh1
  have La0_h2 := La0_h1.ext Xh2
  refine mx_iload_n dX8_result_10 rfl rfl ?_
  refine mx_i2l dX8_result_11 ?_
  refine mx_ldc2 q1986 dX8_result_12 ?_
  refine mx_ldc2 q1995 dX8_result_15 ?_
  refine mx_callS (y' := mi_X8_isIn) (vs := [jv x1.toInt64, jv (-1 : Int64), jv (5 : Int64)]) (st := []) (al' := [some (jv x1.toInt64), none, some (jv (-1 : Int64)), none, some (jv (5 : Int64)), none]) S_X8_isIn q1996 dX8_result_18 rfl rfl (Nat.le_of_ble_eq_true rfl) (Nat.le_of_ble_eq_true rfl) ?_
  refine mx_lload_n dX8_isIn_0 rfl rfl ?_
  refine mx_lload_n dX8_isIn_1 rfl rfl ?_
  refine mx_lif_lt (tgt := 17) dX8_isIn_2 dX8_isIn_3 rfl (fun c3 => ?_) (fun c3 => ?_)
  · have H := H.1 c3
    refine mx_iconst dX8_isIn_17 ic_0 ?_
    refine mx_zretK rfl dX8_isIn_18 (Or.inl rfl) ?_
    refine mx_if_ne (tgt := 30) dX8_result_21 rfl (fun _ => absurd ‹_› (by decide)) (fun _ => ?_)
    refine mx_aload_n dX8_result_24 rfl rfl ?_
    refine mx_iconst dX8_result_25 ic_2 ?_
    refine mx_callV 8 (y' := mi_X8_refuse) (vs := [iv (2 : Int32)]) (st := []) (al' := [some (rv a0), some (iv (2 : Int32))]) cl_8 V_X8_refuse (Or.inl q1999) dX8_result_26 rfl rfl (Nat.le_of_ble_eq_true rfl) (Nat.le_of_ble_eq_true rfl) (ly8_k La0_h2) ?_
    refine mx_aload_n dX8_refuse_0 rfl rfl ?_
    refine mx_iload_n dX8_refuse_1 rfl rfl ?_
    refine mx_putI 8 0 (ref := "PrairiePoolModel") cl_8 (Nat.le_of_ble_eq_true rfl) (Or.inl q1627) (Or.inl rfl) dX8_refuse_2 (Or.inl rfl) rfl (ly8_k La0_h2) ?_
    refine mx_nmI  (fun h4 eh4 Xh4 Kh4 Lh4 => ?_)
    have H := H h4 eh4 Xh4
    have Kh4 := Kh4.trans Kh2
    have Lh4 := Lh4.trans Lh2
    have La0_h4 := La0_h2.ext Xh4
    refine mx_iconst dX8_refuse_5 ic_m1 ?_
    refine mx_iretK rfl dX8_refuse_6 ?_
    exact mx_iret rfl dX8_result_29 H
  · have H := H.2 c3
    refine mx_lload_n dX8_isIn_6 rfl rfl ?_
    refine mx_lload dX8_isIn_7 rfl ?_
    refine mx_lif_gt (tgt := 17) dX8_isIn_9 dX8_isIn_10 rfl (fun c5 => ?_) (fun c5 => ?_)
    · have H := H.1 c5
      refine mx_iconst dX8_isIn_17 ic_0 ?_
      refine mx_zretK rfl dX8_isIn_18 (Or.inl rfl) ?_
      refine mx_if_ne (tgt := 30) dX8_result_21 rfl (fun _ => absurd ‹_› (by decide)) (fun _ => ?_)
      refine mx_aload_n dX8_result_24 rfl rfl ?_
      refine mx_iconst dX8_result_25 ic_2 ?_
      refine mx_callV 8 (y' := mi_X8_refuse) (vs := [iv (2 : Int32)]) (st := []) (al' := [some (rv a0), some (iv (2 : Int32))]) cl_8 V_X8_refuse (Or.inl q1999) dX8_result_26 rfl rfl (Nat.le_of_ble_eq_true rfl) (Nat.le_of_ble_eq_true rfl) (ly8_k La0_h2) ?_
      refine mx_aload_n dX8_refuse_0 rfl rfl ?_
      refine mx_iload_n dX8_refuse_1 rfl rfl ?_
      refine mx_putI 8 0 (ref := "PrairiePoolModel") cl_8 (Nat.le_of_ble_eq_true rfl) (Or.inl q1627) (Or.inl rfl) dX8_refuse_2 (Or.inl rfl) rfl (ly8_k La0_h2) ?_
      refine mx_nmI  (fun h6 eh6 Xh6 Kh6 Lh6 => ?_)
      have H := H h6 eh6 Xh6
      have Kh6 := Kh6.trans Kh2
      have Lh6 := Lh6.trans Lh2
      have La0_h6 := La0_h2.ext Xh6
      refine mx_iconst dX8_refuse_5 ic_m1 ?_
      refine mx_iretK rfl dX8_refuse_6 ?_
      exact mx_iret rfl dX8_result_29 H
    · have H := H.2 c5
      refine mx_iconst dX8_isIn_13 ic_1 ?_
      refine mx_goto (tgt := 18) dX8_isIn_14 rfl ?_
      refine mx_zretK rfl dX8_isIn_18 (Or.inr rfl) ?_
      refine mx_if_ne (tgt := 30) dX8_result_21 rfl (fun _ => ?_) (fun _ => absurd ‹_› (by decide))
      refine mx_iload_n dX8_result_30 rfl rfl ?_
      refine mx_callS (y' := mi_X8_isDay) (vs := [iv x2]) (st := []) (al' := [some (iv x2)]) S_X8_isDay q2028 dX8_result_31 rfl rfl (Nat.le_of_ble_eq_true rfl) (Nat.le_of_ble_eq_true rfl) ?_
      refine mx_iload_n dX8_isDay_0 rfl rfl ?_
      refine mx_i2l dX8_isDay_1 ?_
      refine mx_lconst dX8_isDay_2 lc_0 ?_
      refine mx_ldc2 q2031 dX8_isDay_3 ?_
      refine mx_callS (y' := mi_X8_isIn) (vs := [jv x2.toInt64, jv (0 : Int64), jv (519 : Int64)]) (st := []) (al' := [some (jv x2.toInt64), none, some (jv (0 : Int64)), none, some (jv (519 : Int64)), none]) S_X8_isIn q1996 dX8_isDay_6 rfl rfl (Nat.le_of_ble_eq_true rfl) (Nat.le_of_ble_eq_true rfl) ?_
      refine mx_lload_n dX8_isIn_0 rfl rfl ?_
      refine mx_lload_n dX8_isIn_1 rfl rfl ?_
      refine mx_lif_lt (tgt := 17) dX8_isIn_2 dX8_isIn_3 rfl (fun c7 => ?_) (fun c7 => ?_)
      · have H := H.1 c7
        refine mx_iconst dX8_isIn_17 ic_0 ?_
        refine mx_zretK rfl dX8_isIn_18 (Or.inl rfl) ?_
        refine mx_zretK rfl dX8_isDay_9 (Or.inl rfl) ?_
        refine mx_if_ne (tgt := 43) dX8_result_34 rfl (fun _ => absurd ‹_› (by decide)) (fun _ => ?_)
        refine mx_aload_n dX8_result_37 rfl rfl ?_
        refine mx_iconst dX8_result_38 ic_5 ?_
        refine mx_callV 8 (y' := mi_X8_refuse) (vs := [iv (5 : Int32)]) (st := []) (al' := [some (rv a0), some (iv (5 : Int32))]) cl_8 V_X8_refuse (Or.inl q1999) dX8_result_39 rfl rfl (Nat.le_of_ble_eq_true rfl) (Nat.le_of_ble_eq_true rfl) (ly8_k La0_h2) ?_
        refine mx_aload_n dX8_refuse_0 rfl rfl ?_
        refine mx_iload_n dX8_refuse_1 rfl rfl ?_
        refine mx_putI 8 0 (ref := "PrairiePoolModel") cl_8 (Nat.le_of_ble_eq_true rfl) (Or.inl q1627) (Or.inl rfl) dX8_refuse_2 (Or.inl rfl) rfl (ly8_k La0_h2) ?_
        refine mx_nmI  (fun h8 eh8 Xh8 Kh8 Lh8 => ?_)
        have H := H h8 eh8 Xh8
        have Kh8 := Kh8.trans Kh2
        have Lh8 := Lh8.trans Lh2
        have La0_h8 := La0_h2.ext Xh8
        refine mx_iconst dX8_refuse_5 ic_m1 ?_
        refine mx_iretK rfl dX8_refuse_6 ?_
        exact mx_iret rfl dX8_result_42 H
      · have H := H.2 c7
        refine mx_lload_n dX8_isIn_6 rfl rfl ?_
        refine mx_lload dX8_isIn_7 rfl ?_
        refine mx_lif_gt (tgt := 17) dX8_isIn_9 dX8_isIn_10 rfl (fun c9 => ?_) (fun c9 => ?_)
        · have H := H.1 c9
          refine mx_iconst dX8_isIn_17 ic_0 ?_
          refine mx_zretK rfl dX8_isIn_18 (Or.inl rfl) ?_
          refine mx_zretK rfl dX8_isDay_9 (Or.inl rfl) ?_
          refine mx_if_ne (tgt := 43) dX8_result_34 rfl (fun _ => absurd ‹_› (by decide)) (fun _ => ?_)
          refine mx_aload_n dX8_result_37 rfl rfl ?_
          refine mx_iconst dX8_result_38 ic_5 ?_
          refine mx_callV 8 (y' := mi_X8_refuse) (vs := [iv (5 : Int32)]) (st := []) (al' := [some (rv a0), some (iv (5 : Int32))]) cl_8 V_X8_refuse (Or.inl q1999) dX8_result_39 rfl rfl (Nat.le_of_ble_eq_true rfl) (Nat.le_of_ble_eq_true rfl) (ly8_k La0_h2) ?_
          refine mx_aload_n dX8_refuse_0 rfl rfl ?_
          refine mx_iload_n dX8_refuse_1 rfl rfl ?_
          refine mx_putI 8 0 (ref := "PrairiePoolModel") cl_8 (Nat.le_of_ble_eq_true rfl) (Or.inl q1627) (Or.inl rfl) dX8_refuse_2 (Or.inl rfl) rfl (ly8_k La0_h2) ?_
          refine mx_nmI  (fun h10 eh10 Xh10 Kh10 Lh10 => ?_)
          have H := H h10 eh10 Xh10
          have Kh10 := Kh10.trans Kh2
          have Lh10 := Lh10.trans Lh2
          have La0_h10 := La0_h2.ext Xh10
          refine mx_iconst dX8_refuse_5 ic_m1 ?_
          refine mx_iretK rfl dX8_refuse_6 ?_
          exact mx_iret rfl dX8_result_42 H
        · have H := H.2 c9
          refine mx_iconst dX8_isIn_13 ic_1 ?_
          refine mx_goto (tgt := 18) dX8_isIn_14 rfl ?_
          refine mx_zretK rfl dX8_isIn_18 (Or.inr rfl) ?_
          refine mx_zretK rfl dX8_isDay_9 (Or.inr rfl) ?_
          refine mx_if_ne (tgt := 43) dX8_result_34 rfl (fun _ => ?_) (fun _ => absurd ‹_› (by decide))
          refine mx_aload_n dX8_result_43 rfl rfl ?_
          refine mx_iload_n dX8_result_44 rfl rfl ?_
          refine mx_callV 8 (y' := mi_X8_findVotes) (vs := [iv x2]) (st := []) (al' := [some (rv a0), some (iv x2), none]) cl_8 V_X8_findVotes (Or.inl q2410) dX8_result_45 rfl rfl (Nat.le_of_ble_eq_true rfl) (Nat.le_of_ble_eq_true rfl) (ly8_k La0_h2) ?_
          refine ma_kv H (fun h11 Xh11 H => ?_) (fun x1 h1 X1 H => mt_out rfl H)
          have H := H Xh11
          have La0_h11 := La0_h2.ext Xh11
          refine mx_iload_n dX8_result_48 rfl rfl ?_
          refine mx_iconst dX8_result_49 ic_m1 ?_
          refine mx_icmp_ne (tgt := 63) dX8_result_50 rfl (fun c13 => ?_) (fun c13 => ?_)
          · have H := H.1 c13
            refine mx_aload_n dX8_result_63 rfl rfl ?_
            refine mx_get 8 93 (ref := "PrairiePoolModel") cl_8 (Nat.le_of_ble_eq_true rfl) (Or.inl q1720) (Or.inl rfl) dX8_result_64 (fv_8_93 _ _) (ly8_k La0_h11) ?_
            refine mx_tr (ly8_R_0_93 La0_h11) ?_
            refine mx_iload_n dX8_result_67 rfl rfl ?_
            obtain ⟨k14, H⟩ := H
            refine my_lald dX8_result_68 rfl (ly8_A_64 La0_h11 k14) ?_
            refine mx_aload_n dX8_result_69 rfl rfl ?_
            refine mx_get 8 94 (ref := "PrairiePoolModel") cl_8 (Nat.le_of_ble_eq_true rfl) (Or.inl q1721) (Or.inl rfl) dX8_result_70 (fv_8_94 _ _) (ly8_k La0_h11) ?_
            refine mx_tr (ly8_R_0_94 La0_h11) ?_
            refine mx_iload_n dX8_result_73 rfl rfl ?_
            refine my_lald dX8_result_74 rfl (ly8_A_65 La0_h11 k14) ?_
            refine mx_lif_le (tgt := 83) dX8_result_75 dX8_result_76 rfl (fun c15 => ?_) (fun c15 => ?_)
            · have H := H.1 c15
              refine mx_iconst dX8_result_83 ic_0 ?_
              exact mx_iret rfl dX8_result_84 H
            · have H := H.2 c15
              refine mx_iconst dX8_result_79 ic_1 ?_
              refine mx_goto (tgt := 84) dX8_result_80 rfl ?_
              exact mx_iret rfl dX8_result_84 H
          · have H := H.2 c13
            refine mx_aload_n dX8_result_53 rfl rfl ?_
            refine mx_callV 8 (y' := mi_X8_isFor) (vs := []) (st := []) (al' := [some (rv a0), none, none]) cl_8 V_X8_isFor (Or.inl q2414) dX8_result_54 rfl rfl (Nat.le_of_ble_eq_true rfl) (Nat.le_of_ble_eq_true rfl) (ly8_k La0_h11) ?_
            refine ma_ki H (fun r17 h16 Xh16 H => ?_) (fun x1 h1 X1 H => mt_out rfl H)
            have H := H Xh16
            have La0_h16 := La0_h11.ext Xh16
            refine mx_if_eq (tgt := 83) dX8_result_57 rfl (fun c18 => ?_) (fun c18 => ?_)
            · have H := H.1 c18
              refine mx_iconst dX8_result_83 ic_0 ?_
              exact mx_iret rfl dX8_result_84 H
            · have H := H.2 c18
              refine mx_goto (tgt := 79) dX8_result_60 rfl ?_
              refine mx_iconst dX8_result_79 ic_1 ?_
              refine mx_goto (tgt := 84) dX8_result_80 rfl ?_
              exact mx_iret rfl dX8_result_84 H
theorem dX8_findVotes_0 : decode mi_X8_findVotes.2.1 0 = .ok (.iconst 0, 1) := by decide +kernel
theorem dX8_findVotes_1 : decode mi_X8_findVotes.2.1 1 = .ok (.istore_n 2, 1) := by decide +kernel
theorem dX8_findVotes_2 : decode mi_X8_findVotes.2.1 2 = .ok (.iload_n 2, 1) := by decide +kernel
theorem dX8_findVotes_3 : decode mi_X8_findVotes.2.1 3 = .ok (.aload_n 0, 1) := by decide +kernel
theorem dX8_findVotes_4 : decode mi_X8_findVotes.2.1 4 = .ok (.getfield 291, 3) := by decide +kernel
theorem dX8_findVotes_7 : decode mi_X8_findVotes.2.1 7 = .ok (.if_icmp .ge 106, 3) := by decide +kernel
theorem dX8_findVotes_10 : decode mi_X8_findVotes.2.1 10 = .ok (.aload_n 0, 1) := by decide +kernel
theorem dX8_findVotes_11 : decode mi_X8_findVotes.2.1 11 = .ok (.invokevirtual 344, 3) := by decide +kernel
theorem dX8_findVotes_14 : decode mi_X8_findVotes.2.1 14 = .ok (.aload_n 0, 1) := by decide +kernel
theorem dX8_findVotes_15 : decode mi_X8_findVotes.2.1 15 = .ok (.getfield 151, 3) := by decide +kernel
theorem dX8_findVotes_18 : decode mi_X8_findVotes.2.1 18 = .ok (.iconst 2, 1) := by decide +kernel
theorem dX8_findVotes_19 : decode mi_X8_findVotes.2.1 19 = .ok (.iload_n 1, 1) := by decide +kernel
theorem dX8_findVotes_20 : decode mi_X8_findVotes.2.1 20 = .ok (.i2l, 1) := by decide +kernel
theorem dX8_findVotes_21 : decode mi_X8_findVotes.2.1 21 = .ok (.lastore, 1) := by decide +kernel
theorem dX8_findVotes_22 : decode mi_X8_findVotes.2.1 22 = .ok (.aload_n 0, 1) := by decide +kernel
theorem dX8_findVotes_23 : decode mi_X8_findVotes.2.1 23 = .ok (.getfield 151, 3) := by decide +kernel
theorem dX8_findVotes_26 : decode mi_X8_findVotes.2.1 26 = .ok (.iconst 3, 1) := by decide +kernel
theorem dX8_findVotes_27 : decode mi_X8_findVotes.2.1 27 = .ok (.iload_n 1, 1) := by decide +kernel
theorem dX8_findVotes_28 : decode mi_X8_findVotes.2.1 28 = .ok (.bipush 52, 2) := by decide +kernel
theorem dX8_findVotes_30 : decode mi_X8_findVotes.2.1 30 = .ok (.idiv, 1) := by decide +kernel
theorem dX8_findVotes_31 : decode mi_X8_findVotes.2.1 31 = .ok (.i2l, 1) := by decide +kernel
theorem dX8_findVotes_32 : decode mi_X8_findVotes.2.1 32 = .ok (.lastore, 1) := by decide +kernel
theorem dX8_findVotes_33 : decode mi_X8_findVotes.2.1 33 = .ok (.aload_n 0, 1) := by decide +kernel
theorem dX8_findVotes_34 : decode mi_X8_findVotes.2.1 34 = .ok (.getfield 151, 3) := by decide +kernel
theorem dX8_findVotes_37 : decode mi_X8_findVotes.2.1 37 = .ok (.iconst 5, 1) := by decide +kernel
theorem dX8_findVotes_38 : decode mi_X8_findVotes.2.1 38 = .ok (.aload_n 0, 1) := by decide +kernel
theorem dX8_findVotes_39 : decode mi_X8_findVotes.2.1 39 = .ok (.getfield 23, 3) := by decide +kernel
theorem dX8_findVotes_42 : decode mi_X8_findVotes.2.1 42 = .ok (.iload_n 2, 1) := by decide +kernel
theorem dX8_findVotes_43 : decode mi_X8_findVotes.2.1 43 = .ok (.iaload, 1) := by decide +kernel
theorem dX8_findVotes_44 : decode mi_X8_findVotes.2.1 44 = .ok (.i2l, 1) := by decide +kernel
theorem dX8_findVotes_45 : decode mi_X8_findVotes.2.1 45 = .ok (.lastore, 1) := by decide +kernel
theorem dX8_findVotes_46 : decode mi_X8_findVotes.2.1 46 = .ok (.aload_n 0, 1) := by decide +kernel
theorem dX8_findVotes_47 : decode mi_X8_findVotes.2.1 47 = .ok (.getfield 151, 3) := by decide +kernel
theorem dX8_findVotes_50 : decode mi_X8_findVotes.2.1 50 = .ok (.bipush 6, 2) := by decide +kernel
theorem dX8_findVotes_52 : decode mi_X8_findVotes.2.1 52 = .ok (.aload_n 0, 1) := by decide +kernel
theorem dX8_findVotes_53 : decode mi_X8_findVotes.2.1 53 = .ok (.getfield 26, 3) := by decide +kernel
theorem dX8_findVotes_56 : decode mi_X8_findVotes.2.1 56 = .ok (.iload_n 2, 1) := by decide +kernel
theorem dX8_findVotes_57 : decode mi_X8_findVotes.2.1 57 = .ok (.iaload, 1) := by decide +kernel
theorem dX8_findVotes_58 : decode mi_X8_findVotes.2.1 58 = .ok (.i2l, 1) := by decide +kernel
theorem dX8_findVotes_59 : decode mi_X8_findVotes.2.1 59 = .ok (.lastore, 1) := by decide +kernel
theorem dX8_findVotes_60 : decode mi_X8_findVotes.2.1 60 = .ok (.aload_n 0, 1) := by decide +kernel
theorem dX8_findVotes_61 : decode mi_X8_findVotes.2.1 61 = .ok (.getfield 151, 3) := by decide +kernel
theorem dX8_findVotes_64 : decode mi_X8_findVotes.2.1 64 = .ok (.bipush 7, 2) := by decide +kernel
theorem dX8_findVotes_66 : decode mi_X8_findVotes.2.1 66 = .ok (.aload_n 0, 1) := by decide +kernel
theorem dX8_findVotes_67 : decode mi_X8_findVotes.2.1 67 = .ok (.getfield 20, 3) := by decide +kernel
theorem dX8_findVotes_70 : decode mi_X8_findVotes.2.1 70 = .ok (.iload_n 2, 1) := by decide +kernel
theorem dX8_findVotes_71 : decode mi_X8_findVotes.2.1 71 = .ok (.iaload, 1) := by decide +kernel
theorem dX8_findVotes_72 : decode mi_X8_findVotes.2.1 72 = .ok (.i2l, 1) := by decide +kernel
theorem dX8_findVotes_73 : decode mi_X8_findVotes.2.1 73 = .ok (.lastore, 1) := by decide +kernel
theorem dX8_findVotes_74 : decode mi_X8_findVotes.2.1 74 = .ok (.aload_n 0, 1) := by decide +kernel
theorem dX8_findVotes_75 : decode mi_X8_findVotes.2.1 75 = .ok (.getfield 221, 3) := by decide +kernel
theorem dX8_findVotes_78 : decode mi_X8_findVotes.2.1 78 = .ok (.iload_n 2, 1) := by decide +kernel
theorem dX8_findVotes_79 : decode mi_X8_findVotes.2.1 79 = .ok (.aload_n 0, 1) := by decide +kernel
theorem dX8_findVotes_80 : decode mi_X8_findVotes.2.1 80 = .ok (.bipush 118, 2) := by decide +kernel
theorem dX8_findVotes_82 : decode mi_X8_findVotes.2.1 82 = .ok (.bipush 111, 2) := by decide +kernel
theorem dX8_findVotes_84 : decode mi_X8_findVotes.2.1 84 = .ok (.bipush 116, 2) := by decide +kernel
theorem dX8_findVotes_86 : decode mi_X8_findVotes.2.1 86 = .ok (.bipush 101, 2) := by decide +kernel
theorem dX8_findVotes_88 : decode mi_X8_findVotes.2.1 88 = .ok (.bipush 115, 2) := by decide +kernel
theorem dX8_findVotes_90 : decode mi_X8_findVotes.2.1 90 = .ok (.iconst 0, 1) := by decide +kernel
theorem dX8_findVotes_91 : decode mi_X8_findVotes.2.1 91 = .ok (.invokestatic 350, 3) := by decide +kernel
theorem dX8_findVotes_94 : decode mi_X8_findVotes.2.1 94 = .ok (.iload_n 1, 1) := by decide +kernel
theorem dX8_findVotes_95 : decode mi_X8_findVotes.2.1 95 = .ok (.lconst 1, 1) := by decide +kernel
theorem dX8_findVotes_96 : decode mi_X8_findVotes.2.1 96 = .ok (.invokevirtual 354, 3) := by decide +kernel
theorem dX8_findVotes_99 : decode mi_X8_findVotes.2.1 99 = .ok (.lconst 0, 1) := by decide +kernel
theorem dX8_findVotes_100 : decode mi_X8_findVotes.2.1 100 = .ok (.ldc2_w 326, 3) := by decide +kernel
theorem dX8_findVotes_103 : decode mi_X8_findVotes.2.1 103 = .ok (.invokestatic 360, 3) := by decide +kernel
theorem dX8_findVotes_106 : decode mi_X8_findVotes.2.1 106 = .ok (.lastore, 1) := by decide +kernel
theorem dX8_findVotes_107 : decode mi_X8_findVotes.2.1 107 = .ok (.iinc 2 1, 3) := by decide +kernel
theorem dX8_findVotes_110 : decode mi_X8_findVotes.2.1 110 = .ok (.goto (-108), 3) := by decide +kernel
theorem dX8_findVotes_113 : decode mi_X8_findVotes.2.1 113 = .ok (.iconst 0, 1) := by decide +kernel
theorem dX8_findVotes_114 : decode mi_X8_findVotes.2.1 114 = .ok (.istore_n 2, 1) := by decide +kernel
theorem dX8_findVotes_115 : decode mi_X8_findVotes.2.1 115 = .ok (.iload_n 2, 1) := by decide +kernel
theorem dX8_findVotes_116 : decode mi_X8_findVotes.2.1 116 = .ok (.bipush 6, 2) := by decide +kernel
theorem dX8_findVotes_118 : decode mi_X8_findVotes.2.1 118 = .ok (.if_icmp .ge 23, 3) := by decide +kernel
theorem dX8_findVotes_121 : decode mi_X8_findVotes.2.1 121 = .ok (.aload_n 0, 1) := by decide +kernel
theorem dX8_findVotes_122 : decode mi_X8_findVotes.2.1 122 = .ok (.getfield 215, 3) := by decide +kernel
theorem dX8_findVotes_125 : decode mi_X8_findVotes.2.1 125 = .ok (.iload_n 2, 1) := by decide +kernel
theorem dX8_findVotes_126 : decode mi_X8_findVotes.2.1 126 = .ok (.lconst 0, 1) := by decide +kernel
theorem dX8_findVotes_127 : decode mi_X8_findVotes.2.1 127 = .ok (.lastore, 1) := by decide +kernel
theorem dX8_findVotes_128 : decode mi_X8_findVotes.2.1 128 = .ok (.aload_n 0, 1) := by decide +kernel
theorem dX8_findVotes_129 : decode mi_X8_findVotes.2.1 129 = .ok (.getfield 218, 3) := by decide +kernel
theorem dX8_findVotes_132 : decode mi_X8_findVotes.2.1 132 = .ok (.iload_n 2, 1) := by decide +kernel
theorem dX8_findVotes_133 : decode mi_X8_findVotes.2.1 133 = .ok (.lconst 0, 1) := by decide +kernel
theorem dX8_findVotes_134 : decode mi_X8_findVotes.2.1 134 = .ok (.lastore, 1) := by decide +kernel
theorem dX8_findVotes_135 : decode mi_X8_findVotes.2.1 135 = .ok (.iinc 2 1, 3) := by decide +kernel
theorem dX8_findVotes_138 : decode mi_X8_findVotes.2.1 138 = .ok (.goto (-23), 3) := by decide +kernel
theorem dX8_findVotes_141 : decode mi_X8_findVotes.2.1 141 = .ok (.iconst 0, 1) := by decide +kernel
theorem dX8_findVotes_142 : decode mi_X8_findVotes.2.1 142 = .ok (.istore_n 2, 1) := by decide +kernel
theorem dX8_findVotes_143 : decode mi_X8_findVotes.2.1 143 = .ok (.iload_n 2, 1) := by decide +kernel
theorem dX8_findVotes_144 : decode mi_X8_findVotes.2.1 144 = .ok (.aload_n 0, 1) := by decide +kernel
theorem dX8_findVotes_145 : decode mi_X8_findVotes.2.1 145 = .ok (.getfield 291, 3) := by decide +kernel
theorem dX8_findVotes_148 : decode mi_X8_findVotes.2.1 148 = .ok (.if_icmp .ge 68, 3) := by decide +kernel
theorem dX8_findVotes_151 : decode mi_X8_findVotes.2.1 151 = .ok (.aload_n 0, 1) := by decide +kernel
theorem dX8_findVotes_152 : decode mi_X8_findVotes.2.1 152 = .ok (.getfield 182, 3) := by decide +kernel
theorem dX8_findVotes_155 : decode mi_X8_findVotes.2.1 155 = .ok (.iload_n 2, 1) := by decide +kernel
theorem dX8_findVotes_156 : decode mi_X8_findVotes.2.1 156 = .ok (.iaload, 1) := by decide +kernel
theorem dX8_findVotes_157 : decode mi_X8_findVotes.2.1 157 = .ok (.iconst 1, 1) := by decide +kernel
theorem dX8_findVotes_158 : decode mi_X8_findVotes.2.1 158 = .ok (.if_icmp .ne 23, 3) := by decide +kernel
theorem dX8_findVotes_161 : decode mi_X8_findVotes.2.1 161 = .ok (.aload_n 0, 1) := by decide +kernel
theorem dX8_findVotes_162 : decode mi_X8_findVotes.2.1 162 = .ok (.getfield 215, 3) := by decide +kernel
theorem dX8_findVotes_165 : decode mi_X8_findVotes.2.1 165 = .ok (.aload_n 0, 1) := by decide +kernel
theorem dX8_findVotes_166 : decode mi_X8_findVotes.2.1 166 = .ok (.getfield 20, 3) := by decide +kernel
theorem dX8_findVotes_169 : decode mi_X8_findVotes.2.1 169 = .ok (.iload_n 2, 1) := by decide +kernel
theorem dX8_findVotes_170 : decode mi_X8_findVotes.2.1 170 = .ok (.iaload, 1) := by decide +kernel
theorem dX8_findVotes_171 : decode mi_X8_findVotes.2.1 171 = .ok (.dup2, 1) := by decide +kernel
theorem dX8_findVotes_172 : decode mi_X8_findVotes.2.1 172 = .ok (.laload, 1) := by decide +kernel
theorem dX8_findVotes_173 : decode mi_X8_findVotes.2.1 173 = .ok (.aload_n 0, 1) := by decide +kernel
theorem dX8_findVotes_174 : decode mi_X8_findVotes.2.1 174 = .ok (.getfield 221, 3) := by decide +kernel
theorem dX8_findVotes_177 : decode mi_X8_findVotes.2.1 177 = .ok (.iload_n 2, 1) := by decide +kernel
theorem dX8_findVotes_178 : decode mi_X8_findVotes.2.1 178 = .ok (.laload, 1) := by decide +kernel
theorem dX8_findVotes_179 : decode mi_X8_findVotes.2.1 179 = .ok (.ladd, 1) := by decide +kernel
theorem dX8_findVotes_180 : decode mi_X8_findVotes.2.1 180 = .ok (.lastore, 1) := by decide +kernel
theorem dX8_findVotes_181 : decode mi_X8_findVotes.2.1 181 = .ok (.aload_n 0, 1) := by decide +kernel
theorem dX8_findVotes_182 : decode mi_X8_findVotes.2.1 182 = .ok (.getfield 182, 3) := by decide +kernel
theorem dX8_findVotes_185 : decode mi_X8_findVotes.2.1 185 = .ok (.iload_n 2, 1) := by decide +kernel
theorem dX8_findVotes_186 : decode mi_X8_findVotes.2.1 186 = .ok (.iaload, 1) := by decide +kernel
theorem dX8_findVotes_187 : decode mi_X8_findVotes.2.1 187 = .ok (.ifCond .ne 23, 3) := by decide +kernel
theorem dX8_findVotes_190 : decode mi_X8_findVotes.2.1 190 = .ok (.aload_n 0, 1) := by decide +kernel
theorem dX8_findVotes_191 : decode mi_X8_findVotes.2.1 191 = .ok (.getfield 218, 3) := by decide +kernel
theorem dX8_findVotes_194 : decode mi_X8_findVotes.2.1 194 = .ok (.aload_n 0, 1) := by decide +kernel
theorem dX8_findVotes_195 : decode mi_X8_findVotes.2.1 195 = .ok (.getfield 20, 3) := by decide +kernel
theorem dX8_findVotes_198 : decode mi_X8_findVotes.2.1 198 = .ok (.iload_n 2, 1) := by decide +kernel
theorem dX8_findVotes_199 : decode mi_X8_findVotes.2.1 199 = .ok (.iaload, 1) := by decide +kernel
theorem dX8_findVotes_200 : decode mi_X8_findVotes.2.1 200 = .ok (.dup2, 1) := by decide +kernel
theorem dX8_findVotes_201 : decode mi_X8_findVotes.2.1 201 = .ok (.laload, 1) := by decide +kernel
theorem dX8_findVotes_202 : decode mi_X8_findVotes.2.1 202 = .ok (.aload_n 0, 1) := by decide +kernel
theorem dX8_findVotes_203 : decode mi_X8_findVotes.2.1 203 = .ok (.getfield 221, 3) := by decide +kernel
theorem dX8_findVotes_206 : decode mi_X8_findVotes.2.1 206 = .ok (.iload_n 2, 1) := by decide +kernel
theorem dX8_findVotes_207 : decode mi_X8_findVotes.2.1 207 = .ok (.laload, 1) := by decide +kernel
theorem dX8_findVotes_208 : decode mi_X8_findVotes.2.1 208 = .ok (.ladd, 1) := by decide +kernel
theorem dX8_findVotes_209 : decode mi_X8_findVotes.2.1 209 = .ok (.lastore, 1) := by decide +kernel
theorem dX8_findVotes_210 : decode mi_X8_findVotes.2.1 210 = .ok (.iinc 2 1, 3) := by decide +kernel
theorem dX8_findVotes_213 : decode mi_X8_findVotes.2.1 213 = .ok (.goto (-70), 3) := by decide +kernel
theorem dX8_findVotes_216 : decode mi_X8_findVotes.2.1 216 = .ok (.return_, 1) := by decide +kernel
theorem v_X8_findVotes {G : ma_G} {d : Nat} {a0 : Nat} {x1 : Int32} {h : ah_T} {Q : Option ma_V → ah_T → Prop} {E : Nat → ah_T → Prop} (La0_h : LY8 h a0) (H : MX G mi_X8_findVotes (d + 1) 2 [some (rv a0), some (iv x1), some (iv (0 : Int32))] [] h Q E) : MX G mi_X8_findVotes (d + 1) 0 [some (rv a0), some (iv x1), none] [] h Q E := by
  refine mx_iconst dX8_findVotes_0 ic_0 ?_
  refine mx_istore_n (al' := [some (rv a0), some (iv x1), some (iv (0 : Int32))]) dX8_findVotes_1 rfl (Nat.le_of_ble_eq_true rfl) rfl ?_
  exact mx_weak (al' := [some (rv a0), some (iv x1), some (iv (0 : Int32))]) ⟨rfl, ⟨rfl, ⟨rfl, trivial⟩⟩⟩ H
theorem v_X8_findVotes_2 {G : ma_G} {d : Nat} {a0 : Nat} {x1 : Int32} {x2 : Int32} {h : ah_T} {Q : Option ma_V → ah_T → Prop} {E : Nat → ah_T → Prop} (La0_h : LY8 h a0) (H : ((ah_I h a0 5) ≤ x2 → MX G mi_X8_findVotes (d + 1) 115 [some (rv a0), none, some (iv (0 : Int32))] [] h Q E) ∧ (¬ (ah_I h a0 5) ≤ x2 → MX G mi_X8_letNothing d 0 [some (rv a0), none] [] h (Qv fun h2 => ah_ext h h2 → ∀ h4 : ah_T, h4 = ah_wJ h2 (a0 + 45) 2 x1.toInt64 → ah_ext h2 h4 → ∀ h5 : ah_T, h5 = ah_wJ h4 (a0 + 45) 3 (x1 / (52 : Int32)).toInt64 → ah_ext h4 h5 → vp_in x2 20 ∧ ∀ h7 : ah_T, h7 = ah_wJ h5 (a0 + 45) 5 (ah_I h2 (a0 + 5) x2.toNatClampNeg).toInt64 → ah_ext h5 h7 → ∀ h8 : ah_T, h8 = ah_wJ h7 (a0 + 45) 6 (ah_I h2 (a0 + 6) x2.toNatClampNeg).toInt64 → ah_ext h7 h8 → ∀ h9 : ah_T, h9 = ah_wJ h8 (a0 + 45) 7 (ah_I h2 (a0 + 4) x2.toNatClampNeg).toInt64 → ah_ext h8 h9 → MX G mi_X8_told d 0 [some (rv a0), some (jv (23580851 : Int64)), none, some (iv x1), some (jv (1 : Int64)), none, none, none, none] [] h9 (Ql fun r11 h10 => ah_ext h9 h10 → ∀ h12 : ah_T, h12 = ah_wJ h10 (a0 + 66) x2.toNatClampNeg (jCut r11 (0 : Int64) (1000 : Int64)) → ah_ext h10 h12 → MX G mi_X8_findVotes (d + 1) 2 [some (rv a0), some (iv x1), some (iv (x2 + (1 : Int32)))] [] h12 Q E) E) E)) : MX G mi_X8_findVotes (d + 1) 2 [some (rv a0), some (iv x1), some (iv x2)] [] h Q E := by
  refine mx_iload_n dX8_findVotes_2 rfl rfl ?_
  refine mx_aload_n dX8_findVotes_3 rfl rfl ?_
  refine mx_get 8 5 (ref := "PrairiePoolModel") cl_8 (Nat.le_of_ble_eq_true rfl) (Or.inl q1632) (Or.inl rfl) dX8_findVotes_4 (fv_8_5 _ _) (ly8_k La0_h) ?_
  refine mx_icmp_ge (tgt := 113) dX8_findVotes_7 rfl (fun c1 => ?_) (fun c1 => ?_)
  · have H := H.1 c1
    refine mx_iconst dX8_findVotes_113 ic_0 ?_
    refine mx_istore_n (al' := [some (rv a0), some (iv x1), some (iv (0 : Int32))]) dX8_findVotes_114 rfl (Nat.le_of_ble_eq_true rfl) rfl ?_
    exact mx_weak (al' := [some (rv a0), none, some (iv (0 : Int32))]) ⟨rfl, ⟨rfl, trivial⟩⟩ H
  · have H := H.2 c1
    refine mx_aload_n dX8_findVotes_10 rfl rfl ?_
    refine mx_callV 8 (y' := mi_X8_letNothing) (vs := []) (st := []) (al' := [some (rv a0), none]) cl_8 V_X8_letNothing (Or.inl q2067) dX8_findVotes_11 rfl rfl (Nat.le_of_ble_eq_true rfl) (Nat.le_of_ble_eq_true rfl) (ly8_k La0_h) ?_
    refine ma_kv H (fun h2 Xh2 H => ?_) (fun x1 h1 X1 H => mt_out rfl H)
    have H := H Xh2
    have La0_h2 := La0_h.ext Xh2
    refine mx_aload_n dX8_findVotes_14 rfl rfl ?_
    refine mx_get 8 68 (ref := "PrairiePoolModel") cl_8 (Nat.le_of_ble_eq_true rfl) (Or.inl q1695) (Or.inl rfl) dX8_findVotes_15 (fv_8_68 _ _) (ly8_k La0_h2) ?_
    refine mx_tr (ly8_R_0_68 La0_h2) ?_
    refine mx_iconst dX8_findVotes_18 ic_2 ?_
    refine mx_iload_n dX8_findVotes_19 rfl rfl ?_
    refine mx_i2l dX8_findVotes_20 ?_
    refine my_last dX8_findVotes_21 cn_2 (ly8_A_45 La0_h2 (vp_c (by decide))) ?_
    refine mx_nmJ  (fun h4 eh4 Xh4 Kh4 Lh4 => ?_)
    have H := H h4 eh4 Xh4
    have La0_h4 := La0_h2.ext Xh4
    refine mx_aload_n dX8_findVotes_22 rfl rfl ?_
    refine mx_get 8 68 (ref := "PrairiePoolModel") cl_8 (Nat.le_of_ble_eq_true rfl) (Or.inl q1695) (Or.inl rfl) dX8_findVotes_23 (fv_8_68 _ _) (ly8_k La0_h4) ?_
    refine mx_tr (ly8_R_0_68 La0_h4) ?_
    refine mx_iconst dX8_findVotes_26 ic_3 ?_
    refine mx_iload_n dX8_findVotes_27 rfl rfl ?_
    refine mx_bipush dX8_findVotes_28 ib_52 ?_
    refine mx_idiv dX8_findVotes_30 (by decide) ?_
    refine mx_i2l dX8_findVotes_31 ?_
    refine my_last dX8_findVotes_32 cn_3 (ly8_A_45 La0_h4 (vp_c (by decide))) ?_
    refine mx_nmJ  (fun h5 eh5 Xh5 Kh5 Lh5 => ?_)
    have H := H h5 eh5 Xh5
    have Kh5 := Kh5.trans Kh4
    have Lh5 := Lh5.trans Lh4
    have La0_h5 := La0_h4.ext Xh5
    refine mx_aload_n dX8_findVotes_33 rfl rfl ?_
    refine mx_get 8 68 (ref := "PrairiePoolModel") cl_8 (Nat.le_of_ble_eq_true rfl) (Or.inl q1695) (Or.inl rfl) dX8_findVotes_34 (fv_8_68 _ _) (ly8_k La0_h5) ?_
    refine mx_tr (ly8_R_0_68 La0_h5) ?_
    refine mx_iconst dX8_findVotes_37 ic_5 ?_
    refine mx_aload_n dX8_findVotes_38 rfl rfl ?_
    refine mx_get 8 12 (ref := "PrairiePoolModel") cl_8 (Nat.le_of_ble_eq_true rfl) (Or.inl q1639) (Or.inl rfl) dX8_findVotes_39 (fv_8_12 _ _) (ly8_k La0_h5) ?_
    refine mx_tr (ly8_R_0_12 La0_h5) ?_
    refine mx_iload_n dX8_findVotes_42 rfl rfl ?_
    obtain ⟨k6, H⟩ := H
    refine my_iald dX8_findVotes_43 rfl (ly8_A_5 La0_h5 k6) ?_
    refine mx_ti ((ah_IJ eh5).trans (ah_IJ eh4)) ?_
    refine mx_i2l dX8_findVotes_44 ?_
    refine my_last dX8_findVotes_45 cn_5 (ly8_A_45 La0_h5 (vp_c (by decide))) ?_
    refine mx_nmJ  (fun h7 eh7 Xh7 Kh7 Lh7 => ?_)
    have H := H h7 eh7 Xh7
    have Kh7 := Kh7.trans Kh5
    have Lh7 := Lh7.trans Lh5
    have La0_h7 := La0_h5.ext Xh7
    refine mx_aload_n dX8_findVotes_46 rfl rfl ?_
    refine mx_get 8 68 (ref := "PrairiePoolModel") cl_8 (Nat.le_of_ble_eq_true rfl) (Or.inl q1695) (Or.inl rfl) dX8_findVotes_47 (fv_8_68 _ _) (ly8_k La0_h7) ?_
    refine mx_tr (ly8_R_0_68 La0_h7) ?_
    refine mx_bipush dX8_findVotes_50 ib_6 ?_
    refine mx_aload_n dX8_findVotes_52 rfl rfl ?_
    refine mx_get 8 13 (ref := "PrairiePoolModel") cl_8 (Nat.le_of_ble_eq_true rfl) (Or.inl q1640) (Or.inl rfl) dX8_findVotes_53 (fv_8_13 _ _) (ly8_k La0_h7) ?_
    refine mx_tr (ly8_R_0_13 La0_h7) ?_
    refine mx_iload_n dX8_findVotes_56 rfl rfl ?_
    refine my_iald dX8_findVotes_57 rfl (ly8_A_6 La0_h7 k6) ?_
    refine mx_ti (((ah_IJ eh7).trans (ah_IJ eh5)).trans (ah_IJ eh4)) ?_
    refine mx_i2l dX8_findVotes_58 ?_
    refine my_last dX8_findVotes_59 cn_6 (ly8_A_45 La0_h7 (vp_c (by decide))) ?_
    refine mx_nmJ  (fun h8 eh8 Xh8 Kh8 Lh8 => ?_)
    have H := H h8 eh8 Xh8
    have Kh8 := Kh8.trans Kh7
    have Lh8 := Lh8.trans Lh7
    have La0_h8 := La0_h7.ext Xh8
    refine mx_aload_n dX8_findVotes_60 rfl rfl ?_
    refine mx_get 8 68 (ref := "PrairiePoolModel") cl_8 (Nat.le_of_ble_eq_true rfl) (Or.inl q1695) (Or.inl rfl) dX8_findVotes_61 (fv_8_68 _ _) (ly8_k La0_h8) ?_
    refine mx_tr (ly8_R_0_68 La0_h8) ?_
    refine mx_bipush dX8_findVotes_64 ib_7 ?_
    refine mx_aload_n dX8_findVotes_66 rfl rfl ?_
    refine mx_get 8 11 (ref := "PrairiePoolModel") cl_8 (Nat.le_of_ble_eq_true rfl) (Or.inl q1638) (Or.inl rfl) dX8_findVotes_67 (fv_8_11 _ _) (ly8_k La0_h8) ?_
    refine mx_tr (ly8_R_0_11 La0_h8) ?_
    refine mx_iload_n dX8_findVotes_70 rfl rfl ?_
    refine my_iald dX8_findVotes_71 rfl (ly8_A_4 La0_h8 k6) ?_
    refine mx_ti ((((ah_IJ eh8).trans (ah_IJ eh7)).trans (ah_IJ eh5)).trans (ah_IJ eh4)) ?_
    refine mx_i2l dX8_findVotes_72 ?_
    refine my_last dX8_findVotes_73 cn_7 (ly8_A_45 La0_h8 (vp_c (by decide))) ?_
    refine mx_nmJ  (fun h9 eh9 Xh9 Kh9 Lh9 => ?_)
    have H := H h9 eh9 Xh9
    have Kh9 := Kh9.trans Kh8
    have Lh9 := Lh9.trans Lh8
    have La0_h9 := La0_h8.ext Xh9
    refine mx_aload_n dX8_findVotes_74 rfl rfl ?_
    refine mx_get 8 95 (ref := "PrairiePoolModel") cl_8 (Nat.le_of_ble_eq_true rfl) (Or.inl q1722) (Or.inl rfl) dX8_findVotes_75 (fv_8_95 _ _) (ly8_k La0_h9) ?_
    refine mx_tr (ly8_R_0_95 La0_h9) ?_
    refine mx_iload_n dX8_findVotes_78 rfl rfl ?_
    refine mx_aload_n dX8_findVotes_79 rfl rfl ?_
    refine mx_bipush dX8_findVotes_80 ib_118 ?_
    refine mx_bipush dX8_findVotes_82 ib_111 ?_
    refine mx_bipush dX8_findVotes_84 ib_116 ?_
    refine mx_bipush dX8_findVotes_86 ib_101 ?_
    refine mx_bipush dX8_findVotes_88 ib_115 ?_
    refine mx_iconst dX8_findVotes_90 ic_0 ?_
    refine mx_callS (y' := mi_X8_spelled) (vs := [iv (118 : Int32), iv (111 : Int32), iv (116 : Int32), iv (101 : Int32), iv (115 : Int32), iv (0 : Int32)]) (st := [rv a0, iv x2, rv (a0 + 66)]) (al' := [some (iv (118 : Int32)), some (iv (111 : Int32)), some (iv (116 : Int32)), some (iv (101 : Int32)), some (iv (115 : Int32)), some (iv (0 : Int32)), none, none]) S_X8_spelled q2075 dX8_findVotes_91 rfl rfl (Nat.le_of_ble_eq_true rfl) (Nat.le_of_ble_eq_true rfl) ?_
    refine mx_iload_n dX8_spelled_0 rfl rfl ?_
    refine mx_i2l dX8_spelled_1 ?_
    refine mx_ldc2 q2078 dX8_spelled_2 ?_
    refine mx_lsub dX8_spelled_5 ?_
    refine mx_lstore (al' := [some (iv (118 : Int32)), some (iv (111 : Int32)), some (iv (116 : Int32)), some (iv (101 : Int32)), some (iv (115 : Int32)), some (iv (0 : Int32)), some (jv ((118 : Int32).toInt64 - (96 : Int64))), none]) dX8_spelled_6 (Nat.le_of_ble_eq_true rfl) rfl ?_
    refine mx_lload dX8_spelled_8 rfl ?_
    refine mx_ldc2 q2079 dX8_spelled_10 ?_
    refine mx_lmul dX8_spelled_13 ?_
    refine mx_iload_n dX8_spelled_14 rfl rfl ?_
    refine mx_i2l dX8_spelled_15 ?_
    refine mx_ladd dX8_spelled_16 ?_
    refine mx_ldc2 q2078 dX8_spelled_17 ?_
    refine mx_lsub dX8_spelled_20 ?_
    refine mx_lstore (al' := [some (iv (118 : Int32)), some (iv (111 : Int32)), some (iv (116 : Int32)), some (iv (101 : Int32)), some (iv (115 : Int32)), some (iv (0 : Int32)), some (jv (((((118 : Int32).toInt64 - (96 : Int64)) * (32 : Int64)) + (111 : Int32).toInt64) - (96 : Int64))), none]) dX8_spelled_21 (Nat.le_of_ble_eq_true rfl) rfl ?_
    refine mx_iload_n dX8_spelled_23 rfl rfl ?_
    refine mx_if_le (tgt := 43) dX8_spelled_24 rfl (fun _ => absurd ‹_› (by decide)) (fun _ => ?_)
    refine mx_lload dX8_spelled_27 rfl ?_
    refine mx_ldc2 q2079 dX8_spelled_29 ?_
    refine mx_lmul dX8_spelled_32 ?_
    refine mx_iload_n dX8_spelled_33 rfl rfl ?_
    refine mx_i2l dX8_spelled_34 ?_
    refine mx_ladd dX8_spelled_35 ?_
    refine mx_ldc2 q2078 dX8_spelled_36 ?_
    refine mx_lsub dX8_spelled_39 ?_
    refine mx_goto (tgt := 45) dX8_spelled_40 rfl ?_
    refine mx_lstore (al' := [some (iv (118 : Int32)), some (iv (111 : Int32)), some (iv (116 : Int32)), some (iv (101 : Int32)), some (iv (115 : Int32)), some (iv (0 : Int32)), some (jv ((((((((118 : Int32).toInt64 - (96 : Int64)) * (32 : Int64)) + (111 : Int32).toInt64) - (96 : Int64)) * (32 : Int64)) + (116 : Int32).toInt64) - (96 : Int64))), none]) dX8_spelled_45 (Nat.le_of_ble_eq_true rfl) rfl ?_
    refine mx_iload_n dX8_spelled_47 rfl rfl ?_
    refine mx_if_le (tgt := 67) dX8_spelled_48 rfl (fun _ => absurd ‹_› (by decide)) (fun _ => ?_)
    refine mx_lload dX8_spelled_51 rfl ?_
    refine mx_ldc2 q2079 dX8_spelled_53 ?_
    refine mx_lmul dX8_spelled_56 ?_
    refine mx_iload_n dX8_spelled_57 rfl rfl ?_
    refine mx_i2l dX8_spelled_58 ?_
    refine mx_ladd dX8_spelled_59 ?_
    refine mx_ldc2 q2078 dX8_spelled_60 ?_
    refine mx_lsub dX8_spelled_63 ?_
    refine mx_goto (tgt := 69) dX8_spelled_64 rfl ?_
    refine mx_lstore (al' := [some (iv (118 : Int32)), some (iv (111 : Int32)), some (iv (116 : Int32)), some (iv (101 : Int32)), some (iv (115 : Int32)), some (iv (0 : Int32)), some (jv (((((((((((118 : Int32).toInt64 - (96 : Int64)) * (32 : Int64)) + (111 : Int32).toInt64) - (96 : Int64)) * (32 : Int64)) + (116 : Int32).toInt64) - (96 : Int64)) * (32 : Int64)) + (101 : Int32).toInt64) - (96 : Int64))), none]) dX8_spelled_69 (Nat.le_of_ble_eq_true rfl) rfl ?_
    refine mx_iload dX8_spelled_71 rfl ?_
    refine mx_if_le (tgt := 93) dX8_spelled_73 rfl (fun _ => absurd ‹_› (by decide)) (fun _ => ?_)
    refine mx_lload dX8_spelled_76 rfl ?_
    refine mx_ldc2 q2079 dX8_spelled_78 ?_
    refine mx_lmul dX8_spelled_81 ?_
    refine mx_iload dX8_spelled_82 rfl ?_
    refine mx_i2l dX8_spelled_84 ?_
    refine mx_ladd dX8_spelled_85 ?_
    refine mx_ldc2 q2078 dX8_spelled_86 ?_
    refine mx_lsub dX8_spelled_89 ?_
    refine mx_goto (tgt := 95) dX8_spelled_90 rfl ?_
    refine mx_lstore (al' := [some (iv (118 : Int32)), some (iv (111 : Int32)), some (iv (116 : Int32)), some (iv (101 : Int32)), some (iv (115 : Int32)), some (iv (0 : Int32)), some (jv ((((((((((((((118 : Int32).toInt64 - (96 : Int64)) * (32 : Int64)) + (111 : Int32).toInt64) - (96 : Int64)) * (32 : Int64)) + (116 : Int32).toInt64) - (96 : Int64)) * (32 : Int64)) + (101 : Int32).toInt64) - (96 : Int64)) * (32 : Int64)) + (115 : Int32).toInt64) - (96 : Int64))), none]) dX8_spelled_95 (Nat.le_of_ble_eq_true rfl) rfl ?_
    refine mx_iload dX8_spelled_97 rfl ?_
    refine mx_if_le (tgt := 119) dX8_spelled_99 rfl (fun _ => ?_) (fun _ => absurd ‹_› (by decide))
    refine mx_lload dX8_spelled_119 rfl ?_
    refine mx_lretK rfl dX8_spelled_121 ?_
    refine mx_tj (show ((((((((((((((118 : Int32).toInt64 - (96 : Int64)) * (32 : Int64)) + (111 : Int32).toInt64) - (96 : Int64)) * (32 : Int64)) + (116 : Int32).toInt64) - (96 : Int64)) * (32 : Int64)) + (101 : Int32).toInt64) - (96 : Int64)) * (32 : Int64)) + (115 : Int32).toInt64) - (96 : Int64)) = (23580851 : Int64) by decide) ?_
    refine mx_iload_n dX8_findVotes_94 rfl rfl ?_
    refine mx_lconst dX8_findVotes_95 lc_1 ?_
    refine mx_callV 8 (y' := mi_X8_told) (vs := [jv (23580851 : Int64), iv x1, jv (1 : Int64)]) (st := [iv x2, rv (a0 + 66)]) (al' := [some (rv a0), some (jv (23580851 : Int64)), none, some (iv x1), some (jv (1 : Int64)), none, none, none, none]) cl_8 V_X8_told (Or.inl q2080) dX8_findVotes_96 rfl rfl (Nat.le_of_ble_eq_true rfl) (Nat.le_of_ble_eq_true rfl) (ly8_k La0_h9) ?_
    refine ma_kl H (fun r11 h10 Xh10 H => ?_) (fun x1 h1 X1 H => mt_out rfl H)
    have H := H Xh10
    have La0_h10 := La0_h9.ext Xh10
    refine mx_lconst dX8_findVotes_99 lc_0 ?_
    refine mx_ldc2 q2023 dX8_findVotes_100 ?_
    refine mx_callS (y' := mi_X8_cut_2) (vs := [jv r11, jv (0 : Int64), jv (1000 : Int64)]) (st := [iv x2, rv (a0 + 66)]) (al' := [some (jv r11), none, some (jv (0 : Int64)), none, some (jv (1000 : Int64)), none]) S_X8_cut_2 q2108 dX8_findVotes_103 rfl rfl (Nat.le_of_ble_eq_true rfl) (Nat.le_of_ble_eq_true rfl) ?_
    refine pv_X8_cut_2 ?_
    refine my_last dX8_findVotes_106 rfl (ly8_A_66 La0_h10 k6) ?_
    refine mx_nmJ  (fun h12 eh12 Xh12 Kh12 Lh12 => ?_)
    have H := H h12 eh12 Xh12
    have La0_h12 := La0_h10.ext Xh12
    refine mx_iinc (al' := [some (rv a0), some (iv x1), some (iv (x2 + (1 : Int32)))]) dX8_findVotes_107 rfl ic_1 rfl ?_
    refine mx_goto (tgt := 2) dX8_findVotes_110 rfl ?_
    exact mx_weak (al' := [some (rv a0), some (iv x1), some (iv (x2 + (1 : Int32)))]) ⟨rfl, ⟨rfl, ⟨rfl, trivial⟩⟩⟩ H
theorem v_X8_findVotes_115 {G : ma_G} {d : Nat} {a0 : Nat} {x2 : Int32} {h : ah_T} {Q : Option ma_V → ah_T → Prop} {E : Nat → ah_T → Prop} (La0_h : LY8 h a0) (H : ((6 : Int32) ≤ x2 → MX G mi_X8_findVotes (d + 1) 143 [some (rv a0), none, some (iv (0 : Int32))] [] h Q E) ∧ (¬ (6 : Int32) ≤ x2 → vp_in x2 6 ∧ ∀ h3 : ah_T, h3 = ah_wJ h (a0 + 64) x2.toNatClampNeg (0 : Int64) → ah_ext h h3 → ∀ h4 : ah_T, h4 = ah_wJ h3 (a0 + 65) x2.toNatClampNeg (0 : Int64) → ah_ext h3 h4 → MX G mi_X8_findVotes (d + 1) 115 [some (rv a0), none, some (iv (x2 + (1 : Int32)))] [] h4 Q E)) : MX G mi_X8_findVotes (d + 1) 115 [some (rv a0), none, some (iv x2)] [] h Q E := by
  refine mx_iload_n dX8_findVotes_115 rfl rfl ?_
  refine mx_bipush dX8_findVotes_116 ib_6 ?_
  refine mx_icmp_ge (tgt := 141) dX8_findVotes_118 rfl (fun c1 => ?_) (fun c1 => ?_)
  · have H := H.1 c1
    refine mx_iconst dX8_findVotes_141 ic_0 ?_
    refine mx_istore_n (al' := [some (rv a0), none, some (iv (0 : Int32))]) dX8_findVotes_142 rfl (Nat.le_of_ble_eq_true rfl) rfl ?_
    exact mx_weak (al' := [some (rv a0), none, some (iv (0 : Int32))]) ⟨rfl, ⟨rfl, trivial⟩⟩ H
  · have H := H.2 c1
    refine mx_aload_n dX8_findVotes_121 rfl rfl ?_
    refine mx_get 8 93 (ref := "PrairiePoolModel") cl_8 (Nat.le_of_ble_eq_true rfl) (Or.inl q1720) (Or.inl rfl) dX8_findVotes_122 (fv_8_93 _ _) (ly8_k La0_h) ?_
    refine mx_tr (ly8_R_0_93 La0_h) ?_
    refine mx_iload_n dX8_findVotes_125 rfl rfl ?_
    refine mx_lconst dX8_findVotes_126 lc_0 ?_
    obtain ⟨k2, H⟩ := H
    refine my_last dX8_findVotes_127 rfl (ly8_A_64 La0_h k2) ?_
    refine mx_nmJ  (fun h3 eh3 Xh3 Kh3 Lh3 => ?_)
    have H := H h3 eh3 Xh3
    have La0_h3 := La0_h.ext Xh3
    refine mx_aload_n dX8_findVotes_128 rfl rfl ?_
    refine mx_get 8 94 (ref := "PrairiePoolModel") cl_8 (Nat.le_of_ble_eq_true rfl) (Or.inl q1721) (Or.inl rfl) dX8_findVotes_129 (fv_8_94 _ _) (ly8_k La0_h3) ?_
    refine mx_tr (ly8_R_0_94 La0_h3) ?_
    refine mx_iload_n dX8_findVotes_132 rfl rfl ?_
    refine mx_lconst dX8_findVotes_133 lc_0 ?_
    refine my_last dX8_findVotes_134 rfl (ly8_A_65 La0_h3 k2) ?_
    refine mx_nmJ  (fun h4 eh4 Xh4 Kh4 Lh4 => ?_)
    have H := H h4 eh4 Xh4
    have Kh4 := Kh4.trans Kh3
    have Lh4 := Lh4.trans Lh3
    have La0_h4 := La0_h3.ext Xh4
    refine mx_iinc (al' := [some (rv a0), none, some (iv (x2 + (1 : Int32)))]) dX8_findVotes_135 rfl ic_1 rfl ?_
    refine mx_goto (tgt := 115) dX8_findVotes_138 rfl ?_
    exact mx_weak (al' := [some (rv a0), none, some (iv (x2 + (1 : Int32)))]) ⟨rfl, ⟨rfl, trivial⟩⟩ H
theorem v_X8_findVotes_143 {G : ma_G} {d : Nat} {a0 : Nat} {x2 : Int32} {h : ah_T} {Q : Option ma_V → ah_T → Prop} {E : Nat → ah_T → Prop} (La0_h : LY8 h a0) (H : ((ah_I h a0 5) ≤ x2 → Q none h) ∧ (¬ (ah_I h a0 5) ≤ x2 → vp_in x2 20 ∧ (¬ (ah_I h (a0 + 55) x2.toNatClampNeg) = (1 : Int32) → MX G mi_X8_findVotes (d + 1) 181 [some (rv a0), none, some (iv x2)] [] h Q E) ∧ ((ah_I h (a0 + 55) x2.toNatClampNeg) = (1 : Int32) → vp_in (ah_I h (a0 + 4) x2.toNatClampNeg) 6 ∧ ∀ h5 : ah_T, h5 = ah_wJ h (a0 + 64) (ah_I h (a0 + 4) x2.toNatClampNeg).toNatClampNeg ((ah_J h (a0 + 64) (ah_I h (a0 + 4) x2.toNatClampNeg).toNatClampNeg) + (ah_J h (a0 + 66) x2.toNatClampNeg)) → ah_ext h h5 → MX G mi_X8_findVotes (d + 1) 181 [some (rv a0), none, some (iv x2)] [] h5 Q E))) : MX G mi_X8_findVotes (d + 1) 143 [some (rv a0), none, some (iv x2)] [] h Q E := by
  refine mx_iload_n dX8_findVotes_143 rfl rfl ?_
  refine mx_aload_n dX8_findVotes_144 rfl rfl ?_
  refine mx_get 8 5 (ref := "PrairiePoolModel") cl_8 (Nat.le_of_ble_eq_true rfl) (Or.inl q1632) (Or.inl rfl) dX8_findVotes_145 (fv_8_5 _ _) (ly8_k La0_h) ?_
  refine mx_icmp_ge (tgt := 216) dX8_findVotes_148 rfl (fun c1 => ?_) (fun c1 => ?_)
  · have H := H.1 c1
    exact mx_vret rfl dX8_findVotes_216 H
  · have H := H.2 c1
    refine mx_aload_n dX8_findVotes_151 rfl rfl ?_
    refine mx_get 8 81 (ref := "PrairiePoolModel") cl_8 (Nat.le_of_ble_eq_true rfl) (Or.inl q1708) (Or.inl rfl) dX8_findVotes_152 (fv_8_81 _ _) (ly8_k La0_h) ?_
    refine mx_tr (ly8_R_0_81 La0_h) ?_
    refine mx_iload_n dX8_findVotes_155 rfl rfl ?_
    obtain ⟨k2, H⟩ := H
    refine my_iald dX8_findVotes_156 rfl (ly8_A_55 La0_h k2) ?_
    refine mx_iconst dX8_findVotes_157 ic_1 ?_
    refine mx_icmp_ne (tgt := 181) dX8_findVotes_158 rfl (fun c3 => ?_) (fun c3 => ?_)
    · have H := H.1 c3
      exact mx_weak (al' := [some (rv a0), none, some (iv x2)]) ⟨rfl, ⟨rfl, trivial⟩⟩ H
    · have H := H.2 c3
      refine mx_aload_n dX8_findVotes_161 rfl rfl ?_
      refine mx_get 8 93 (ref := "PrairiePoolModel") cl_8 (Nat.le_of_ble_eq_true rfl) (Or.inl q1720) (Or.inl rfl) dX8_findVotes_162 (fv_8_93 _ _) (ly8_k La0_h) ?_
      refine mx_tr (ly8_R_0_93 La0_h) ?_
      refine mx_aload_n dX8_findVotes_165 rfl rfl ?_
      refine mx_get 8 11 (ref := "PrairiePoolModel") cl_8 (Nat.le_of_ble_eq_true rfl) (Or.inl q1638) (Or.inl rfl) dX8_findVotes_166 (fv_8_11 _ _) (ly8_k La0_h) ?_
      refine mx_tr (ly8_R_0_11 La0_h) ?_
      refine mx_iload_n dX8_findVotes_169 rfl rfl ?_
      refine my_iald dX8_findVotes_170 rfl (ly8_A_4 La0_h k2) ?_
      refine mx_dup2_ir dX8_findVotes_171 ?_
      obtain ⟨k4, H⟩ := H
      refine my_lald dX8_findVotes_172 rfl (ly8_A_64 La0_h k4) ?_
      refine mx_aload_n dX8_findVotes_173 rfl rfl ?_
      refine mx_get 8 95 (ref := "PrairiePoolModel") cl_8 (Nat.le_of_ble_eq_true rfl) (Or.inl q1722) (Or.inl rfl) dX8_findVotes_174 (fv_8_95 _ _) (ly8_k La0_h) ?_
      refine mx_tr (ly8_R_0_95 La0_h) ?_
      refine mx_iload_n dX8_findVotes_177 rfl rfl ?_
      refine my_lald dX8_findVotes_178 rfl (ly8_A_66 La0_h k2) ?_
      refine mx_ladd dX8_findVotes_179 ?_
      refine my_last dX8_findVotes_180 rfl (ly8_A_64 La0_h k4) ?_
      refine mx_nmJ  (fun h5 eh5 Xh5 Kh5 Lh5 => ?_)
      have H := H h5 eh5 Xh5
      have La0_h5 := La0_h.ext Xh5
      exact mx_weak (al' := [some (rv a0), none, some (iv x2)]) ⟨rfl, ⟨rfl, trivial⟩⟩ H
theorem v_X8_findVotes_181 {G : ma_G} {d : Nat} {a0 : Nat} {x2 : Int32} {h : ah_T} {Q : Option ma_V → ah_T → Prop} {E : Nat → ah_T → Prop} (La0_h : LY8 h a0) (H : vp_in x2 20 ∧ (¬ (ah_I h (a0 + 55) x2.toNatClampNeg) = 0 → MX G mi_X8_findVotes (d + 1) 143 [some (rv a0), none, some (iv (x2 + (1 : Int32)))] [] h Q E) ∧ ((ah_I h (a0 + 55) x2.toNatClampNeg) = 0 → vp_in (ah_I h (a0 + 4) x2.toNatClampNeg) 6 ∧ ∀ h4 : ah_T, h4 = ah_wJ h (a0 + 65) (ah_I h (a0 + 4) x2.toNatClampNeg).toNatClampNeg ((ah_J h (a0 + 65) (ah_I h (a0 + 4) x2.toNatClampNeg).toNatClampNeg) + (ah_J h (a0 + 66) x2.toNatClampNeg)) → ah_ext h h4 → MX G mi_X8_findVotes (d + 1) 143 [some (rv a0), none, some (iv (x2 + (1 : Int32)))] [] h4 Q E)) : MX G mi_X8_findVotes (d + 1) 181 [some (rv a0), none, some (iv x2)] [] h Q E := by
  refine mx_aload_n dX8_findVotes_181 rfl rfl ?_
  refine mx_get 8 81 (ref := "PrairiePoolModel") cl_8 (Nat.le_of_ble_eq_true rfl) (Or.inl q1708) (Or.inl rfl) dX8_findVotes_182 (fv_8_81 _ _) (ly8_k La0_h) ?_
  refine mx_tr (ly8_R_0_81 La0_h) ?_
  refine mx_iload_n dX8_findVotes_185 rfl rfl ?_
  obtain ⟨k1, H⟩ := H
  refine my_iald dX8_findVotes_186 rfl (ly8_A_55 La0_h k1) ?_
  refine mx_if_ne (tgt := 210) dX8_findVotes_187 rfl (fun c2 => ?_) (fun c2 => ?_)
  · have H := H.1 c2
    refine mx_iinc (al' := [some (rv a0), none, some (iv (x2 + (1 : Int32)))]) dX8_findVotes_210 rfl ic_1 rfl ?_
    refine mx_goto (tgt := 143) dX8_findVotes_213 rfl ?_
    exact mx_weak (al' := [some (rv a0), none, some (iv (x2 + (1 : Int32)))]) ⟨rfl, ⟨rfl, trivial⟩⟩ H
  · have H := H.2 c2
    refine mx_aload_n dX8_findVotes_190 rfl rfl ?_
    refine mx_get 8 94 (ref := "PrairiePoolModel") cl_8 (Nat.le_of_ble_eq_true rfl) (Or.inl q1721) (Or.inl rfl) dX8_findVotes_191 (fv_8_94 _ _) (ly8_k La0_h) ?_
    refine mx_tr (ly8_R_0_94 La0_h) ?_
    refine mx_aload_n dX8_findVotes_194 rfl rfl ?_
    refine mx_get 8 11 (ref := "PrairiePoolModel") cl_8 (Nat.le_of_ble_eq_true rfl) (Or.inl q1638) (Or.inl rfl) dX8_findVotes_195 (fv_8_11 _ _) (ly8_k La0_h) ?_
    refine mx_tr (ly8_R_0_11 La0_h) ?_
    refine mx_iload_n dX8_findVotes_198 rfl rfl ?_
    refine my_iald dX8_findVotes_199 rfl (ly8_A_4 La0_h k1) ?_
    refine mx_dup2_ir dX8_findVotes_200 ?_
    obtain ⟨k3, H⟩ := H
    refine my_lald dX8_findVotes_201 rfl (ly8_A_65 La0_h k3) ?_
    refine mx_aload_n dX8_findVotes_202 rfl rfl ?_
    refine mx_get 8 95 (ref := "PrairiePoolModel") cl_8 (Nat.le_of_ble_eq_true rfl) (Or.inl q1722) (Or.inl rfl) dX8_findVotes_203 (fv_8_95 _ _) (ly8_k La0_h) ?_
    refine mx_tr (ly8_R_0_95 La0_h) ?_
    refine mx_iload_n dX8_findVotes_206 rfl rfl ?_
    refine my_lald dX8_findVotes_207 rfl (ly8_A_66 La0_h k1) ?_
    refine mx_ladd dX8_findVotes_208 ?_
    refine my_last dX8_findVotes_209 rfl (ly8_A_65 La0_h k3) ?_
    refine mx_nmJ  (fun h4 eh4 Xh4 Kh4 Lh4 => ?_)
    have H := H h4 eh4 Xh4
    have La0_h4 := La0_h.ext Xh4
    refine mx_iinc (al' := [some (rv a0), none, some (iv (x2 + (1 : Int32)))]) dX8_findVotes_210 rfl ic_1 rfl ?_
    refine mx_goto (tgt := 143) dX8_findVotes_213 rfl ?_
    exact mx_weak (al' := [some (rv a0), none, some (iv (x2 + (1 : Int32)))]) ⟨rfl, ⟨rfl, trivial⟩⟩ H
theorem dX8_isFor_0 : decode mi_X8_isFor.2.1 0 = .ok (.iconst 0, 1) := by decide +kernel
theorem dX8_isFor_1 : decode mi_X8_isFor.2.1 1 = .ok (.istore_n 1, 1) := by decide +kernel
theorem dX8_isFor_2 : decode mi_X8_isFor.2.1 2 = .ok (.iconst 0, 1) := by decide +kernel
theorem dX8_isFor_3 : decode mi_X8_isFor.2.1 3 = .ok (.istore_n 2, 1) := by decide +kernel
theorem dX8_isFor_4 : decode mi_X8_isFor.2.1 4 = .ok (.iload_n 2, 1) := by decide +kernel
theorem dX8_isFor_5 : decode mi_X8_isFor.2.1 5 = .ok (.bipush 6, 2) := by decide +kernel
theorem dX8_isFor_7 : decode mi_X8_isFor.2.1 7 = .ok (.if_icmp .ge 53, 3) := by decide +kernel
theorem dX8_isFor_10 : decode mi_X8_isFor.2.1 10 = .ok (.iload_n 1, 1) := by decide +kernel
theorem dX8_isFor_11 : decode mi_X8_isFor.2.1 11 = .ok (.aload_n 0, 1) := by decide +kernel
theorem dX8_isFor_12 : decode mi_X8_isFor.2.1 12 = .ok (.getfield 215, 3) := by decide +kernel
theorem dX8_isFor_15 : decode mi_X8_isFor.2.1 15 = .ok (.iload_n 2, 1) := by decide +kernel
theorem dX8_isFor_16 : decode mi_X8_isFor.2.1 16 = .ok (.laload, 1) := by decide +kernel
theorem dX8_isFor_17 : decode mi_X8_isFor.2.1 17 = .ok (.aload_n 0, 1) := by decide +kernel
theorem dX8_isFor_18 : decode mi_X8_isFor.2.1 18 = .ok (.getfield 218, 3) := by decide +kernel
theorem dX8_isFor_21 : decode mi_X8_isFor.2.1 21 = .ok (.iload_n 2, 1) := by decide +kernel
theorem dX8_isFor_22 : decode mi_X8_isFor.2.1 22 = .ok (.laload, 1) := by decide +kernel
theorem dX8_isFor_23 : decode mi_X8_isFor.2.1 23 = .ok (.lcmp, 1) := by decide +kernel
theorem dX8_isFor_24 : decode mi_X8_isFor.2.1 24 = .ok (.ifCond .le 7, 3) := by decide +kernel
theorem dX8_isFor_27 : decode mi_X8_isFor.2.1 27 = .ok (.iconst 1, 1) := by decide +kernel
theorem dX8_isFor_28 : decode mi_X8_isFor.2.1 28 = .ok (.goto 24, 3) := by decide +kernel
theorem dX8_isFor_31 : decode mi_X8_isFor.2.1 31 = .ok (.aload_n 0, 1) := by decide +kernel
theorem dX8_isFor_32 : decode mi_X8_isFor.2.1 32 = .ok (.getfield 215, 3) := by decide +kernel
theorem dX8_isFor_35 : decode mi_X8_isFor.2.1 35 = .ok (.iload_n 2, 1) := by decide +kernel
theorem dX8_isFor_36 : decode mi_X8_isFor.2.1 36 = .ok (.laload, 1) := by decide +kernel
theorem dX8_isFor_37 : decode mi_X8_isFor.2.1 37 = .ok (.aload_n 0, 1) := by decide +kernel
theorem dX8_isFor_38 : decode mi_X8_isFor.2.1 38 = .ok (.getfield 218, 3) := by decide +kernel
theorem dX8_isFor_41 : decode mi_X8_isFor.2.1 41 = .ok (.iload_n 2, 1) := by decide +kernel
theorem dX8_isFor_42 : decode mi_X8_isFor.2.1 42 = .ok (.laload, 1) := by decide +kernel
theorem dX8_isFor_43 : decode mi_X8_isFor.2.1 43 = .ok (.lcmp, 1) := by decide +kernel
theorem dX8_isFor_44 : decode mi_X8_isFor.2.1 44 = .ok (.ifCond .ge 7, 3) := by decide +kernel
theorem dX8_isFor_47 : decode mi_X8_isFor.2.1 47 = .ok (.iconst (-1), 1) := by decide +kernel
theorem dX8_isFor_48 : decode mi_X8_isFor.2.1 48 = .ok (.goto 4, 3) := by decide +kernel
theorem dX8_isFor_51 : decode mi_X8_isFor.2.1 51 = .ok (.iconst 0, 1) := by decide +kernel
theorem dX8_isFor_52 : decode mi_X8_isFor.2.1 52 = .ok (.iadd, 1) := by decide +kernel
theorem dX8_isFor_53 : decode mi_X8_isFor.2.1 53 = .ok (.istore_n 1, 1) := by decide +kernel
theorem dX8_isFor_54 : decode mi_X8_isFor.2.1 54 = .ok (.iinc 2 1, 3) := by decide +kernel
theorem dX8_isFor_57 : decode mi_X8_isFor.2.1 57 = .ok (.goto (-53), 3) := by decide +kernel
theorem dX8_isFor_60 : decode mi_X8_isFor.2.1 60 = .ok (.iload_n 1, 1) := by decide +kernel
theorem dX8_isFor_61 : decode mi_X8_isFor.2.1 61 = .ok (.ifCond .le 7, 3) := by decide +kernel
theorem dX8_isFor_64 : decode mi_X8_isFor.2.1 64 = .ok (.iconst 1, 1) := by decide +kernel
theorem dX8_isFor_65 : decode mi_X8_isFor.2.1 65 = .ok (.goto 4, 3) := by decide +kernel
theorem dX8_isFor_68 : decode mi_X8_isFor.2.1 68 = .ok (.iconst 0, 1) := by decide +kernel
theorem dX8_isFor_69 : decode mi_X8_isFor.2.1 69 = .ok (.ireturn, 1) := by decide +kernel
theorem v_X8_isFor {G : ma_G} {d : Nat} {a0 : Nat} {h : ah_T} {Q : Option ma_V → ah_T → Prop} {E : Nat → ah_T → Prop} (La0_h : LY8 h a0) (H : MX G mi_X8_isFor d 4 [some (rv a0), some (iv (0 : Int32)), some (iv (0 : Int32))] [] h Q E) : MX G mi_X8_isFor d 0 [some (rv a0), none, none] [] h Q E := by
  refine mx_iconst dX8_isFor_0 ic_0 ?_
  refine mx_istore_n (al' := [some (rv a0), some (iv (0 : Int32)), none]) dX8_isFor_1 rfl (Nat.le_of_ble_eq_true rfl) rfl ?_
  refine mx_iconst dX8_isFor_2 ic_0 ?_
  refine mx_istore_n (al' := [some (rv a0), some (iv (0 : Int32)), some (iv (0 : Int32))]) dX8_isFor_3 rfl (Nat.le_of_ble_eq_true rfl) rfl ?_
  exact mx_weak (al' := [some (rv a0), some (iv (0 : Int32)), some (iv (0 : Int32))]) ⟨rfl, ⟨rfl, ⟨rfl, trivial⟩⟩⟩ H
theorem v_X8_isFor_4 {G : ma_G} {d : Nat} {a0 : Nat} {x1 : Int32} {x2 : Int32} {h : ah_T} {Q : Option ma_V → ah_T → Prop} {E : Nat → ah_T → Prop} (La0_h : LY8 h a0) (H : ((6 : Int32) ≤ x2 → (x1 ≤ 0 → Q (some (iv (0 : Int32))) h) ∧ (¬ x1 ≤ 0 → Q (some (iv (1 : Int32))) h)) ∧ (¬ (6 : Int32) ≤ x2 → vp_in x2 6 ∧ ((ah_J h (a0 + 64) x2.toNatClampNeg) ≤ (ah_J h (a0 + 65) x2.toNatClampNeg) → ((ah_J h (a0 + 65) x2.toNatClampNeg) ≤ (ah_J h (a0 + 64) x2.toNatClampNeg) → MX G mi_X8_isFor d 4 [some (rv a0), some (iv (x1 + (0 : Int32))), some (iv (x2 + (1 : Int32)))] [] h Q E) ∧ (¬ (ah_J h (a0 + 65) x2.toNatClampNeg) ≤ (ah_J h (a0 + 64) x2.toNatClampNeg) → MX G mi_X8_isFor d 4 [some (rv a0), some (iv (x1 + (-1 : Int32))), some (iv (x2 + (1 : Int32)))] [] h Q E)) ∧ (¬ (ah_J h (a0 + 64) x2.toNatClampNeg) ≤ (ah_J h (a0 + 65) x2.toNatClampNeg) → MX G mi_X8_isFor d 4 [some (rv a0), some (iv (x1 + (1 : Int32))), some (iv (x2 + (1 : Int32)))] [] h Q E))) : MX G mi_X8_isFor d 4 [some (rv a0), some (iv x1), some (iv x2)] [] h Q E := by
  refine mx_iload_n dX8_isFor_4 rfl rfl ?_
  refine mx_bipush dX8_isFor_5 ib_6 ?_
  refine mx_icmp_ge (tgt := 60) dX8_isFor_7 rfl (fun c1 => ?_) (fun c1 => ?_)
  · have H := H.1 c1
    refine mx_iload_n dX8_isFor_60 rfl rfl ?_
    refine mx_if_le (tgt := 68) dX8_isFor_61 rfl (fun c2 => ?_) (fun c2 => ?_)
    · have H := H.1 c2
      refine mx_iconst dX8_isFor_68 ic_0 ?_
      exact mx_zret rfl dX8_isFor_69 (Or.inl rfl) H
    · have H := H.2 c2
      refine mx_iconst dX8_isFor_64 ic_1 ?_
      refine mx_goto (tgt := 69) dX8_isFor_65 rfl ?_
      exact mx_zret rfl dX8_isFor_69 (Or.inr rfl) H
  · have H := H.2 c1
    refine mx_iload_n dX8_isFor_10 rfl rfl ?_
    refine mx_aload_n dX8_isFor_11 rfl rfl ?_
    refine mx_get 8 93 (ref := "PrairiePoolModel") cl_8 (Nat.le_of_ble_eq_true rfl) (Or.inl q1720) (Or.inl rfl) dX8_isFor_12 (fv_8_93 _ _) (ly8_k La0_h) ?_
    refine mx_tr (ly8_R_0_93 La0_h) ?_
    refine mx_iload_n dX8_isFor_15 rfl rfl ?_
    obtain ⟨k3, H⟩ := H
    refine my_lald dX8_isFor_16 rfl (ly8_A_64 La0_h k3) ?_
    refine mx_aload_n dX8_isFor_17 rfl rfl ?_
    refine mx_get 8 94 (ref := "PrairiePoolModel") cl_8 (Nat.le_of_ble_eq_true rfl) (Or.inl q1721) (Or.inl rfl) dX8_isFor_18 (fv_8_94 _ _) (ly8_k La0_h) ?_
    refine mx_tr (ly8_R_0_94 La0_h) ?_
    refine mx_iload_n dX8_isFor_21 rfl rfl ?_
    refine my_lald dX8_isFor_22 rfl (ly8_A_65 La0_h k3) ?_
    refine mx_lif_le (tgt := 31) dX8_isFor_23 dX8_isFor_24 rfl (fun c4 => ?_) (fun c4 => ?_)
    · have H := H.1 c4
      refine mx_aload_n dX8_isFor_31 rfl rfl ?_
      refine mx_get 8 93 (ref := "PrairiePoolModel") cl_8 (Nat.le_of_ble_eq_true rfl) (Or.inl q1720) (Or.inl rfl) dX8_isFor_32 (fv_8_93 _ _) (ly8_k La0_h) ?_
      refine mx_tr (ly8_R_0_93 La0_h) ?_
      refine mx_iload_n dX8_isFor_35 rfl rfl ?_
      refine my_lald dX8_isFor_36 rfl (ly8_A_64 La0_h k3) ?_
      refine mx_aload_n dX8_isFor_37 rfl rfl ?_
      refine mx_get 8 94 (ref := "PrairiePoolModel") cl_8 (Nat.le_of_ble_eq_true rfl) (Or.inl q1721) (Or.inl rfl) dX8_isFor_38 (fv_8_94 _ _) (ly8_k La0_h) ?_
      refine mx_tr (ly8_R_0_94 La0_h) ?_
      refine mx_iload_n dX8_isFor_41 rfl rfl ?_
      refine my_lald dX8_isFor_42 rfl (ly8_A_65 La0_h k3) ?_
      refine mx_lif_ge (tgt := 51) dX8_isFor_43 dX8_isFor_44 rfl (fun c5 => ?_) (fun c5 => ?_)
      · have H := H.1 c5
        refine mx_iconst dX8_isFor_51 ic_0 ?_
        refine mx_iadd dX8_isFor_52 ?_
        refine mx_istore_n (al' := [some (rv a0), some (iv (x1 + (0 : Int32))), some (iv x2)]) dX8_isFor_53 rfl (Nat.le_of_ble_eq_true rfl) rfl ?_
        refine mx_iinc (al' := [some (rv a0), some (iv (x1 + (0 : Int32))), some (iv (x2 + (1 : Int32)))]) dX8_isFor_54 rfl ic_1 rfl ?_
        refine mx_goto (tgt := 4) dX8_isFor_57 rfl ?_
        exact mx_weak (al' := [some (rv a0), some (iv (x1 + (0 : Int32))), some (iv (x2 + (1 : Int32)))]) ⟨rfl, ⟨rfl, ⟨rfl, trivial⟩⟩⟩ H
      · have H := H.2 c5
        refine mx_iconst dX8_isFor_47 ic_m1 ?_
        refine mx_goto (tgt := 52) dX8_isFor_48 rfl ?_
        refine mx_iadd dX8_isFor_52 ?_
        refine mx_istore_n (al' := [some (rv a0), some (iv (x1 + (-1 : Int32))), some (iv x2)]) dX8_isFor_53 rfl (Nat.le_of_ble_eq_true rfl) rfl ?_
        refine mx_iinc (al' := [some (rv a0), some (iv (x1 + (-1 : Int32))), some (iv (x2 + (1 : Int32)))]) dX8_isFor_54 rfl ic_1 rfl ?_
        refine mx_goto (tgt := 4) dX8_isFor_57 rfl ?_
        exact mx_weak (al' := [some (rv a0), some (iv (x1 + (-1 : Int32))), some (iv (x2 + (1 : Int32)))]) ⟨rfl, ⟨rfl, ⟨rfl, trivial⟩⟩⟩ H
    · have H := H.2 c4
      refine mx_iconst dX8_isFor_27 ic_1 ?_
      refine mx_goto (tgt := 52) dX8_isFor_28 rfl ?_
      refine mx_iadd dX8_isFor_52 ?_
      refine mx_istore_n (al' := [some (rv a0), some (iv (x1 + (1 : Int32))), some (iv x2)]) dX8_isFor_53 rfl (Nat.le_of_ble_eq_true rfl) rfl ?_
      refine mx_iinc (al' := [some (rv a0), some (iv (x1 + (1 : Int32))), some (iv (x2 + (1 : Int32)))]) dX8_isFor_54 rfl ic_1 rfl ?_
      refine mx_goto (tgt := 4) dX8_isFor_57 rfl ?_
      exact mx_weak (al' := [some (rv a0), some (iv (x1 + (1 : Int32))), some (iv (x2 + (1 : Int32)))]) ⟨rfl, ⟨rfl, ⟨rfl, trivial⟩⟩⟩ H
theorem dX8_hangs_0 : decode mi_X8_hangs.2.1 0 = .ok (.aload_n 0, 1) := by decide +kernel
theorem dX8_hangs_1 : decode mi_X8_hangs.2.1 1 = .ok (.iconst 0, 1) := by decide +kernel
theorem dX8_hangs_2 : decode mi_X8_hangs.2.1 2 = .ok (.putfield 257, 3) := by decide +kernel
theorem dX8_hangs_5 : decode mi_X8_hangs.2.1 5 = .ok (.aload_n 0, 1) := by decide +kernel
theorem dX8_hangs_6 : decode mi_X8_hangs.2.1 6 = .ok (.iconst 0, 1) := by decide +kernel
theorem dX8_hangs_7 : decode mi_X8_hangs.2.1 7 = .ok (.putfield 260, 3) := by decide +kernel
theorem dX8_hangs_10 : decode mi_X8_hangs.2.1 10 = .ok (.iload_n 1, 1) := by decide +kernel
theorem dX8_hangs_11 : decode mi_X8_hangs.2.1 11 = .ok (.invokestatic 306, 3) := by decide +kernel
theorem dX8_hangs_14 : decode mi_X8_hangs.2.1 14 = .ok (.ifCond .ne 9, 3) := by decide +kernel
theorem dX8_hangs_17 : decode mi_X8_hangs.2.1 17 = .ok (.aload_n 0, 1) := by decide +kernel
theorem dX8_hangs_18 : decode mi_X8_hangs.2.1 18 = .ok (.iconst 5, 1) := by decide +kernel
theorem dX8_hangs_19 : decode mi_X8_hangs.2.1 19 = .ok (.invokevirtual 297, 3) := by decide +kernel
theorem dX8_hangs_22 : decode mi_X8_hangs.2.1 22 = .ok (.ireturn, 1) := by decide +kernel
theorem dX8_hangs_23 : decode mi_X8_hangs.2.1 23 = .ok (.aload_n 0, 1) := by decide +kernel
theorem dX8_hangs_24 : decode mi_X8_hangs.2.1 24 = .ok (.iload_n 1, 1) := by decide +kernel
theorem dX8_hangs_25 : decode mi_X8_hangs.2.1 25 = .ok (.invokevirtual 641, 3) := by decide +kernel
theorem dX8_hangs_28 : decode mi_X8_hangs.2.1 28 = .ok (.aload_n 0, 1) := by decide +kernel
theorem dX8_hangs_29 : decode mi_X8_hangs.2.1 29 = .ok (.invokevirtual 644, 3) := by decide +kernel
theorem dX8_hangs_32 : decode mi_X8_hangs.2.1 32 = .ok (.istore_n 2, 1) := by decide +kernel
theorem dX8_hangs_33 : decode mi_X8_hangs.2.1 33 = .ok (.iconst 0, 1) := by decide +kernel
theorem dX8_hangs_34 : decode mi_X8_hangs.2.1 34 = .ok (.istore_n 3, 1) := by decide +kernel
theorem dX8_hangs_35 : decode mi_X8_hangs.2.1 35 = .ok (.iconst 0, 1) := by decide +kernel
theorem dX8_hangs_36 : decode mi_X8_hangs.2.1 36 = .ok (.istore 4, 2) := by decide +kernel
theorem dX8_hangs_38 : decode mi_X8_hangs.2.1 38 = .ok (.iload 4, 2) := by decide +kernel
theorem dX8_hangs_40 : decode mi_X8_hangs.2.1 40 = .ok (.aload_n 0, 1) := by decide +kernel
theorem dX8_hangs_41 : decode mi_X8_hangs.2.1 41 = .ok (.getfield 291, 3) := by decide +kernel
theorem dX8_hangs_44 : decode mi_X8_hangs.2.1 44 = .ok (.if_icmp .ge 34, 3) := by decide +kernel
theorem dX8_hangs_47 : decode mi_X8_hangs.2.1 47 = .ok (.aload_n 0, 1) := by decide +kernel
theorem dX8_hangs_48 : decode mi_X8_hangs.2.1 48 = .ok (.getfield 182, 3) := by decide +kernel
theorem dX8_hangs_51 : decode mi_X8_hangs.2.1 51 = .ok (.iload 4, 2) := by decide +kernel
theorem dX8_hangs_53 : decode mi_X8_hangs.2.1 53 = .ok (.iaload, 1) := by decide +kernel
theorem dX8_hangs_54 : decode mi_X8_hangs.2.1 54 = .ok (.iconst (-1), 1) := by decide +kernel
theorem dX8_hangs_55 : decode mi_X8_hangs.2.1 55 = .ok (.if_icmp .eq 6, 3) := by decide +kernel
theorem dX8_hangs_58 : decode mi_X8_hangs.2.1 58 = .ok (.goto 14, 3) := by decide +kernel
theorem dX8_hangs_61 : decode mi_X8_hangs.2.1 61 = .ok (.aload_n 0, 1) := by decide +kernel
theorem dX8_hangs_62 : decode mi_X8_hangs.2.1 62 = .ok (.getfield 209, 3) := by decide +kernel
theorem dX8_hangs_65 : decode mi_X8_hangs.2.1 65 = .ok (.iload_n 3, 1) := by decide +kernel
theorem dX8_hangs_66 : decode mi_X8_hangs.2.1 66 = .ok (.iload 4, 2) := by decide +kernel
theorem dX8_hangs_68 : decode mi_X8_hangs.2.1 68 = .ok (.iastore, 1) := by decide +kernel
theorem dX8_hangs_69 : decode mi_X8_hangs.2.1 69 = .ok (.iinc 3 1, 3) := by decide +kernel
theorem dX8_hangs_72 : decode mi_X8_hangs.2.1 72 = .ok (.iinc 4 1, 3) := by decide +kernel
theorem dX8_hangs_75 : decode mi_X8_hangs.2.1 75 = .ok (.goto (-37), 3) := by decide +kernel
theorem dX8_hangs_78 : decode mi_X8_hangs.2.1 78 = .ok (.iconst (-1), 1) := by decide +kernel
theorem dX8_hangs_79 : decode mi_X8_hangs.2.1 79 = .ok (.istore 4, 2) := by decide +kernel
theorem dX8_hangs_81 : decode mi_X8_hangs.2.1 81 = .ok (.iload_n 3, 1) := by decide +kernel
theorem dX8_hangs_82 : decode mi_X8_hangs.2.1 82 = .ok (.iconst 1, 1) := by decide +kernel
theorem dX8_hangs_83 : decode mi_X8_hangs.2.1 83 = .ok (.iadd, 1) := by decide +kernel
theorem dX8_hangs_84 : decode mi_X8_hangs.2.1 84 = .ok (.istore 5, 2) := by decide +kernel
theorem dX8_hangs_86 : decode mi_X8_hangs.2.1 86 = .ok (.iconst 1, 1) := by decide +kernel
theorem dX8_hangs_87 : decode mi_X8_hangs.2.1 87 = .ok (.istore 6, 2) := by decide +kernel
theorem dX8_hangs_89 : decode mi_X8_hangs.2.1 89 = .ok (.iload 6, 2) := by decide +kernel
theorem dX8_hangs_91 : decode mi_X8_hangs.2.1 91 = .ok (.iconst 1, 1) := by decide +kernel
theorem dX8_hangs_92 : decode mi_X8_hangs.2.1 92 = .ok (.iload_n 3, 1) := by decide +kernel
theorem dX8_hangs_93 : decode mi_X8_hangs.2.1 93 = .ok (.ishl, 1) := by decide +kernel
theorem dX8_hangs_94 : decode mi_X8_hangs.2.1 94 = .ok (.if_icmp .ge 59, 3) := by decide +kernel
theorem dX8_hangs_97 : decode mi_X8_hangs.2.1 97 = .ok (.iload 6, 2) := by decide +kernel
theorem dX8_hangs_99 : decode mi_X8_hangs.2.1 99 = .ok (.invokestatic 647, 3) := by decide +kernel
theorem dX8_hangs_102 : decode mi_X8_hangs.2.1 102 = .ok (.iload 5, 2) := by decide +kernel
theorem dX8_hangs_104 : decode mi_X8_hangs.2.1 104 = .ok (.if_icmp .lt 6, 3) := by decide +kernel
theorem dX8_hangs_107 : decode mi_X8_hangs.2.1 107 = .ok (.goto 40, 3) := by decide +kernel
theorem dX8_hangs_110 : decode mi_X8_hangs.2.1 110 = .ok (.aload_n 0, 1) := by decide +kernel
theorem dX8_hangs_111 : decode mi_X8_hangs.2.1 111 = .ok (.iload 6, 2) := by decide +kernel
theorem dX8_hangs_113 : decode mi_X8_hangs.2.1 113 = .ok (.iload_n 3, 1) := by decide +kernel
theorem dX8_hangs_114 : decode mi_X8_hangs.2.1 114 = .ok (.iload_n 2, 1) := by decide +kernel
theorem dX8_hangs_115 : decode mi_X8_hangs.2.1 115 = .ok (.iconst 1, 1) := by decide +kernel
theorem dX8_hangs_116 : decode mi_X8_hangs.2.1 116 = .ok (.invokevirtual 652, 3) := by decide +kernel
theorem dX8_hangs_119 : decode mi_X8_hangs.2.1 119 = .ok (.aload_n 0, 1) := by decide +kernel
theorem dX8_hangs_120 : decode mi_X8_hangs.2.1 120 = .ok (.invokevirtual 644, 3) := by decide +kernel
theorem dX8_hangs_123 : decode mi_X8_hangs.2.1 123 = .ok (.iload_n 2, 1) := by decide +kernel
theorem dX8_hangs_124 : decode mi_X8_hangs.2.1 124 = .ok (.if_icmp .eq 14, 3) := by decide +kernel
theorem dX8_hangs_127 : decode mi_X8_hangs.2.1 127 = .ok (.iload 6, 2) := by decide +kernel
theorem dX8_hangs_129 : decode mi_X8_hangs.2.1 129 = .ok (.invokestatic 647, 3) := by decide +kernel
theorem dX8_hangs_132 : decode mi_X8_hangs.2.1 132 = .ok (.istore 5, 2) := by decide +kernel
theorem dX8_hangs_134 : decode mi_X8_hangs.2.1 134 = .ok (.iload 6, 2) := by decide +kernel
theorem dX8_hangs_136 : decode mi_X8_hangs.2.1 136 = .ok (.istore 4, 2) := by decide +kernel
theorem dX8_hangs_138 : decode mi_X8_hangs.2.1 138 = .ok (.aload_n 0, 1) := by decide +kernel
theorem dX8_hangs_139 : decode mi_X8_hangs.2.1 139 = .ok (.iload 6, 2) := by decide +kernel
theorem dX8_hangs_141 : decode mi_X8_hangs.2.1 141 = .ok (.iload_n 3, 1) := by decide +kernel
theorem dX8_hangs_142 : decode mi_X8_hangs.2.1 142 = .ok (.iload_n 2, 1) := by decide +kernel
theorem dX8_hangs_143 : decode mi_X8_hangs.2.1 143 = .ok (.iconst (-1), 1) := by decide +kernel
theorem dX8_hangs_144 : decode mi_X8_hangs.2.1 144 = .ok (.invokevirtual 652, 3) := by decide +kernel
theorem dX8_hangs_147 : decode mi_X8_hangs.2.1 147 = .ok (.iinc 6 1, 3) := by decide +kernel
theorem dX8_hangs_150 : decode mi_X8_hangs.2.1 150 = .ok (.goto (-61), 3) := by decide +kernel
theorem dX8_hangs_153 : decode mi_X8_hangs.2.1 153 = .ok (.iload 4, 2) := by decide +kernel
theorem dX8_hangs_155 : decode mi_X8_hangs.2.1 155 = .ok (.ifCond .ge 5, 3) := by decide +kernel
theorem dX8_hangs_158 : decode mi_X8_hangs.2.1 158 = .ok (.iconst (-1), 1) := by decide +kernel
theorem dX8_hangs_159 : decode mi_X8_hangs.2.1 159 = .ok (.ireturn, 1) := by decide +kernel
theorem dX8_hangs_160 : decode mi_X8_hangs.2.1 160 = .ok (.iconst 0, 1) := by decide +kernel
theorem dX8_hangs_161 : decode mi_X8_hangs.2.1 161 = .ok (.istore 6, 2) := by decide +kernel
theorem dX8_hangs_163 : decode mi_X8_hangs.2.1 163 = .ok (.iconst 0, 1) := by decide +kernel
theorem dX8_hangs_164 : decode mi_X8_hangs.2.1 164 = .ok (.istore 7, 2) := by decide +kernel
theorem dX8_hangs_166 : decode mi_X8_hangs.2.1 166 = .ok (.iload 7, 2) := by decide +kernel
theorem dX8_hangs_168 : decode mi_X8_hangs.2.1 168 = .ok (.iload_n 3, 1) := by decide +kernel
theorem dX8_hangs_169 : decode mi_X8_hangs.2.1 169 = .ok (.if_icmp .ge 29, 3) := by decide +kernel
theorem dX8_hangs_172 : decode mi_X8_hangs.2.1 172 = .ok (.iload 6, 2) := by decide +kernel
theorem dX8_hangs_174 : decode mi_X8_hangs.2.1 174 = .ok (.iload 4, 2) := by decide +kernel
theorem dX8_hangs_176 : decode mi_X8_hangs.2.1 176 = .ok (.iload 7, 2) := by decide +kernel
theorem dX8_hangs_178 : decode mi_X8_hangs.2.1 178 = .ok (.ishr, 1) := by decide +kernel
theorem dX8_hangs_179 : decode mi_X8_hangs.2.1 179 = .ok (.iconst 1, 1) := by decide +kernel
theorem dX8_hangs_180 : decode mi_X8_hangs.2.1 180 = .ok (.iand, 1) := by decide +kernel
theorem dX8_hangs_181 : decode mi_X8_hangs.2.1 181 = .ok (.aload_n 0, 1) := by decide +kernel
theorem dX8_hangs_182 : decode mi_X8_hangs.2.1 182 = .ok (.getfield 209, 3) := by decide +kernel
theorem dX8_hangs_185 : decode mi_X8_hangs.2.1 185 = .ok (.iload 7, 2) := by decide +kernel
theorem dX8_hangs_187 : decode mi_X8_hangs.2.1 187 = .ok (.iaload, 1) := by decide +kernel
theorem dX8_hangs_188 : decode mi_X8_hangs.2.1 188 = .ok (.ishl, 1) := by decide +kernel
theorem dX8_hangs_189 : decode mi_X8_hangs.2.1 189 = .ok (.ior, 1) := by decide +kernel
theorem dX8_hangs_190 : decode mi_X8_hangs.2.1 190 = .ok (.istore 6, 2) := by decide +kernel
theorem dX8_hangs_192 : decode mi_X8_hangs.2.1 192 = .ok (.iinc 7 1, 3) := by decide +kernel
theorem dX8_hangs_195 : decode mi_X8_hangs.2.1 195 = .ok (.goto (-29), 3) := by decide +kernel
theorem dX8_hangs_198 : decode mi_X8_hangs.2.1 198 = .ok (.iload 6, 2) := by decide +kernel
theorem dX8_hangs_200 : decode mi_X8_hangs.2.1 200 = .ok (.ireturn, 1) := by decide +kernel
theorem v_X8_hangs {G : ma_G} {d : Nat} {a0 : Nat} {x1 : Int32} {h : ah_T} {Q : Option ma_V → ah_T → Prop} {E : Nat → ah_T → Prop} (La0_h : LY8 h a0) (H : ∀ h1 : ah_T, h1 = ah_wI h a0 1 (0 : Int32) → ah_ext h h1 → ∀ h2 : ah_T, h2 = ah_wI h1 a0 0 (0 : Int32) → ah_ext h1 h2 → (x1.toInt64 < (0 : Int64) → ∀ h4 : ah_T, h4 = ah_wI h2 a0 0 (5 : Int32) → ah_ext h2 h4 → Q (some (iv (-1 : Int32))) h4) ∧ (¬ x1.toInt64 < (0 : Int64) → ((519 : Int64) < x1.toInt64 → ∀ h6 : ah_T, h6 = ah_wI h2 a0 0 (5 : Int32) → ah_ext h2 h6 → Q (some (iv (-1 : Int32))) h6) ∧ (¬ (519 : Int64) < x1.toInt64 → MX G mi_X8_findVotes (d + 1) 0 [some (rv a0), some (iv x1), none] [] h2 (Qv fun h7 => ah_ext h2 h7 → MX G mi_X8_isFor (d + 1) 0 [some (rv a0), none, none] [] h7 (Qi fun r10 h9 => ah_ext h7 h9 → MX G mi_X8_hangs (d + 2) 38 [some (rv a0), none, some (iv r10), some (iv (0 : Int32)), some (iv (0 : Int32)), none, none, none] [] h9 Q E) E) E))) : MX G mi_X8_hangs (d + 2) 0 [some (rv a0), some (iv x1), none, none, none, none, none, none] [] h Q E := by
  refine mx_aload_n dX8_hangs_0 rfl rfl ?_
  refine mx_iconst dX8_hangs_1 ic_0 ?_
  refine mx_putI 8 1 (ref := "PrairiePoolModel") cl_8 (Nat.le_of_ble_eq_true rfl) (Or.inl q1628) (Or.inl rfl) dX8_hangs_2 (Or.inl rfl) rfl (ly8_k La0_h) ?_
  refine mx_nmI  (fun h1 eh1 Xh1 Kh1 Lh1 => ?_)
  have H := H h1 eh1 Xh1
  have La0_h1 := La0_h.ext Xh1
  refine mx_aload_n dX8_hangs_5 rfl rfl ?_
  refine mx_iconst dX8_hangs_6 ic_0 ?_
  refine mx_putI 8 0 (ref := "PrairiePoolModel") cl_8 (Nat.le_of_ble_eq_true rfl) (Or.inl q1627) (Or.inl rfl) dX8_hangs_7 (Or.inl rfl) rfl (ly8_k La0_h1) ?_
  refine mx_nmI  (fun h2 eh2 Xh2 Kh2 Lh2 => ?_)
  have H := H h2 eh2 Xh2
  have Kh2 := Kh2.trans Kh1
  have Lh2 := Lh2.trans Lh1
  have La0_h2 := La0_h1.ext Xh2
  refine mx_iload_n dX8_hangs_10 rfl rfl ?_
  refine mx_callS (y' := mi_X8_isDay) (vs := [iv x1]) (st := []) (al' := [some (iv x1)]) S_X8_isDay q2028 dX8_hangs_11 rfl rfl (Nat.le_of_ble_eq_true rfl) (Nat.le_of_ble_eq_true rfl) ?_
  refine mx_iload_n dX8_isDay_0 rfl rfl ?_
  refine mx_i2l dX8_isDay_1 ?_
  refine mx_lconst dX8_isDay_2 lc_0 ?_
  refine mx_ldc2 q2031 dX8_isDay_3 ?_
  refine mx_callS (y' := mi_X8_isIn) (vs := [jv x1.toInt64, jv (0 : Int64), jv (519 : Int64)]) (st := []) (al' := [some (jv x1.toInt64), none, some (jv (0 : Int64)), none, some (jv (519 : Int64)), none]) S_X8_isIn q1996 dX8_isDay_6 rfl rfl (Nat.le_of_ble_eq_true rfl) (Nat.le_of_ble_eq_true rfl) ?_
  refine mx_lload_n dX8_isIn_0 rfl rfl ?_
  refine mx_lload_n dX8_isIn_1 rfl rfl ?_
  refine mx_lif_lt (tgt := 17) dX8_isIn_2 dX8_isIn_3 rfl (fun c3 => ?_) (fun c3 => ?_)
  · have H := H.1 c3
    refine mx_iconst dX8_isIn_17 ic_0 ?_
    refine mx_zretK rfl dX8_isIn_18 (Or.inl rfl) ?_
    refine mx_zretK rfl dX8_isDay_9 (Or.inl rfl) ?_
    refine mx_if_ne (tgt := 23) dX8_hangs_14 rfl (fun _ => absurd ‹_› (by decide)) (fun _ => ?_)
    refine mx_aload_n dX8_hangs_17 rfl rfl ?_
    refine mx_iconst dX8_hangs_18 ic_5 ?_
    refine mx_callV 8 (y' := mi_X8_refuse) (vs := [iv (5 : Int32)]) (st := []) (al' := [some (rv a0), some (iv (5 : Int32))]) cl_8 V_X8_refuse (Or.inl q1999) dX8_hangs_19 rfl rfl (Nat.le_of_ble_eq_true rfl) (Nat.le_of_ble_eq_true rfl) (ly8_k La0_h2) ?_
    refine mx_aload_n dX8_refuse_0 rfl rfl ?_
    refine mx_iload_n dX8_refuse_1 rfl rfl ?_
    refine mx_putI 8 0 (ref := "PrairiePoolModel") cl_8 (Nat.le_of_ble_eq_true rfl) (Or.inl q1627) (Or.inl rfl) dX8_refuse_2 (Or.inl rfl) rfl (ly8_k La0_h2) ?_
    refine mx_nmI  (fun h4 eh4 Xh4 Kh4 Lh4 => ?_)
    have H := H h4 eh4 Xh4
    have Kh4 := Kh4.trans Kh2
    have Lh4 := Lh4.trans Lh2
    have La0_h4 := La0_h2.ext Xh4
    refine mx_iconst dX8_refuse_5 ic_m1 ?_
    refine mx_iretK rfl dX8_refuse_6 ?_
    exact mx_iret rfl dX8_hangs_22 H
  · have H := H.2 c3
    refine mx_lload_n dX8_isIn_6 rfl rfl ?_
    refine mx_lload dX8_isIn_7 rfl ?_
    refine mx_lif_gt (tgt := 17) dX8_isIn_9 dX8_isIn_10 rfl (fun c5 => ?_) (fun c5 => ?_)
    · have H := H.1 c5
      refine mx_iconst dX8_isIn_17 ic_0 ?_
      refine mx_zretK rfl dX8_isIn_18 (Or.inl rfl) ?_
      refine mx_zretK rfl dX8_isDay_9 (Or.inl rfl) ?_
      refine mx_if_ne (tgt := 23) dX8_hangs_14 rfl (fun _ => absurd ‹_› (by decide)) (fun _ => ?_)
      refine mx_aload_n dX8_hangs_17 rfl rfl ?_
      refine mx_iconst dX8_hangs_18 ic_5 ?_
      refine mx_callV 8 (y' := mi_X8_refuse) (vs := [iv (5 : Int32)]) (st := []) (al' := [some (rv a0), some (iv (5 : Int32))]) cl_8 V_X8_refuse (Or.inl q1999) dX8_hangs_19 rfl rfl (Nat.le_of_ble_eq_true rfl) (Nat.le_of_ble_eq_true rfl) (ly8_k La0_h2) ?_
      refine mx_aload_n dX8_refuse_0 rfl rfl ?_
      refine mx_iload_n dX8_refuse_1 rfl rfl ?_
      refine mx_putI 8 0 (ref := "PrairiePoolModel") cl_8 (Nat.le_of_ble_eq_true rfl) (Or.inl q1627) (Or.inl rfl) dX8_refuse_2 (Or.inl rfl) rfl (ly8_k La0_h2) ?_
      refine mx_nmI  (fun h6 eh6 Xh6 Kh6 Lh6 => ?_)
      have H := H h6 eh6 Xh6
      have Kh6 := Kh6.trans Kh2
      have Lh6 := Lh6.trans Lh2
      have La0_h6 := La0_h2.ext Xh6
      refine mx_iconst dX8_refuse_5 ic_m1 ?_
      refine mx_iretK rfl dX8_refuse_6 ?_
      exact mx_iret rfl dX8_hangs_22 H
    · have H := H.2 c5
      refine mx_iconst dX8_isIn_13 ic_1 ?_
      refine mx_goto (tgt := 18) dX8_isIn_14 rfl ?_
      refine mx_zretK rfl dX8_isIn_18 (Or.inr rfl) ?_
      refine mx_zretK rfl dX8_isDay_9 (Or.inr rfl) ?_
      refine mx_if_ne (tgt := 23) dX8_hangs_14 rfl (fun _ => ?_) (fun _ => absurd ‹_› (by decide))
      refine mx_aload_n dX8_hangs_23 rfl rfl ?_
      refine mx_iload_n dX8_hangs_24 rfl rfl ?_
      refine mx_callV 8 (y' := mi_X8_findVotes) (vs := [iv x1]) (st := []) (al' := [some (rv a0), some (iv x1), none]) cl_8 V_X8_findVotes (Or.inl q2410) dX8_hangs_25 rfl rfl (Nat.le_of_ble_eq_true rfl) (Nat.le_of_ble_eq_true rfl) (ly8_k La0_h2) ?_
      refine ma_kv H (fun h7 Xh7 H => ?_) (fun x1 h1 X1 H => mt_out rfl H)
      have H := H Xh7
      have La0_h7 := La0_h2.ext Xh7
      refine mx_aload_n dX8_hangs_28 rfl rfl ?_
      refine mx_callV 8 (y' := mi_X8_isFor) (vs := []) (st := []) (al' := [some (rv a0), none, none]) cl_8 V_X8_isFor (Or.inl q2414) dX8_hangs_29 rfl rfl (Nat.le_of_ble_eq_true rfl) (Nat.le_of_ble_eq_true rfl) (ly8_k La0_h7) ?_
      refine ma_ki H (fun r10 h9 Xh9 H => ?_) (fun x1 h1 X1 H => mt_out rfl H)
      have H := H Xh9
      have La0_h9 := La0_h7.ext Xh9
      refine mx_istore_n (al' := [some (rv a0), some (iv x1), some (iv r10), none, none, none, none, none]) dX8_hangs_32 rfl (Nat.le_of_ble_eq_true rfl) rfl ?_
      refine mx_iconst dX8_hangs_33 ic_0 ?_
      refine mx_istore_n (al' := [some (rv a0), some (iv x1), some (iv r10), some (iv (0 : Int32)), none, none, none, none]) dX8_hangs_34 rfl (Nat.le_of_ble_eq_true rfl) rfl ?_
      refine mx_iconst dX8_hangs_35 ic_0 ?_
      refine mx_istore (al' := [some (rv a0), some (iv x1), some (iv r10), some (iv (0 : Int32)), some (iv (0 : Int32)), none, none, none]) dX8_hangs_36 (Nat.le_of_ble_eq_true rfl) rfl ?_
      exact mx_weak (al' := [some (rv a0), none, some (iv r10), some (iv (0 : Int32)), some (iv (0 : Int32)), none, none, none]) ⟨rfl, ⟨rfl, ⟨rfl, ⟨rfl, trivial⟩⟩⟩⟩ H
theorem v_X8_hangs_38 {G : ma_G} {d : Nat} {a0 : Nat} {x2 : Int32} {x3 : Int32} {x4 : Int32} {h : ah_T} {Q : Option ma_V → ah_T → Prop} {E : Nat → ah_T → Prop} (La0_h : LY8 h a0) (H : ((ah_I h a0 5) ≤ x4 → MX G mi_X8_hangs (d + 2) 89 [some (rv a0), none, some (iv x2), some (iv x3), some (iv (-1 : Int32)), some (iv (x3 + (1 : Int32))), some (iv (1 : Int32)), none] [] h Q E) ∧ (¬ (ah_I h a0 5) ≤ x4 → vp_in x4 20 ∧ ((ah_I h (a0 + 55) x4.toNatClampNeg) = (-1 : Int32) → vp_in x3 20 ∧ ∀ h5 : ah_T, h5 = ah_wI h (a0 + 62) x3.toNatClampNeg x4 → ah_ext h h5 → MX G mi_X8_hangs (d + 2) 38 [some (rv a0), none, some (iv x2), some (iv (x3 + (1 : Int32))), some (iv (x4 + (1 : Int32))), none, none, none] [] h5 Q E) ∧ (¬ (ah_I h (a0 + 55) x4.toNatClampNeg) = (-1 : Int32) → MX G mi_X8_hangs (d + 2) 38 [some (rv a0), none, some (iv x2), some (iv x3), some (iv (x4 + (1 : Int32))), none, none, none] [] h Q E))) : MX G mi_X8_hangs (d + 2) 38 [some (rv a0), none, some (iv x2), some (iv x3), some (iv x4), none, none, none] [] h Q E := by
  refine mx_iload dX8_hangs_38 rfl ?_
  refine mx_aload_n dX8_hangs_40 rfl rfl ?_
  refine mx_get 8 5 (ref := "PrairiePoolModel") cl_8 (Nat.le_of_ble_eq_true rfl) (Or.inl q1632) (Or.inl rfl) dX8_hangs_41 (fv_8_5 _ _) (ly8_k La0_h) ?_
  refine mx_icmp_ge (tgt := 78) dX8_hangs_44 rfl (fun c1 => ?_) (fun c1 => ?_)
  · have H := H.1 c1
    refine mx_iconst dX8_hangs_78 ic_m1 ?_
    refine mx_istore (al' := [some (rv a0), none, some (iv x2), some (iv x3), some (iv (-1 : Int32)), none, none, none]) dX8_hangs_79 (Nat.le_of_ble_eq_true rfl) rfl ?_
    refine mx_iload_n dX8_hangs_81 rfl rfl ?_
    refine mx_iconst dX8_hangs_82 ic_1 ?_
    refine mx_iadd dX8_hangs_83 ?_
    refine mx_istore (al' := [some (rv a0), none, some (iv x2), some (iv x3), some (iv (-1 : Int32)), some (iv (x3 + (1 : Int32))), none, none]) dX8_hangs_84 (Nat.le_of_ble_eq_true rfl) rfl ?_
    refine mx_iconst dX8_hangs_86 ic_1 ?_
    refine mx_istore (al' := [some (rv a0), none, some (iv x2), some (iv x3), some (iv (-1 : Int32)), some (iv (x3 + (1 : Int32))), some (iv (1 : Int32)), none]) dX8_hangs_87 (Nat.le_of_ble_eq_true rfl) rfl ?_
    exact mx_weak (al' := [some (rv a0), none, some (iv x2), some (iv x3), some (iv (-1 : Int32)), some (iv (x3 + (1 : Int32))), some (iv (1 : Int32)), none]) ⟨rfl, ⟨rfl, ⟨rfl, ⟨rfl, ⟨rfl, ⟨rfl, trivial⟩⟩⟩⟩⟩⟩ H
  · have H := H.2 c1
    refine mx_aload_n dX8_hangs_47 rfl rfl ?_
    refine mx_get 8 81 (ref := "PrairiePoolModel") cl_8 (Nat.le_of_ble_eq_true rfl) (Or.inl q1708) (Or.inl rfl) dX8_hangs_48 (fv_8_81 _ _) (ly8_k La0_h) ?_
    refine mx_tr (ly8_R_0_81 La0_h) ?_
    refine mx_iload dX8_hangs_51 rfl ?_
    obtain ⟨k2, H⟩ := H
    refine my_iald dX8_hangs_53 rfl (ly8_A_55 La0_h k2) ?_
    refine mx_iconst dX8_hangs_54 ic_m1 ?_
    refine mx_icmp_eq (tgt := 61) dX8_hangs_55 rfl (fun c3 => ?_) (fun c3 => ?_)
    · have H := H.1 c3
      refine mx_aload_n dX8_hangs_61 rfl rfl ?_
      refine mx_get 8 91 (ref := "PrairiePoolModel") cl_8 (Nat.le_of_ble_eq_true rfl) (Or.inl q1718) (Or.inl rfl) dX8_hangs_62 (fv_8_91 _ _) (ly8_k La0_h) ?_
      refine mx_tr (ly8_R_0_91 La0_h) ?_
      refine mx_iload_n dX8_hangs_65 rfl rfl ?_
      refine mx_iload dX8_hangs_66 rfl ?_
      obtain ⟨k4, H⟩ := H
      refine my_iast dX8_hangs_68 rfl (ly8_A_62 La0_h k4) ?_
      refine mx_nmI  (fun h5 eh5 Xh5 Kh5 Lh5 => ?_)
      have H := H h5 eh5 Xh5
      have La0_h5 := La0_h.ext Xh5
      refine mx_iinc (al' := [some (rv a0), none, some (iv x2), some (iv (x3 + (1 : Int32))), some (iv x4), none, none, none]) dX8_hangs_69 rfl ic_1 rfl ?_
      refine mx_iinc (al' := [some (rv a0), none, some (iv x2), some (iv (x3 + (1 : Int32))), some (iv (x4 + (1 : Int32))), none, none, none]) dX8_hangs_72 rfl ic_1 rfl ?_
      refine mx_goto (tgt := 38) dX8_hangs_75 rfl ?_
      exact mx_weak (al' := [some (rv a0), none, some (iv x2), some (iv (x3 + (1 : Int32))), some (iv (x4 + (1 : Int32))), none, none, none]) ⟨rfl, ⟨rfl, ⟨rfl, ⟨rfl, trivial⟩⟩⟩⟩ H
    · have H := H.2 c3
      refine mx_goto (tgt := 72) dX8_hangs_58 rfl ?_
      refine mx_iinc (al' := [some (rv a0), none, some (iv x2), some (iv x3), some (iv (x4 + (1 : Int32))), none, none, none]) dX8_hangs_72 rfl ic_1 rfl ?_
      refine mx_goto (tgt := 38) dX8_hangs_75 rfl ?_
      exact mx_weak (al' := [some (rv a0), none, some (iv x2), some (iv x3), some (iv (x4 + (1 : Int32))), none, none, none]) ⟨rfl, ⟨rfl, ⟨rfl, ⟨rfl, trivial⟩⟩⟩⟩ H
theorem v_X8_hangs_89 {G : ma_G} {d : Nat} {a0 : Nat} {x2 : Int32} {x3 : Int32} {x4 : Int32} {x5 : Int32} {x6 : Int32} {h : ah_T} {Q : Option ma_V → ah_T → Prop} {E : Nat → ah_T → Prop} (La0_h : LY8 h a0) (H : (((1 : Int32) <<< (x3 &&& 31)) ≤ x6 → (0 ≤ x4 → MX G mi_X8_hangs (d + 2) 166 [some (rv a0), none, none, some (iv x3), some (iv x4), none, some (iv (0 : Int32)), some (iv (0 : Int32))] [] h Q E) ∧ (¬ 0 ≤ x4 → Q (some (iv (-1 : Int32))) h)) ∧ (¬ ((1 : Int32) <<< (x3 &&& 31)) ≤ x6 → ((iBits x6) < x5 → MX G mi_X8_add (d + 1) 0 [some (rv a0), some (iv x6), some (iv x3), some (iv x2), some (iv (1 : Int32)), none, none] [] h (Qv fun h4 => ah_ext h h4 → MX G mi_X8_isFor (d + 1) 0 [some (rv a0), none, none] [] h4 (Qi fun r7 h6 => ah_ext h4 h6 → (r7 = x2 → MX G mi_X8_add (d + 1) 0 [some (rv a0), some (iv x6), some (iv x3), some (iv x2), some (iv (-1 : Int32)), none, none] [] h6 (Qv fun h9 => ah_ext h6 h9 → MX G mi_X8_hangs (d + 2) 89 [some (rv a0), none, some (iv x2), some (iv x3), some (iv x4), some (iv x5), some (iv (x6 + (1 : Int32))), none] [] h9 Q E) E) ∧ (¬ r7 = x2 → MX G mi_X8_add (d + 1) 0 [some (rv a0), some (iv x6), some (iv x3), some (iv x2), some (iv (-1 : Int32)), none, none] [] h6 (Qv fun h11 => ah_ext h6 h11 → MX G mi_X8_hangs (d + 2) 89 [some (rv a0), none, some (iv x2), some (iv x3), some (iv x6), some (iv (iBits x6)), some (iv (x6 + (1 : Int32))), none] [] h11 Q E) E)) E) E) ∧ (¬ (iBits x6) < x5 → MX G mi_X8_hangs (d + 2) 89 [some (rv a0), none, some (iv x2), some (iv x3), some (iv x4), some (iv x5), some (iv (x6 + (1 : Int32))), none] [] h Q E))) : MX G mi_X8_hangs (d + 2) 89 [some (rv a0), none, some (iv x2), some (iv x3), some (iv x4), some (iv x5), some (iv x6), none] [] h Q E := by
  refine mx_iload dX8_hangs_89 rfl ?_
  refine mx_iconst dX8_hangs_91 ic_1 ?_
  refine mx_iload_n dX8_hangs_92 rfl rfl ?_
  refine mx_ishl dX8_hangs_93 ?_
  refine mx_icmp_ge (tgt := 153) dX8_hangs_94 rfl (fun c1 => ?_) (fun c1 => ?_)
  · have H := H.1 c1
    refine mx_iload dX8_hangs_153 rfl ?_
    refine mx_if_ge (tgt := 160) dX8_hangs_155 rfl (fun c2 => ?_) (fun c2 => ?_)
    · have H := H.1 c2
      refine mx_iconst dX8_hangs_160 ic_0 ?_
      refine mx_istore (al' := [some (rv a0), none, some (iv x2), some (iv x3), some (iv x4), some (iv x5), some (iv (0 : Int32)), none]) dX8_hangs_161 (Nat.le_of_ble_eq_true rfl) rfl ?_
      refine mx_iconst dX8_hangs_163 ic_0 ?_
      refine mx_istore (al' := [some (rv a0), none, some (iv x2), some (iv x3), some (iv x4), some (iv x5), some (iv (0 : Int32)), some (iv (0 : Int32))]) dX8_hangs_164 (Nat.le_of_ble_eq_true rfl) rfl ?_
      exact mx_weak (al' := [some (rv a0), none, none, some (iv x3), some (iv x4), none, some (iv (0 : Int32)), some (iv (0 : Int32))]) ⟨rfl, ⟨rfl, ⟨rfl, ⟨rfl, ⟨rfl, trivial⟩⟩⟩⟩⟩ H
    · have H := H.2 c2
      refine mx_iconst dX8_hangs_158 ic_m1 ?_
      exact mx_iret rfl dX8_hangs_159 H
  · have H := H.2 c1
    refine mx_iload dX8_hangs_97 rfl ?_
    refine mx_callS (y' := mi_J12_bitCount) (vs := [iv x6]) (st := []) (al' := [some (iv x6)]) S_J12_bitCount q2422 dX8_hangs_99 rfl rfl (Nat.le_of_ble_eq_true rfl) (Nat.le_of_ble_eq_true rfl) ?_
    refine pv_J12_bitCount ?_
    refine mx_iload dX8_hangs_102 rfl ?_
    refine mx_icmp_lt (tgt := 110) dX8_hangs_104 rfl (fun c3 => ?_) (fun c3 => ?_)
    · have H := H.1 c3
      refine mx_aload_n dX8_hangs_110 rfl rfl ?_
      refine mx_iload dX8_hangs_111 rfl ?_
      refine mx_iload_n dX8_hangs_113 rfl rfl ?_
      refine mx_iload_n dX8_hangs_114 rfl rfl ?_
      refine mx_iconst dX8_hangs_115 ic_1 ?_
      refine mx_callV 8 (y' := mi_X8_add) (vs := [iv x6, iv x3, iv x2, iv (1 : Int32)]) (st := []) (al' := [some (rv a0), some (iv x6), some (iv x3), some (iv x2), some (iv (1 : Int32)), none, none]) cl_8 V_X8_add (Or.inl q2423) dX8_hangs_116 rfl rfl (Nat.le_of_ble_eq_true rfl) (Nat.le_of_ble_eq_true rfl) (ly8_k La0_h) ?_
      refine ma_kv H (fun h4 Xh4 H => ?_) (fun x1 h1 X1 H => mt_out rfl H)
      have H := H Xh4
      have La0_h4 := La0_h.ext Xh4
      refine mx_aload_n dX8_hangs_119 rfl rfl ?_
      refine mx_callV 8 (y' := mi_X8_isFor) (vs := []) (st := []) (al' := [some (rv a0), none, none]) cl_8 V_X8_isFor (Or.inl q2414) dX8_hangs_120 rfl rfl (Nat.le_of_ble_eq_true rfl) (Nat.le_of_ble_eq_true rfl) (ly8_k La0_h4) ?_
      refine ma_ki H (fun r7 h6 Xh6 H => ?_) (fun x1 h1 X1 H => mt_out rfl H)
      have H := H Xh6
      have La0_h6 := La0_h4.ext Xh6
      refine mx_iload_n dX8_hangs_123 rfl rfl ?_
      refine mx_icmp_eq (tgt := 138) dX8_hangs_124 rfl (fun c8 => ?_) (fun c8 => ?_)
      · have H := H.1 c8
        refine mx_aload_n dX8_hangs_138 rfl rfl ?_
        refine mx_iload dX8_hangs_139 rfl ?_
        refine mx_iload_n dX8_hangs_141 rfl rfl ?_
        refine mx_iload_n dX8_hangs_142 rfl rfl ?_
        refine mx_iconst dX8_hangs_143 ic_m1 ?_
        refine mx_callV 8 (y' := mi_X8_add) (vs := [iv x6, iv x3, iv x2, iv (-1 : Int32)]) (st := []) (al' := [some (rv a0), some (iv x6), some (iv x3), some (iv x2), some (iv (-1 : Int32)), none, none]) cl_8 V_X8_add (Or.inl q2423) dX8_hangs_144 rfl rfl (Nat.le_of_ble_eq_true rfl) (Nat.le_of_ble_eq_true rfl) (ly8_k La0_h6) ?_
        refine ma_kv H (fun h9 Xh9 H => ?_) (fun x1 h1 X1 H => mt_out rfl H)
        have H := H Xh9
        have La0_h9 := La0_h6.ext Xh9
        refine mx_iinc (al' := [some (rv a0), none, some (iv x2), some (iv x3), some (iv x4), some (iv x5), some (iv (x6 + (1 : Int32))), none]) dX8_hangs_147 rfl ic_1 rfl ?_
        refine mx_goto (tgt := 89) dX8_hangs_150 rfl ?_
        exact mx_weak (al' := [some (rv a0), none, some (iv x2), some (iv x3), some (iv x4), some (iv x5), some (iv (x6 + (1 : Int32))), none]) ⟨rfl, ⟨rfl, ⟨rfl, ⟨rfl, ⟨rfl, ⟨rfl, trivial⟩⟩⟩⟩⟩⟩ H
      · have H := H.2 c8
        refine mx_iload dX8_hangs_127 rfl ?_
        refine mx_callS (y' := mi_J12_bitCount) (vs := [iv x6]) (st := []) (al' := [some (iv x6)]) S_J12_bitCount q2422 dX8_hangs_129 rfl rfl (Nat.le_of_ble_eq_true rfl) (Nat.le_of_ble_eq_true rfl) ?_
        refine pv_J12_bitCount ?_
        refine mx_istore (al' := [some (rv a0), none, some (iv x2), some (iv x3), some (iv x4), some (iv (iBits x6)), some (iv x6), none]) dX8_hangs_132 (Nat.le_of_ble_eq_true rfl) rfl ?_
        refine mx_iload dX8_hangs_134 rfl ?_
        refine mx_istore (al' := [some (rv a0), none, some (iv x2), some (iv x3), some (iv x6), some (iv (iBits x6)), some (iv x6), none]) dX8_hangs_136 (Nat.le_of_ble_eq_true rfl) rfl ?_
        refine mx_aload_n dX8_hangs_138 rfl rfl ?_
        refine mx_iload dX8_hangs_139 rfl ?_
        refine mx_iload_n dX8_hangs_141 rfl rfl ?_
        refine mx_iload_n dX8_hangs_142 rfl rfl ?_
        refine mx_iconst dX8_hangs_143 ic_m1 ?_
        refine mx_callV 8 (y' := mi_X8_add) (vs := [iv x6, iv x3, iv x2, iv (-1 : Int32)]) (st := []) (al' := [some (rv a0), some (iv x6), some (iv x3), some (iv x2), some (iv (-1 : Int32)), none, none]) cl_8 V_X8_add (Or.inl q2423) dX8_hangs_144 rfl rfl (Nat.le_of_ble_eq_true rfl) (Nat.le_of_ble_eq_true rfl) (ly8_k La0_h6) ?_
        refine ma_kv H (fun h11 Xh11 H => ?_) (fun x1 h1 X1 H => mt_out rfl H)
        have H := H Xh11
        have La0_h11 := La0_h6.ext Xh11
        refine mx_iinc (al' := [some (rv a0), none, some (iv x2), some (iv x3), some (iv x6), some (iv (iBits x6)), some (iv (x6 + (1 : Int32))), none]) dX8_hangs_147 rfl ic_1 rfl ?_
        refine mx_goto (tgt := 89) dX8_hangs_150 rfl ?_
        exact mx_weak (al' := [some (rv a0), none, some (iv x2), some (iv x3), some (iv x6), some (iv (iBits x6)), some (iv (x6 + (1 : Int32))), none]) ⟨rfl, ⟨rfl, ⟨rfl, ⟨rfl, ⟨rfl, ⟨rfl, trivial⟩⟩⟩⟩⟩⟩ H
    · have H := H.2 c3
      refine mx_goto (tgt := 147) dX8_hangs_107 rfl ?_
      refine mx_iinc (al' := [some (rv a0), none, some (iv x2), some (iv x3), some (iv x4), some (iv x5), some (iv (x6 + (1 : Int32))), none]) dX8_hangs_147 rfl ic_1 rfl ?_
      refine mx_goto (tgt := 89) dX8_hangs_150 rfl ?_
      exact mx_weak (al' := [some (rv a0), none, some (iv x2), some (iv x3), some (iv x4), some (iv x5), some (iv (x6 + (1 : Int32))), none]) ⟨rfl, ⟨rfl, ⟨rfl, ⟨rfl, ⟨rfl, ⟨rfl, trivial⟩⟩⟩⟩⟩⟩ H
theorem v_X8_hangs_166 {G : ma_G} {d : Nat} {a0 : Nat} {x3 : Int32} {x4 : Int32} {x6 : Int32} {x7 : Int32} {h : ah_T} {Q : Option ma_V → ah_T → Prop} {E : Nat → ah_T → Prop} (La0_h : LY8 h a0) (H : (x3 ≤ x7 → Q (some (iv x6)) h) ∧ (¬ x3 ≤ x7 → vp_in x7 20 ∧ MX G mi_X8_hangs (d + 2) 166 [some (rv a0), none, none, some (iv x3), some (iv x4), none, some (iv (x6 ||| (((x4 >>> (x7 &&& 31)) &&& (1 : Int32)) <<< ((ah_I h (a0 + 62) x7.toNatClampNeg) &&& 31)))), some (iv (x7 + (1 : Int32)))] [] h Q E)) : MX G mi_X8_hangs (d + 2) 166 [some (rv a0), none, none, some (iv x3), some (iv x4), none, some (iv x6), some (iv x7)] [] h Q E := by
  refine mx_iload dX8_hangs_166 rfl ?_
  refine mx_iload_n dX8_hangs_168 rfl rfl ?_
  refine mx_icmp_ge (tgt := 198) dX8_hangs_169 rfl (fun c1 => ?_) (fun c1 => ?_)
  · have H := H.1 c1
    refine mx_iload dX8_hangs_198 rfl ?_
    exact mx_iret rfl dX8_hangs_200 H
  · have H := H.2 c1
    refine mx_iload dX8_hangs_172 rfl ?_
    refine mx_iload dX8_hangs_174 rfl ?_
    refine mx_iload dX8_hangs_176 rfl ?_
    refine mx_ishr dX8_hangs_178 ?_
    refine mx_iconst dX8_hangs_179 ic_1 ?_
    refine mx_iand dX8_hangs_180 ?_
    refine mx_aload_n dX8_hangs_181 rfl rfl ?_
    refine mx_get 8 91 (ref := "PrairiePoolModel") cl_8 (Nat.le_of_ble_eq_true rfl) (Or.inl q1718) (Or.inl rfl) dX8_hangs_182 (fv_8_91 _ _) (ly8_k La0_h) ?_
    refine mx_tr (ly8_R_0_91 La0_h) ?_
    refine mx_iload dX8_hangs_185 rfl ?_
    obtain ⟨k2, H⟩ := H
    refine my_iald dX8_hangs_187 rfl (ly8_A_62 La0_h k2) ?_
    refine mx_ishl dX8_hangs_188 ?_
    refine mx_ior dX8_hangs_189 ?_
    refine mx_istore (al' := [some (rv a0), none, none, some (iv x3), some (iv x4), none, some (iv (x6 ||| (((x4 >>> (x7 &&& 31)) &&& (1 : Int32)) <<< ((ah_I h (a0 + 62) x7.toNatClampNeg) &&& 31)))), some (iv x7)]) dX8_hangs_190 (Nat.le_of_ble_eq_true rfl) rfl ?_
    refine mx_iinc (al' := [some (rv a0), none, none, some (iv x3), some (iv x4), none, some (iv (x6 ||| (((x4 >>> (x7 &&& 31)) &&& (1 : Int32)) <<< ((ah_I h (a0 + 62) x7.toNatClampNeg) &&& 31)))), some (iv (x7 + (1 : Int32)))]) dX8_hangs_192 rfl ic_1 rfl ?_
    refine mx_goto (tgt := 166) dX8_hangs_195 rfl ?_
    exact mx_weak (al' := [some (rv a0), none, none, some (iv x3), some (iv x4), none, some (iv (x6 ||| (((x4 >>> (x7 &&& 31)) &&& (1 : Int32)) <<< ((ah_I h (a0 + 62) x7.toNatClampNeg) &&& 31)))), some (iv (x7 + (1 : Int32)))]) ⟨rfl, ⟨rfl, ⟨rfl, ⟨rfl, ⟨rfl, trivial⟩⟩⟩⟩⟩ H
theorem dX8_add_0 : decode mi_X8_add.2.1 0 = .ok (.iconst 0, 1) := by decide +kernel
theorem dX8_add_1 : decode mi_X8_add.2.1 1 = .ok (.istore 5, 2) := by decide +kernel
theorem dX8_add_3 : decode mi_X8_add.2.1 3 = .ok (.iload 5, 2) := by decide +kernel
theorem dX8_add_5 : decode mi_X8_add.2.1 5 = .ok (.iload_n 2, 1) := by decide +kernel
theorem dX8_add_6 : decode mi_X8_add.2.1 6 = .ok (.if_icmp .ge 89, 3) := by decide +kernel
theorem dX8_add_9 : decode mi_X8_add.2.1 9 = .ok (.iload_n 1, 1) := by decide +kernel
theorem dX8_add_10 : decode mi_X8_add.2.1 10 = .ok (.iload 5, 2) := by decide +kernel
theorem dX8_add_12 : decode mi_X8_add.2.1 12 = .ok (.ishr, 1) := by decide +kernel
theorem dX8_add_13 : decode mi_X8_add.2.1 13 = .ok (.iconst 1, 1) := by decide +kernel
theorem dX8_add_14 : decode mi_X8_add.2.1 14 = .ok (.iand, 1) := by decide +kernel
theorem dX8_add_15 : decode mi_X8_add.2.1 15 = .ok (.ifCond .ne 6, 3) := by decide +kernel
theorem dX8_add_18 : decode mi_X8_add.2.1 18 = .ok (.goto 71, 3) := by decide +kernel
theorem dX8_add_21 : decode mi_X8_add.2.1 21 = .ok (.aload_n 0, 1) := by decide +kernel
theorem dX8_add_22 : decode mi_X8_add.2.1 22 = .ok (.getfield 209, 3) := by decide +kernel
theorem dX8_add_25 : decode mi_X8_add.2.1 25 = .ok (.iload 5, 2) := by decide +kernel
theorem dX8_add_27 : decode mi_X8_add.2.1 27 = .ok (.iaload, 1) := by decide +kernel
theorem dX8_add_28 : decode mi_X8_add.2.1 28 = .ok (.istore 6, 2) := by decide +kernel
theorem dX8_add_30 : decode mi_X8_add.2.1 30 = .ok (.iload_n 3, 1) := by decide +kernel
theorem dX8_add_31 : decode mi_X8_add.2.1 31 = .ok (.ifCond .eq 32, 3) := by decide +kernel
theorem dX8_add_34 : decode mi_X8_add.2.1 34 = .ok (.aload_n 0, 1) := by decide +kernel
theorem dX8_add_35 : decode mi_X8_add.2.1 35 = .ok (.getfield 218, 3) := by decide +kernel
theorem dX8_add_38 : decode mi_X8_add.2.1 38 = .ok (.aload_n 0, 1) := by decide +kernel
theorem dX8_add_39 : decode mi_X8_add.2.1 39 = .ok (.getfield 20, 3) := by decide +kernel
theorem dX8_add_42 : decode mi_X8_add.2.1 42 = .ok (.iload 6, 2) := by decide +kernel
theorem dX8_add_44 : decode mi_X8_add.2.1 44 = .ok (.iaload, 1) := by decide +kernel
theorem dX8_add_45 : decode mi_X8_add.2.1 45 = .ok (.dup2, 1) := by decide +kernel
theorem dX8_add_46 : decode mi_X8_add.2.1 46 = .ok (.laload, 1) := by decide +kernel
theorem dX8_add_47 : decode mi_X8_add.2.1 47 = .ok (.iload 4, 2) := by decide +kernel
theorem dX8_add_49 : decode mi_X8_add.2.1 49 = .ok (.i2l, 1) := by decide +kernel
theorem dX8_add_50 : decode mi_X8_add.2.1 50 = .ok (.aload_n 0, 1) := by decide +kernel
theorem dX8_add_51 : decode mi_X8_add.2.1 51 = .ok (.getfield 221, 3) := by decide +kernel
theorem dX8_add_54 : decode mi_X8_add.2.1 54 = .ok (.iload 6, 2) := by decide +kernel
theorem dX8_add_56 : decode mi_X8_add.2.1 56 = .ok (.laload, 1) := by decide +kernel
theorem dX8_add_57 : decode mi_X8_add.2.1 57 = .ok (.lmul, 1) := by decide +kernel
theorem dX8_add_58 : decode mi_X8_add.2.1 58 = .ok (.ladd, 1) := by decide +kernel
theorem dX8_add_59 : decode mi_X8_add.2.1 59 = .ok (.lastore, 1) := by decide +kernel
theorem dX8_add_60 : decode mi_X8_add.2.1 60 = .ok (.goto 29, 3) := by decide +kernel
theorem dX8_add_63 : decode mi_X8_add.2.1 63 = .ok (.aload_n 0, 1) := by decide +kernel
theorem dX8_add_64 : decode mi_X8_add.2.1 64 = .ok (.getfield 215, 3) := by decide +kernel
theorem dX8_add_67 : decode mi_X8_add.2.1 67 = .ok (.aload_n 0, 1) := by decide +kernel
theorem dX8_add_68 : decode mi_X8_add.2.1 68 = .ok (.getfield 20, 3) := by decide +kernel
theorem dX8_add_71 : decode mi_X8_add.2.1 71 = .ok (.iload 6, 2) := by decide +kernel
theorem dX8_add_73 : decode mi_X8_add.2.1 73 = .ok (.iaload, 1) := by decide +kernel
theorem dX8_add_74 : decode mi_X8_add.2.1 74 = .ok (.dup2, 1) := by decide +kernel
theorem dX8_add_75 : decode mi_X8_add.2.1 75 = .ok (.laload, 1) := by decide +kernel
theorem dX8_add_76 : decode mi_X8_add.2.1 76 = .ok (.iload 4, 2) := by decide +kernel
theorem dX8_add_78 : decode mi_X8_add.2.1 78 = .ok (.i2l, 1) := by decide +kernel
theorem dX8_add_79 : decode mi_X8_add.2.1 79 = .ok (.aload_n 0, 1) := by decide +kernel
theorem dX8_add_80 : decode mi_X8_add.2.1 80 = .ok (.getfield 221, 3) := by decide +kernel
theorem dX8_add_83 : decode mi_X8_add.2.1 83 = .ok (.iload 6, 2) := by decide +kernel
theorem dX8_add_85 : decode mi_X8_add.2.1 85 = .ok (.laload, 1) := by decide +kernel
theorem dX8_add_86 : decode mi_X8_add.2.1 86 = .ok (.lmul, 1) := by decide +kernel
theorem dX8_add_87 : decode mi_X8_add.2.1 87 = .ok (.ladd, 1) := by decide +kernel
theorem dX8_add_88 : decode mi_X8_add.2.1 88 = .ok (.lastore, 1) := by decide +kernel
theorem dX8_add_89 : decode mi_X8_add.2.1 89 = .ok (.iinc 5 1, 3) := by decide +kernel
theorem dX8_add_92 : decode mi_X8_add.2.1 92 = .ok (.goto (-89), 3) := by decide +kernel
theorem dX8_add_95 : decode mi_X8_add.2.1 95 = .ok (.return_, 1) := by decide +kernel
theorem v_X8_add {G : ma_G} {d : Nat} {a0 : Nat} {x1 : Int32} {x2 : Int32} {x3 : Int32} {x4 : Int32} {h : ah_T} {Q : Option ma_V → ah_T → Prop} {E : Nat → ah_T → Prop} (La0_h : LY8 h a0) (H : MX G mi_X8_add d 3 [some (rv a0), some (iv x1), some (iv x2), some (iv x3), some (iv x4), some (iv (0 : Int32)), none] [] h Q E) : MX G mi_X8_add d 0 [some (rv a0), some (iv x1), some (iv x2), some (iv x3), some (iv x4), none, none] [] h Q E := by
  refine mx_iconst dX8_add_0 ic_0 ?_
  refine mx_istore (al' := [some (rv a0), some (iv x1), some (iv x2), some (iv x3), some (iv x4), some (iv (0 : Int32)), none]) dX8_add_1 (Nat.le_of_ble_eq_true rfl) rfl ?_
  exact mx_weak (al' := [some (rv a0), some (iv x1), some (iv x2), some (iv x3), some (iv x4), some (iv (0 : Int32)), none]) ⟨rfl, ⟨rfl, ⟨rfl, ⟨rfl, ⟨rfl, ⟨rfl, trivial⟩⟩⟩⟩⟩⟩ H
theorem v_X8_add_3 {G : ma_G} {d : Nat} {a0 : Nat} {x1 : Int32} {x2 : Int32} {x3 : Int32} {x4 : Int32} {x5 : Int32} {h : ah_T} {Q : Option ma_V → ah_T → Prop} {E : Nat → ah_T → Prop} (La0_h : LY8 h a0) (H : (x2 ≤ x5 → Q none h) ∧ (¬ x2 ≤ x5 → (¬ ((x1 >>> (x5 &&& 31)) &&& (1 : Int32)) = 0 → vp_in x5 20 ∧ (x3 = 0 → vp_in (ah_I h (a0 + 62) x5.toNatClampNeg) 20 ∧ vp_in (ah_I h (a0 + 4) (ah_I h (a0 + 62) x5.toNatClampNeg).toNatClampNeg) 6 ∧ ∀ h7 : ah_T, h7 = ah_wJ h (a0 + 64) (ah_I h (a0 + 4) (ah_I h (a0 + 62) x5.toNatClampNeg).toNatClampNeg).toNatClampNeg ((ah_J h (a0 + 64) (ah_I h (a0 + 4) (ah_I h (a0 + 62) x5.toNatClampNeg).toNatClampNeg).toNatClampNeg) + (x4.toInt64 * (ah_J h (a0 + 66) (ah_I h (a0 + 62) x5.toNatClampNeg).toNatClampNeg))) → ah_ext h h7 → MX G mi_X8_add d 3 [some (rv a0), some (iv x1), some (iv x2), some (iv x3), some (iv x4), some (iv (x5 + (1 : Int32))), none] [] h7 Q E) ∧ (¬ x3 = 0 → vp_in (ah_I h (a0 + 62) x5.toNatClampNeg) 20 ∧ vp_in (ah_I h (a0 + 4) (ah_I h (a0 + 62) x5.toNatClampNeg).toNatClampNeg) 6 ∧ ∀ h10 : ah_T, h10 = ah_wJ h (a0 + 65) (ah_I h (a0 + 4) (ah_I h (a0 + 62) x5.toNatClampNeg).toNatClampNeg).toNatClampNeg ((ah_J h (a0 + 65) (ah_I h (a0 + 4) (ah_I h (a0 + 62) x5.toNatClampNeg).toNatClampNeg).toNatClampNeg) + (x4.toInt64 * (ah_J h (a0 + 66) (ah_I h (a0 + 62) x5.toNatClampNeg).toNatClampNeg))) → ah_ext h h10 → MX G mi_X8_add d 3 [some (rv a0), some (iv x1), some (iv x2), some (iv x3), some (iv x4), some (iv (x5 + (1 : Int32))), none] [] h10 Q E)) ∧ (((x1 >>> (x5 &&& 31)) &&& (1 : Int32)) = 0 → MX G mi_X8_add d 3 [some (rv a0), some (iv x1), some (iv x2), some (iv x3), some (iv x4), some (iv (x5 + (1 : Int32))), none] [] h Q E))) : MX G mi_X8_add d 3 [some (rv a0), some (iv x1), some (iv x2), some (iv x3), some (iv x4), some (iv x5), none] [] h Q E := by
  refine mx_iload dX8_add_3 rfl ?_
  refine mx_iload_n dX8_add_5 rfl rfl ?_
  refine mx_icmp_ge (tgt := 95) dX8_add_6 rfl (fun c1 => ?_) (fun c1 => ?_)
  · have H := H.1 c1
    exact mx_vret rfl dX8_add_95 H
  · have H := H.2 c1
    refine mx_iload_n dX8_add_9 rfl rfl ?_
    refine mx_iload dX8_add_10 rfl ?_
    refine mx_ishr dX8_add_12 ?_
    refine mx_iconst dX8_add_13 ic_1 ?_
    refine mx_iand dX8_add_14 ?_
    refine mx_if_ne (tgt := 21) dX8_add_15 rfl (fun c2 => ?_) (fun c2 => ?_)
    · have H := H.1 c2
      refine mx_aload_n dX8_add_21 rfl rfl ?_
      refine mx_get 8 91 (ref := "PrairiePoolModel") cl_8 (Nat.le_of_ble_eq_true rfl) (Or.inl q1718) (Or.inl rfl) dX8_add_22 (fv_8_91 _ _) (ly8_k La0_h) ?_
      refine mx_tr (ly8_R_0_91 La0_h) ?_
      refine mx_iload dX8_add_25 rfl ?_
      obtain ⟨k3, H⟩ := H
      refine my_iald dX8_add_27 rfl (ly8_A_62 La0_h k3) ?_
      refine mx_istore (al' := [some (rv a0), some (iv x1), some (iv x2), some (iv x3), some (iv x4), some (iv x5), some (iv (ah_I h (a0 + 62) x5.toNatClampNeg))]) dX8_add_28 (Nat.le_of_ble_eq_true rfl) rfl ?_
      refine mx_iload_n dX8_add_30 rfl rfl ?_
      refine mx_if_eq (tgt := 63) dX8_add_31 rfl (fun c4 => ?_) (fun c4 => ?_)
      · have H := H.1 c4
        refine mx_aload_n dX8_add_63 rfl rfl ?_
        refine mx_get 8 93 (ref := "PrairiePoolModel") cl_8 (Nat.le_of_ble_eq_true rfl) (Or.inl q1720) (Or.inl rfl) dX8_add_64 (fv_8_93 _ _) (ly8_k La0_h) ?_
        refine mx_tr (ly8_R_0_93 La0_h) ?_
        refine mx_aload_n dX8_add_67 rfl rfl ?_
        refine mx_get 8 11 (ref := "PrairiePoolModel") cl_8 (Nat.le_of_ble_eq_true rfl) (Or.inl q1638) (Or.inl rfl) dX8_add_68 (fv_8_11 _ _) (ly8_k La0_h) ?_
        refine mx_tr (ly8_R_0_11 La0_h) ?_
        refine mx_iload dX8_add_71 rfl ?_
        obtain ⟨k5, H⟩ := H
        refine my_iald dX8_add_73 rfl (ly8_A_4 La0_h k5) ?_
        refine mx_dup2_ir dX8_add_74 ?_
        obtain ⟨k6, H⟩ := H
        refine my_lald dX8_add_75 rfl (ly8_A_64 La0_h k6) ?_
        refine mx_iload dX8_add_76 rfl ?_
        refine mx_i2l dX8_add_78 ?_
        refine mx_aload_n dX8_add_79 rfl rfl ?_
        refine mx_get 8 95 (ref := "PrairiePoolModel") cl_8 (Nat.le_of_ble_eq_true rfl) (Or.inl q1722) (Or.inl rfl) dX8_add_80 (fv_8_95 _ _) (ly8_k La0_h) ?_
        refine mx_tr (ly8_R_0_95 La0_h) ?_
        refine mx_iload dX8_add_83 rfl ?_
        refine my_lald dX8_add_85 rfl (ly8_A_66 La0_h k5) ?_
        refine mx_lmul dX8_add_86 ?_
        refine mx_ladd dX8_add_87 ?_
        refine my_last dX8_add_88 rfl (ly8_A_64 La0_h k6) ?_
        refine mx_nmJ  (fun h7 eh7 Xh7 Kh7 Lh7 => ?_)
        have H := H h7 eh7 Xh7
        have La0_h7 := La0_h.ext Xh7
        refine mx_iinc (al' := [some (rv a0), some (iv x1), some (iv x2), some (iv x3), some (iv x4), some (iv (x5 + (1 : Int32))), some (iv (ah_I h (a0 + 62) x5.toNatClampNeg))]) dX8_add_89 rfl ic_1 rfl ?_
        refine mx_goto (tgt := 3) dX8_add_92 rfl ?_
        exact mx_weak (al' := [some (rv a0), some (iv x1), some (iv x2), some (iv x3), some (iv x4), some (iv (x5 + (1 : Int32))), none]) ⟨rfl, ⟨rfl, ⟨rfl, ⟨rfl, ⟨rfl, ⟨rfl, trivial⟩⟩⟩⟩⟩⟩ H
      · have H := H.2 c4
        refine mx_aload_n dX8_add_34 rfl rfl ?_
        refine mx_get 8 94 (ref := "PrairiePoolModel") cl_8 (Nat.le_of_ble_eq_true rfl) (Or.inl q1721) (Or.inl rfl) dX8_add_35 (fv_8_94 _ _) (ly8_k La0_h) ?_
        refine mx_tr (ly8_R_0_94 La0_h) ?_
        refine mx_aload_n dX8_add_38 rfl rfl ?_
        refine mx_get 8 11 (ref := "PrairiePoolModel") cl_8 (Nat.le_of_ble_eq_true rfl) (Or.inl q1638) (Or.inl rfl) dX8_add_39 (fv_8_11 _ _) (ly8_k La0_h) ?_
        refine mx_tr (ly8_R_0_11 La0_h) ?_
        refine mx_iload dX8_add_42 rfl ?_
        obtain ⟨k8, H⟩ := H
        refine my_iald dX8_add_44 rfl (ly8_A_4 La0_h k8) ?_
        refine mx_dup2_ir dX8_add_45 ?_
        obtain ⟨k9, H⟩ := H
        refine my_lald dX8_add_46 rfl (ly8_A_65 La0_h k9) ?_
        refine mx_iload dX8_add_47 rfl ?_
        refine mx_i2l dX8_add_49 ?_
        refine mx_aload_n dX8_add_50 rfl rfl ?_
        refine mx_get 8 95 (ref := "PrairiePoolModel") cl_8 (Nat.le_of_ble_eq_true rfl) (Or.inl q1722) (Or.inl rfl) dX8_add_51 (fv_8_95 _ _) (ly8_k La0_h) ?_
        refine mx_tr (ly8_R_0_95 La0_h) ?_
        refine mx_iload dX8_add_54 rfl ?_
        refine my_lald dX8_add_56 rfl (ly8_A_66 La0_h k8) ?_
        refine mx_lmul dX8_add_57 ?_
        refine mx_ladd dX8_add_58 ?_
        refine my_last dX8_add_59 rfl (ly8_A_65 La0_h k9) ?_
        refine mx_nmJ  (fun h10 eh10 Xh10 Kh10 Lh10 => ?_)
        have H := H h10 eh10 Xh10
        have La0_h10 := La0_h.ext Xh10
        refine mx_goto (tgt := 89) dX8_add_60 rfl ?_
        refine mx_iinc (al' := [some (rv a0), some (iv x1), some (iv x2), some (iv x3), some (iv x4), some (iv (x5 + (1 : Int32))), some (iv (ah_I h (a0 + 62) x5.toNatClampNeg))]) dX8_add_89 rfl ic_1 rfl ?_
        refine mx_goto (tgt := 3) dX8_add_92 rfl ?_
        exact mx_weak (al' := [some (rv a0), some (iv x1), some (iv x2), some (iv x3), some (iv x4), some (iv (x5 + (1 : Int32))), none]) ⟨rfl, ⟨rfl, ⟨rfl, ⟨rfl, ⟨rfl, ⟨rfl, trivial⟩⟩⟩⟩⟩⟩ H
    · have H := H.2 c2
      refine mx_goto (tgt := 89) dX8_add_18 rfl ?_
      refine mx_iinc (al' := [some (rv a0), some (iv x1), some (iv x2), some (iv x3), some (iv x4), some (iv (x5 + (1 : Int32))), none]) dX8_add_89 rfl ic_1 rfl ?_
      refine mx_goto (tgt := 3) dX8_add_92 rfl ?_
      exact mx_weak (al' := [some (rv a0), some (iv x1), some (iv x2), some (iv x3), some (iv x4), some (iv (x5 + (1 : Int32))), none]) ⟨rfl, ⟨rfl, ⟨rfl, ⟨rfl, ⟨rfl, ⟨rfl, trivial⟩⟩⟩⟩⟩⟩ H
theorem dX8_warm_0 : decode mi_X8_warm.2.1 0 = .ok (.aload_n 0, 1) := by decide +kernel
theorem dX8_warm_1 : decode mi_X8_warm.2.1 1 = .ok (.iconst 0, 1) := by decide +kernel
theorem dX8_warm_2 : decode mi_X8_warm.2.1 2 = .ok (.putfield 257, 3) := by decide +kernel
theorem dX8_warm_5 : decode mi_X8_warm.2.1 5 = .ok (.aload_n 0, 1) := by decide +kernel
theorem dX8_warm_6 : decode mi_X8_warm.2.1 6 = .ok (.iconst 0, 1) := by decide +kernel
theorem dX8_warm_7 : decode mi_X8_warm.2.1 7 = .ok (.putfield 260, 3) := by decide +kernel
theorem dX8_warm_10 : decode mi_X8_warm.2.1 10 = .ok (.iload_n 1, 1) := by decide +kernel
theorem dX8_warm_11 : decode mi_X8_warm.2.1 11 = .ok (.i2l, 1) := by decide +kernel
theorem dX8_warm_12 : decode mi_X8_warm.2.1 12 = .ok (.lconst 0, 1) := by decide +kernel
theorem dX8_warm_13 : decode mi_X8_warm.2.1 13 = .ok (.ldc2_w 408, 3) := by decide +kernel
theorem dX8_warm_16 : decode mi_X8_warm.2.1 16 = .ok (.invokestatic 265, 3) := by decide +kernel
theorem dX8_warm_19 : decode mi_X8_warm.2.1 19 = .ok (.ifCond .eq 15, 3) := by decide +kernel
theorem dX8_warm_22 : decode mi_X8_warm.2.1 22 = .ok (.iload_n 2, 1) := by decide +kernel
theorem dX8_warm_23 : decode mi_X8_warm.2.1 23 = .ok (.i2l, 1) := by decide +kernel
theorem dX8_warm_24 : decode mi_X8_warm.2.1 24 = .ok (.lconst 0, 1) := by decide +kernel
theorem dX8_warm_25 : decode mi_X8_warm.2.1 25 = .ok (.ldc2_w 408, 3) := by decide +kernel
theorem dX8_warm_28 : decode mi_X8_warm.2.1 28 = .ok (.invokestatic 265, 3) := by decide +kernel
theorem dX8_warm_31 : decode mi_X8_warm.2.1 31 = .ok (.ifCond .ne 9, 3) := by decide +kernel
theorem dX8_warm_34 : decode mi_X8_warm.2.1 34 = .ok (.aload_n 0, 1) := by decide +kernel
theorem dX8_warm_35 : decode mi_X8_warm.2.1 35 = .ok (.iconst 1, 1) := by decide +kernel
theorem dX8_warm_36 : decode mi_X8_warm.2.1 36 = .ok (.invokevirtual 297, 3) := by decide +kernel
theorem dX8_warm_39 : decode mi_X8_warm.2.1 39 = .ok (.ireturn, 1) := by decide +kernel
theorem dX8_warm_40 : decode mi_X8_warm.2.1 40 = .ok (.aload_n 0, 1) := by decide +kernel
theorem dX8_warm_41 : decode mi_X8_warm.2.1 41 = .ok (.getfield 13, 3) := by decide +kernel
theorem dX8_warm_44 : decode mi_X8_warm.2.1 44 = .ok (.iload_n 1, 1) := by decide +kernel
theorem dX8_warm_45 : decode mi_X8_warm.2.1 45 = .ok (.iaload, 1) := by decide +kernel
theorem dX8_warm_46 : decode mi_X8_warm.2.1 46 = .ok (.ifCond .lt 12, 3) := by decide +kernel
theorem dX8_warm_49 : decode mi_X8_warm.2.1 49 = .ok (.aload_n 0, 1) := by decide +kernel
theorem dX8_warm_50 : decode mi_X8_warm.2.1 50 = .ok (.getfield 13, 3) := by decide +kernel
theorem dX8_warm_53 : decode mi_X8_warm.2.1 53 = .ok (.iload_n 2, 1) := by decide +kernel
theorem dX8_warm_54 : decode mi_X8_warm.2.1 54 = .ok (.iaload, 1) := by decide +kernel
theorem dX8_warm_55 : decode mi_X8_warm.2.1 55 = .ok (.ifCond .ge 9, 3) := by decide +kernel
theorem dX8_warm_58 : decode mi_X8_warm.2.1 58 = .ok (.aload_n 0, 1) := by decide +kernel
theorem dX8_warm_59 : decode mi_X8_warm.2.1 59 = .ok (.iconst 3, 1) := by decide +kernel
theorem dX8_warm_60 : decode mi_X8_warm.2.1 60 = .ok (.invokevirtual 297, 3) := by decide +kernel
theorem dX8_warm_63 : decode mi_X8_warm.2.1 63 = .ok (.ireturn, 1) := by decide +kernel
theorem dX8_warm_64 : decode mi_X8_warm.2.1 64 = .ok (.iload_n 3, 1) := by decide +kernel
theorem dX8_warm_65 : decode mi_X8_warm.2.1 65 = .ok (.i2l, 1) := by decide +kernel
theorem dX8_warm_66 : decode mi_X8_warm.2.1 66 = .ok (.lconst 1, 1) := by decide +kernel
theorem dX8_warm_67 : decode mi_X8_warm.2.1 67 = .ok (.ldc2_w 656, 3) := by decide +kernel
theorem dX8_warm_70 : decode mi_X8_warm.2.1 70 = .ok (.invokestatic 265, 3) := by decide +kernel
theorem dX8_warm_73 : decode mi_X8_warm.2.1 73 = .ok (.ifCond .ne 9, 3) := by decide +kernel
theorem dX8_warm_76 : decode mi_X8_warm.2.1 76 = .ok (.aload_n 0, 1) := by decide +kernel
theorem dX8_warm_77 : decode mi_X8_warm.2.1 77 = .ok (.iconst 5, 1) := by decide +kernel
theorem dX8_warm_78 : decode mi_X8_warm.2.1 78 = .ok (.invokevirtual 297, 3) := by decide +kernel
theorem dX8_warm_81 : decode mi_X8_warm.2.1 81 = .ok (.ireturn, 1) := by decide +kernel
theorem dX8_warm_82 : decode mi_X8_warm.2.1 82 = .ok (.aload_n 0, 1) := by decide +kernel
theorem dX8_warm_83 : decode mi_X8_warm.2.1 83 = .ok (.getfield 13, 3) := by decide +kernel
theorem dX8_warm_86 : decode mi_X8_warm.2.1 86 = .ok (.iload_n 1, 1) := by decide +kernel
theorem dX8_warm_87 : decode mi_X8_warm.2.1 87 = .ok (.iaload, 1) := by decide +kernel
theorem dX8_warm_88 : decode mi_X8_warm.2.1 88 = .ok (.iload_n 3, 1) := by decide +kernel
theorem dX8_warm_89 : decode mi_X8_warm.2.1 89 = .ok (.if_icmp .lt 13, 3) := by decide +kernel
theorem dX8_warm_92 : decode mi_X8_warm.2.1 92 = .ok (.aload_n 0, 1) := by decide +kernel
theorem dX8_warm_93 : decode mi_X8_warm.2.1 93 = .ok (.getfield 13, 3) := by decide +kernel
theorem dX8_warm_96 : decode mi_X8_warm.2.1 96 = .ok (.iload_n 2, 1) := by decide +kernel
theorem dX8_warm_97 : decode mi_X8_warm.2.1 97 = .ok (.iaload, 1) := by decide +kernel
theorem dX8_warm_98 : decode mi_X8_warm.2.1 98 = .ok (.iload_n 3, 1) := by decide +kernel
theorem dX8_warm_99 : decode mi_X8_warm.2.1 99 = .ok (.if_icmp .ge 9, 3) := by decide +kernel
theorem dX8_warm_102 : decode mi_X8_warm.2.1 102 = .ok (.aload_n 0, 1) := by decide +kernel
theorem dX8_warm_103 : decode mi_X8_warm.2.1 103 = .ok (.iconst 4, 1) := by decide +kernel
theorem dX8_warm_104 : decode mi_X8_warm.2.1 104 = .ok (.invokevirtual 297, 3) := by decide +kernel
theorem dX8_warm_107 : decode mi_X8_warm.2.1 107 = .ok (.ireturn, 1) := by decide +kernel
theorem dX8_warm_108 : decode mi_X8_warm.2.1 108 = .ok (.iconst 0, 1) := by decide +kernel
theorem dX8_warm_109 : decode mi_X8_warm.2.1 109 = .ok (.istore 4, 2) := by decide +kernel
theorem dX8_warm_111 : decode mi_X8_warm.2.1 111 = .ok (.iload 4, 2) := by decide +kernel
theorem dX8_warm_113 : decode mi_X8_warm.2.1 113 = .ok (.iload_n 3, 1) := by decide +kernel
theorem dX8_warm_114 : decode mi_X8_warm.2.1 114 = .ok (.if_icmp .ge 49, 3) := by decide +kernel
theorem dX8_warm_117 : decode mi_X8_warm.2.1 117 = .ok (.aload_n 0, 1) := by decide +kernel
theorem dX8_warm_118 : decode mi_X8_warm.2.1 118 = .ok (.iload_n 1, 1) := by decide +kernel
theorem dX8_warm_119 : decode mi_X8_warm.2.1 119 = .ok (.iload 4, 2) := by decide +kernel
theorem dX8_warm_121 : decode mi_X8_warm.2.1 121 = .ok (.invokevirtual 658, 3) := by decide +kernel
theorem dX8_warm_124 : decode mi_X8_warm.2.1 124 = .ok (.lconst 0, 1) := by decide +kernel
theorem dX8_warm_125 : decode mi_X8_warm.2.1 125 = .ok (.ldc2_w 624, 3) := by decide +kernel
theorem dX8_warm_128 : decode mi_X8_warm.2.1 128 = .ok (.invokestatic 265, 3) := by decide +kernel
theorem dX8_warm_131 : decode mi_X8_warm.2.1 131 = .ok (.ifCond .eq 20, 3) := by decide +kernel
theorem dX8_warm_134 : decode mi_X8_warm.2.1 134 = .ok (.aload_n 0, 1) := by decide +kernel
theorem dX8_warm_135 : decode mi_X8_warm.2.1 135 = .ok (.iload_n 2, 1) := by decide +kernel
theorem dX8_warm_136 : decode mi_X8_warm.2.1 136 = .ok (.iload 4, 2) := by decide +kernel
theorem dX8_warm_138 : decode mi_X8_warm.2.1 138 = .ok (.invokevirtual 658, 3) := by decide +kernel
theorem dX8_warm_141 : decode mi_X8_warm.2.1 141 = .ok (.lconst 1, 1) := by decide +kernel
theorem dX8_warm_142 : decode mi_X8_warm.2.1 142 = .ok (.ldc2_w 324, 3) := by decide +kernel
theorem dX8_warm_145 : decode mi_X8_warm.2.1 145 = .ok (.invokestatic 265, 3) := by decide +kernel
theorem dX8_warm_148 : decode mi_X8_warm.2.1 148 = .ok (.ifCond .ne 9, 3) := by decide +kernel
theorem dX8_warm_151 : decode mi_X8_warm.2.1 151 = .ok (.aload_n 0, 1) := by decide +kernel
theorem dX8_warm_152 : decode mi_X8_warm.2.1 152 = .ok (.iconst 5, 1) := by decide +kernel
theorem dX8_warm_153 : decode mi_X8_warm.2.1 153 = .ok (.invokevirtual 297, 3) := by decide +kernel
theorem dX8_warm_156 : decode mi_X8_warm.2.1 156 = .ok (.ireturn, 1) := by decide +kernel
theorem dX8_warm_157 : decode mi_X8_warm.2.1 157 = .ok (.iinc 4 1, 3) := by decide +kernel
theorem dX8_warm_160 : decode mi_X8_warm.2.1 160 = .ok (.goto (-49), 3) := by decide +kernel
theorem dX8_warm_163 : decode mi_X8_warm.2.1 163 = .ok (.iconst 0, 1) := by decide +kernel
theorem dX8_warm_164 : decode mi_X8_warm.2.1 164 = .ok (.istore 4, 2) := by decide +kernel
theorem dX8_warm_166 : decode mi_X8_warm.2.1 166 = .ok (.iload 4, 2) := by decide +kernel
theorem dX8_warm_168 : decode mi_X8_warm.2.1 168 = .ok (.iload_n 3, 1) := by decide +kernel
theorem dX8_warm_169 : decode mi_X8_warm.2.1 169 = .ok (.if_icmp .ge 39, 3) := by decide +kernel
theorem dX8_warm_172 : decode mi_X8_warm.2.1 172 = .ok (.aload_n 0, 1) := by decide +kernel
theorem dX8_warm_173 : decode mi_X8_warm.2.1 173 = .ok (.getfield 224, 3) := by decide +kernel
theorem dX8_warm_176 : decode mi_X8_warm.2.1 176 = .ok (.iload 4, 2) := by decide +kernel
theorem dX8_warm_178 : decode mi_X8_warm.2.1 178 = .ok (.aload_n 0, 1) := by decide +kernel
theorem dX8_warm_179 : decode mi_X8_warm.2.1 179 = .ok (.iload_n 1, 1) := by decide +kernel
theorem dX8_warm_180 : decode mi_X8_warm.2.1 180 = .ok (.iload 4, 2) := by decide +kernel
theorem dX8_warm_182 : decode mi_X8_warm.2.1 182 = .ok (.invokevirtual 658, 3) := by decide +kernel
theorem dX8_warm_185 : decode mi_X8_warm.2.1 185 = .ok (.l2i, 1) := by decide +kernel
theorem dX8_warm_186 : decode mi_X8_warm.2.1 186 = .ok (.iastore, 1) := by decide +kernel
theorem dX8_warm_187 : decode mi_X8_warm.2.1 187 = .ok (.aload_n 0, 1) := by decide +kernel
theorem dX8_warm_188 : decode mi_X8_warm.2.1 188 = .ok (.getfield 227, 3) := by decide +kernel
theorem dX8_warm_191 : decode mi_X8_warm.2.1 191 = .ok (.iload 4, 2) := by decide +kernel
theorem dX8_warm_193 : decode mi_X8_warm.2.1 193 = .ok (.aload_n 0, 1) := by decide +kernel
theorem dX8_warm_194 : decode mi_X8_warm.2.1 194 = .ok (.iload_n 2, 1) := by decide +kernel
theorem dX8_warm_195 : decode mi_X8_warm.2.1 195 = .ok (.iload 4, 2) := by decide +kernel
theorem dX8_warm_197 : decode mi_X8_warm.2.1 197 = .ok (.invokevirtual 658, 3) := by decide +kernel
theorem dX8_warm_200 : decode mi_X8_warm.2.1 200 = .ok (.l2i, 1) := by decide +kernel
theorem dX8_warm_201 : decode mi_X8_warm.2.1 201 = .ok (.iastore, 1) := by decide +kernel
theorem dX8_warm_202 : decode mi_X8_warm.2.1 202 = .ok (.iinc 4 1, 3) := by decide +kernel
theorem dX8_warm_205 : decode mi_X8_warm.2.1 205 = .ok (.goto (-39), 3) := by decide +kernel
theorem dX8_warm_208 : decode mi_X8_warm.2.1 208 = .ok (.iconst 0, 1) := by decide +kernel
theorem dX8_warm_209 : decode mi_X8_warm.2.1 209 = .ok (.istore 4, 2) := by decide +kernel
theorem dX8_warm_211 : decode mi_X8_warm.2.1 211 = .ok (.iload 4, 2) := by decide +kernel
theorem dX8_warm_213 : decode mi_X8_warm.2.1 213 = .ok (.iconst 1, 1) := by decide +kernel
theorem dX8_warm_214 : decode mi_X8_warm.2.1 214 = .ok (.iload_n 3, 1) := by decide +kernel
theorem dX8_warm_215 : decode mi_X8_warm.2.1 215 = .ok (.ishl, 1) := by decide +kernel
theorem dX8_warm_216 : decode mi_X8_warm.2.1 216 = .ok (.if_icmp .ge 21, 3) := by decide +kernel
theorem dX8_warm_219 : decode mi_X8_warm.2.1 219 = .ok (.aload_n 0, 1) := by decide +kernel
theorem dX8_warm_220 : decode mi_X8_warm.2.1 220 = .ok (.getfield 233, 3) := by decide +kernel
theorem dX8_warm_223 : decode mi_X8_warm.2.1 223 = .ok (.sipush 5120, 3) := by decide +kernel
theorem dX8_warm_226 : decode mi_X8_warm.2.1 226 = .ok (.iload 4, 2) := by decide +kernel
theorem dX8_warm_228 : decode mi_X8_warm.2.1 228 = .ok (.iadd, 1) := by decide +kernel
theorem dX8_warm_229 : decode mi_X8_warm.2.1 229 = .ok (.iconst 0, 1) := by decide +kernel
theorem dX8_warm_230 : decode mi_X8_warm.2.1 230 = .ok (.iastore, 1) := by decide +kernel
theorem dX8_warm_231 : decode mi_X8_warm.2.1 231 = .ok (.iinc 4 1, 3) := by decide +kernel
theorem dX8_warm_234 : decode mi_X8_warm.2.1 234 = .ok (.goto (-23), 3) := by decide +kernel
theorem dX8_warm_237 : decode mi_X8_warm.2.1 237 = .ok (.bipush 19, 2) := by decide +kernel
theorem dX8_warm_239 : decode mi_X8_warm.2.1 239 = .ok (.istore 4, 2) := by decide +kernel
theorem dX8_warm_241 : decode mi_X8_warm.2.1 241 = .ok (.iload 4, 2) := by decide +kernel
theorem dX8_warm_243 : decode mi_X8_warm.2.1 243 = .ok (.ifCond .lt 128, 3) := by decide +kernel
theorem dX8_warm_246 : decode mi_X8_warm.2.1 246 = .ok (.iconst 0, 1) := by decide +kernel
theorem dX8_warm_247 : decode mi_X8_warm.2.1 247 = .ok (.istore 5, 2) := by decide +kernel
theorem dX8_warm_249 : decode mi_X8_warm.2.1 249 = .ok (.iload 5, 2) := by decide +kernel
theorem dX8_warm_251 : decode mi_X8_warm.2.1 251 = .ok (.iconst 1, 1) := by decide +kernel
theorem dX8_warm_252 : decode mi_X8_warm.2.1 252 = .ok (.iload_n 3, 1) := by decide +kernel
theorem dX8_warm_253 : decode mi_X8_warm.2.1 253 = .ok (.ishl, 1) := by decide +kernel
theorem dX8_warm_254 : decode mi_X8_warm.2.1 254 = .ok (.if_icmp .ge 111, 3) := by decide +kernel
theorem dX8_warm_257 : decode mi_X8_warm.2.1 257 = .ok (.aload_n 0, 1) := by decide +kernel
theorem dX8_warm_258 : decode mi_X8_warm.2.1 258 = .ok (.getfield 233, 3) := by decide +kernel
theorem dX8_warm_261 : decode mi_X8_warm.2.1 261 = .ok (.sipush 256, 3) := by decide +kernel
theorem dX8_warm_264 : decode mi_X8_warm.2.1 264 = .ok (.iload 4, 2) := by decide +kernel
theorem dX8_warm_266 : decode mi_X8_warm.2.1 266 = .ok (.imul, 1) := by decide +kernel
theorem dX8_warm_267 : decode mi_X8_warm.2.1 267 = .ok (.sipush 256, 3) := by decide +kernel
theorem dX8_warm_270 : decode mi_X8_warm.2.1 270 = .ok (.iadd, 1) := by decide +kernel
theorem dX8_warm_271 : decode mi_X8_warm.2.1 271 = .ok (.iload 5, 2) := by decide +kernel
theorem dX8_warm_273 : decode mi_X8_warm.2.1 273 = .ok (.iadd, 1) := by decide +kernel
theorem dX8_warm_274 : decode mi_X8_warm.2.1 274 = .ok (.iaload, 1) := by decide +kernel
theorem dX8_warm_275 : decode mi_X8_warm.2.1 275 = .ok (.istore 6, 2) := by decide +kernel
theorem dX8_warm_277 : decode mi_X8_warm.2.1 277 = .ok (.iconst 0, 1) := by decide +kernel
theorem dX8_warm_278 : decode mi_X8_warm.2.1 278 = .ok (.istore 7, 2) := by decide +kernel
theorem dX8_warm_280 : decode mi_X8_warm.2.1 280 = .ok (.iload 7, 2) := by decide +kernel
theorem dX8_warm_282 : decode mi_X8_warm.2.1 282 = .ok (.iload_n 3, 1) := by decide +kernel
theorem dX8_warm_283 : decode mi_X8_warm.2.1 283 = .ok (.if_icmp .ge 60, 3) := by decide +kernel
theorem dX8_warm_286 : decode mi_X8_warm.2.1 286 = .ok (.aload_n 0, 1) := by decide +kernel
theorem dX8_warm_287 : decode mi_X8_warm.2.1 287 = .ok (.iload 7, 2) := by decide +kernel
theorem dX8_warm_289 : decode mi_X8_warm.2.1 289 = .ok (.iload 4, 2) := by decide +kernel
theorem dX8_warm_291 : decode mi_X8_warm.2.1 291 = .ok (.iload 5, 2) := by decide +kernel
theorem dX8_warm_293 : decode mi_X8_warm.2.1 293 = .ok (.invokevirtual 662, 3) := by decide +kernel
theorem dX8_warm_296 : decode mi_X8_warm.2.1 296 = .ok (.ifCond .eq 41, 3) := by decide +kernel
theorem dX8_warm_299 : decode mi_X8_warm.2.1 299 = .ok (.iload 6, 2) := by decide +kernel
theorem dX8_warm_301 : decode mi_X8_warm.2.1 301 = .ok (.aload_n 0, 1) := by decide +kernel
theorem dX8_warm_302 : decode mi_X8_warm.2.1 302 = .ok (.getfield 227, 3) := by decide +kernel
theorem dX8_warm_305 : decode mi_X8_warm.2.1 305 = .ok (.iload 7, 2) := by decide +kernel
theorem dX8_warm_307 : decode mi_X8_warm.2.1 307 = .ok (.iaload, 1) := by decide +kernel
theorem dX8_warm_308 : decode mi_X8_warm.2.1 308 = .ok (.aload_n 0, 1) := by decide +kernel
theorem dX8_warm_309 : decode mi_X8_warm.2.1 309 = .ok (.getfield 233, 3) := by decide +kernel
theorem dX8_warm_312 : decode mi_X8_warm.2.1 312 = .ok (.sipush 256, 3) := by decide +kernel
theorem dX8_warm_315 : decode mi_X8_warm.2.1 315 = .ok (.iload 4, 2) := by decide +kernel
theorem dX8_warm_317 : decode mi_X8_warm.2.1 317 = .ok (.imul, 1) := by decide +kernel
theorem dX8_warm_318 : decode mi_X8_warm.2.1 318 = .ok (.sipush 256, 3) := by decide +kernel
theorem dX8_warm_321 : decode mi_X8_warm.2.1 321 = .ok (.iadd, 1) := by decide +kernel
theorem dX8_warm_322 : decode mi_X8_warm.2.1 322 = .ok (.iload 5, 2) := by decide +kernel
theorem dX8_warm_324 : decode mi_X8_warm.2.1 324 = .ok (.iconst 1, 1) := by decide +kernel
theorem dX8_warm_325 : decode mi_X8_warm.2.1 325 = .ok (.iload 7, 2) := by decide +kernel
theorem dX8_warm_327 : decode mi_X8_warm.2.1 327 = .ok (.ishl, 1) := by decide +kernel
theorem dX8_warm_328 : decode mi_X8_warm.2.1 328 = .ok (.ior, 1) := by decide +kernel
theorem dX8_warm_329 : decode mi_X8_warm.2.1 329 = .ok (.iadd, 1) := by decide +kernel
theorem dX8_warm_330 : decode mi_X8_warm.2.1 330 = .ok (.iaload, 1) := by decide +kernel
theorem dX8_warm_331 : decode mi_X8_warm.2.1 331 = .ok (.iadd, 1) := by decide +kernel
theorem dX8_warm_332 : decode mi_X8_warm.2.1 332 = .ok (.invokestatic 393, 3) := by decide +kernel
theorem dX8_warm_335 : decode mi_X8_warm.2.1 335 = .ok (.istore 6, 2) := by decide +kernel
theorem dX8_warm_337 : decode mi_X8_warm.2.1 337 = .ok (.iinc 7 1, 3) := by decide +kernel
theorem dX8_warm_340 : decode mi_X8_warm.2.1 340 = .ok (.goto (-60), 3) := by decide +kernel
theorem dX8_warm_343 : decode mi_X8_warm.2.1 343 = .ok (.aload_n 0, 1) := by decide +kernel
theorem dX8_warm_344 : decode mi_X8_warm.2.1 344 = .ok (.getfield 233, 3) := by decide +kernel
theorem dX8_warm_347 : decode mi_X8_warm.2.1 347 = .ok (.sipush 256, 3) := by decide +kernel
theorem dX8_warm_350 : decode mi_X8_warm.2.1 350 = .ok (.iload 4, 2) := by decide +kernel
theorem dX8_warm_352 : decode mi_X8_warm.2.1 352 = .ok (.imul, 1) := by decide +kernel
theorem dX8_warm_353 : decode mi_X8_warm.2.1 353 = .ok (.iload 5, 2) := by decide +kernel
theorem dX8_warm_355 : decode mi_X8_warm.2.1 355 = .ok (.iadd, 1) := by decide +kernel
theorem dX8_warm_356 : decode mi_X8_warm.2.1 356 = .ok (.iload 6, 2) := by decide +kernel
theorem dX8_warm_358 : decode mi_X8_warm.2.1 358 = .ok (.iastore, 1) := by decide +kernel
theorem dX8_warm_359 : decode mi_X8_warm.2.1 359 = .ok (.iinc 5 1, 3) := by decide +kernel
theorem dX8_warm_362 : decode mi_X8_warm.2.1 362 = .ok (.goto (-113), 3) := by decide +kernel
theorem dX8_warm_365 : decode mi_X8_warm.2.1 365 = .ok (.iinc 4 (-1), 3) := by decide +kernel
theorem dX8_warm_368 : decode mi_X8_warm.2.1 368 = .ok (.goto (-127), 3) := by decide +kernel
theorem dX8_warm_371 : decode mi_X8_warm.2.1 371 = .ok (.iconst 0, 1) := by decide +kernel
theorem dX8_warm_372 : decode mi_X8_warm.2.1 372 = .ok (.istore 4, 2) := by decide +kernel
theorem dX8_warm_374 : decode mi_X8_warm.2.1 374 = .ok (.iconst 0, 1) := by decide +kernel
theorem dX8_warm_375 : decode mi_X8_warm.2.1 375 = .ok (.istore 5, 2) := by decide +kernel
theorem dX8_warm_377 : decode mi_X8_warm.2.1 377 = .ok (.iload 5, 2) := by decide +kernel
theorem dX8_warm_379 : decode mi_X8_warm.2.1 379 = .ok (.bipush 20, 2) := by decide +kernel
theorem dX8_warm_381 : decode mi_X8_warm.2.1 381 = .ok (.if_icmp .ge 123, 3) := by decide +kernel
theorem dX8_warm_384 : decode mi_X8_warm.2.1 384 = .ok (.iconst 0, 1) := by decide +kernel
theorem dX8_warm_385 : decode mi_X8_warm.2.1 385 = .ok (.istore 6, 2) := by decide +kernel
theorem dX8_warm_387 : decode mi_X8_warm.2.1 387 = .ok (.iload 6, 2) := by decide +kernel
theorem dX8_warm_389 : decode mi_X8_warm.2.1 389 = .ok (.iload_n 3, 1) := by decide +kernel
theorem dX8_warm_390 : decode mi_X8_warm.2.1 390 = .ok (.if_icmp .ge 70, 3) := by decide +kernel
theorem dX8_warm_393 : decode mi_X8_warm.2.1 393 = .ok (.aload_n 0, 1) := by decide +kernel
theorem dX8_warm_394 : decode mi_X8_warm.2.1 394 = .ok (.iload 6, 2) := by decide +kernel
theorem dX8_warm_396 : decode mi_X8_warm.2.1 396 = .ok (.iload 5, 2) := by decide +kernel
theorem dX8_warm_398 : decode mi_X8_warm.2.1 398 = .ok (.iload 4, 2) := by decide +kernel
theorem dX8_warm_400 : decode mi_X8_warm.2.1 400 = .ok (.invokevirtual 662, 3) := by decide +kernel
theorem dX8_warm_403 : decode mi_X8_warm.2.1 403 = .ok (.ifCond .eq 51, 3) := by decide +kernel
theorem dX8_warm_406 : decode mi_X8_warm.2.1 406 = .ok (.aload_n 0, 1) := by decide +kernel
theorem dX8_warm_407 : decode mi_X8_warm.2.1 407 = .ok (.getfield 227, 3) := by decide +kernel
theorem dX8_warm_410 : decode mi_X8_warm.2.1 410 = .ok (.iload 6, 2) := by decide +kernel
theorem dX8_warm_412 : decode mi_X8_warm.2.1 412 = .ok (.iaload, 1) := by decide +kernel
theorem dX8_warm_413 : decode mi_X8_warm.2.1 413 = .ok (.aload_n 0, 1) := by decide +kernel
theorem dX8_warm_414 : decode mi_X8_warm.2.1 414 = .ok (.getfield 233, 3) := by decide +kernel
theorem dX8_warm_417 : decode mi_X8_warm.2.1 417 = .ok (.sipush 256, 3) := by decide +kernel
theorem dX8_warm_420 : decode mi_X8_warm.2.1 420 = .ok (.iload 5, 2) := by decide +kernel
theorem dX8_warm_422 : decode mi_X8_warm.2.1 422 = .ok (.imul, 1) := by decide +kernel
theorem dX8_warm_423 : decode mi_X8_warm.2.1 423 = .ok (.sipush 256, 3) := by decide +kernel
theorem dX8_warm_426 : decode mi_X8_warm.2.1 426 = .ok (.iadd, 1) := by decide +kernel
theorem dX8_warm_427 : decode mi_X8_warm.2.1 427 = .ok (.iload 4, 2) := by decide +kernel
theorem dX8_warm_429 : decode mi_X8_warm.2.1 429 = .ok (.iconst 1, 1) := by decide +kernel
theorem dX8_warm_430 : decode mi_X8_warm.2.1 430 = .ok (.iload 6, 2) := by decide +kernel
theorem dX8_warm_432 : decode mi_X8_warm.2.1 432 = .ok (.ishl, 1) := by decide +kernel
theorem dX8_warm_433 : decode mi_X8_warm.2.1 433 = .ok (.ior, 1) := by decide +kernel
theorem dX8_warm_434 : decode mi_X8_warm.2.1 434 = .ok (.iadd, 1) := by decide +kernel
theorem dX8_warm_435 : decode mi_X8_warm.2.1 435 = .ok (.iaload, 1) := by decide +kernel
theorem dX8_warm_436 : decode mi_X8_warm.2.1 436 = .ok (.iadd, 1) := by decide +kernel
theorem dX8_warm_437 : decode mi_X8_warm.2.1 437 = .ok (.aload_n 0, 1) := by decide +kernel
theorem dX8_warm_438 : decode mi_X8_warm.2.1 438 = .ok (.getfield 233, 3) := by decide +kernel
theorem dX8_warm_441 : decode mi_X8_warm.2.1 441 = .ok (.sipush 256, 3) := by decide +kernel
theorem dX8_warm_444 : decode mi_X8_warm.2.1 444 = .ok (.iload 5, 2) := by decide +kernel
theorem dX8_warm_446 : decode mi_X8_warm.2.1 446 = .ok (.imul, 1) := by decide +kernel
theorem dX8_warm_447 : decode mi_X8_warm.2.1 447 = .ok (.iload 4, 2) := by decide +kernel
theorem dX8_warm_449 : decode mi_X8_warm.2.1 449 = .ok (.iadd, 1) := by decide +kernel
theorem dX8_warm_450 : decode mi_X8_warm.2.1 450 = .ok (.iaload, 1) := by decide +kernel
theorem dX8_warm_451 : decode mi_X8_warm.2.1 451 = .ok (.if_icmp .eq 9, 3) := by decide +kernel
theorem dX8_warm_454 : decode mi_X8_warm.2.1 454 = .ok (.iinc 6 1, 3) := by decide +kernel
theorem dX8_warm_457 : decode mi_X8_warm.2.1 457 = .ok (.goto (-70), 3) := by decide +kernel
theorem dX8_warm_460 : decode mi_X8_warm.2.1 460 = .ok (.aload_n 0, 1) := by decide +kernel
theorem dX8_warm_461 : decode mi_X8_warm.2.1 461 = .ok (.getfield 230, 3) := by decide +kernel
theorem dX8_warm_464 : decode mi_X8_warm.2.1 464 = .ok (.iload 5, 2) := by decide +kernel
theorem dX8_warm_466 : decode mi_X8_warm.2.1 466 = .ok (.iload 6, 2) := by decide +kernel
theorem dX8_warm_468 : decode mi_X8_warm.2.1 468 = .ok (.iload_n 3, 1) := by decide +kernel
theorem dX8_warm_469 : decode mi_X8_warm.2.1 469 = .ok (.if_icmp .ge 8, 3) := by decide +kernel
theorem dX8_warm_472 : decode mi_X8_warm.2.1 472 = .ok (.iload 6, 2) := by decide +kernel
theorem dX8_warm_474 : decode mi_X8_warm.2.1 474 = .ok (.goto 4, 3) := by decide +kernel
theorem dX8_warm_477 : decode mi_X8_warm.2.1 477 = .ok (.iconst (-1), 1) := by decide +kernel
theorem dX8_warm_478 : decode mi_X8_warm.2.1 478 = .ok (.iastore, 1) := by decide +kernel
theorem dX8_warm_479 : decode mi_X8_warm.2.1 479 = .ok (.iload 4, 2) := by decide +kernel
theorem dX8_warm_481 : decode mi_X8_warm.2.1 481 = .ok (.iload 6, 2) := by decide +kernel
theorem dX8_warm_483 : decode mi_X8_warm.2.1 483 = .ok (.iload_n 3, 1) := by decide +kernel
theorem dX8_warm_484 : decode mi_X8_warm.2.1 484 = .ok (.if_icmp .ge 10, 3) := by decide +kernel
theorem dX8_warm_487 : decode mi_X8_warm.2.1 487 = .ok (.iconst 1, 1) := by decide +kernel
theorem dX8_warm_488 : decode mi_X8_warm.2.1 488 = .ok (.iload 6, 2) := by decide +kernel
theorem dX8_warm_490 : decode mi_X8_warm.2.1 490 = .ok (.ishl, 1) := by decide +kernel
theorem dX8_warm_491 : decode mi_X8_warm.2.1 491 = .ok (.goto 4, 3) := by decide +kernel
theorem dX8_warm_494 : decode mi_X8_warm.2.1 494 = .ok (.iconst 0, 1) := by decide +kernel
theorem dX8_warm_495 : decode mi_X8_warm.2.1 495 = .ok (.ior, 1) := by decide +kernel
theorem dX8_warm_496 : decode mi_X8_warm.2.1 496 = .ok (.istore 4, 2) := by decide +kernel
theorem dX8_warm_498 : decode mi_X8_warm.2.1 498 = .ok (.iinc 5 1, 3) := by decide +kernel
theorem dX8_warm_501 : decode mi_X8_warm.2.1 501 = .ok (.goto (-124), 3) := by decide +kernel
theorem dX8_warm_504 : decode mi_X8_warm.2.1 504 = .ok (.aload_n 0, 1) := by decide +kernel
theorem dX8_warm_505 : decode mi_X8_warm.2.1 505 = .ok (.iconst 1, 1) := by decide +kernel
theorem dX8_warm_506 : decode mi_X8_warm.2.1 506 = .ok (.putfield 666, 3) := by decide +kernel
theorem dX8_warm_509 : decode mi_X8_warm.2.1 509 = .ok (.aload_n 0, 1) := by decide +kernel
theorem dX8_warm_510 : decode mi_X8_warm.2.1 510 = .ok (.getfield 233, 3) := by decide +kernel
theorem dX8_warm_513 : decode mi_X8_warm.2.1 513 = .ok (.iconst 0, 1) := by decide +kernel
theorem dX8_warm_514 : decode mi_X8_warm.2.1 514 = .ok (.iaload, 1) := by decide +kernel
theorem dX8_warm_515 : decode mi_X8_warm.2.1 515 = .ok (.ireturn, 1) := by decide +kernel
theorem v_X8_warm {G : ma_G} {d : Nat} {a0 : Nat} {x1 : Int32} {x2 : Int32} {x3 : Int32} {h : ah_T} {Q : Option ma_V → ah_T → Prop} {E : Nat → ah_T → Prop} (La0_h : LY8 h a0) (H : ∀ h1 : ah_T, h1 = ah_wI h a0 1 (0 : Int32) → ah_ext h h1 → ∀ h2 : ah_T, h2 = ah_wI h1 a0 0 (0 : Int32) → ah_ext h1 h2 → (x1.toInt64 < (0 : Int64) → ∀ h4 : ah_T, h4 = ah_wI h2 a0 0 (1 : Int32) → ah_ext h2 h4 → Q (some (iv (-1 : Int32))) h4) ∧ (¬ x1.toInt64 < (0 : Int64) → ((3 : Int64) < x1.toInt64 → ∀ h6 : ah_T, h6 = ah_wI h2 a0 0 (1 : Int32) → ah_ext h2 h6 → Q (some (iv (-1 : Int32))) h6) ∧ (¬ (3 : Int64) < x1.toInt64 → (x2.toInt64 < (0 : Int64) → ∀ h8 : ah_T, h8 = ah_wI h2 a0 0 (1 : Int32) → ah_ext h2 h8 → Q (some (iv (-1 : Int32))) h8) ∧ (¬ x2.toInt64 < (0 : Int64) → ((3 : Int64) < x2.toInt64 → ∀ h10 : ah_T, h10 = ah_wI h2 a0 0 (1 : Int32) → ah_ext h2 h10 → Q (some (iv (-1 : Int32))) h10) ∧ (¬ (3 : Int64) < x2.toInt64 → vp_in x1 4 ∧ ((ah_I h (a0 + 2) x1.toNatClampNeg) < 0 → ∀ h13 : ah_T, h13 = ah_wI h2 a0 0 (3 : Int32) → ah_ext h2 h13 → Q (some (iv (-1 : Int32))) h13) ∧ (¬ (ah_I h (a0 + 2) x1.toNatClampNeg) < 0 → vp_in x2 4 ∧ (0 ≤ (ah_I h (a0 + 2) x2.toNatClampNeg) → (x3.toInt64 < (1 : Int64) → ∀ h17 : ah_T, h17 = ah_wI h2 a0 0 (5 : Int32) → ah_ext h2 h17 → Q (some (iv (-1 : Int32))) h17) ∧ (¬ x3.toInt64 < (1 : Int64) → ((8 : Int64) < x3.toInt64 → ∀ h19 : ah_T, h19 = ah_wI h2 a0 0 (5 : Int32) → ah_ext h2 h19 → Q (some (iv (-1 : Int32))) h19) ∧ (¬ (8 : Int64) < x3.toInt64 → ((ah_I h (a0 + 2) x1.toNatClampNeg) < x3 → ∀ h21 : ah_T, h21 = ah_wI h2 a0 0 (4 : Int32) → ah_ext h2 h21 → Q (some (iv (-1 : Int32))) h21) ∧ (¬ (ah_I h (a0 + 2) x1.toNatClampNeg) < x3 → (x3 ≤ (ah_I h (a0 + 2) x2.toNatClampNeg) → MX G mi_X8_warm (d + 1) 111 [some (rv a0), some (iv x1), some (iv x2), some (iv x3), some (iv (0 : Int32)), none, none, none] [] h2 Q E) ∧ (¬ x3 ≤ (ah_I h (a0 + 2) x2.toNatClampNeg) → ∀ h23 : ah_T, h23 = ah_wI h2 a0 0 (4 : Int32) → ah_ext h2 h23 → Q (some (iv (-1 : Int32))) h23))))) ∧ (¬ 0 ≤ (ah_I h (a0 + 2) x2.toNatClampNeg) → ∀ h24 : ah_T, h24 = ah_wI h2 a0 0 (3 : Int32) → ah_ext h2 h24 → Q (some (iv (-1 : Int32))) h24))))))) : MX G mi_X8_warm (d + 1) 0 [some (rv a0), some (iv x1), some (iv x2), some (iv x3), none, none, none, none] [] h Q E := by
  refine mx_aload_n dX8_warm_0 rfl rfl ?_
  refine mx_iconst dX8_warm_1 ic_0 ?_
  refine mx_putI 8 1 (ref := "PrairiePoolModel") cl_8 (Nat.le_of_ble_eq_true rfl) (Or.inl q1628) (Or.inl rfl) dX8_warm_2 (Or.inl rfl) rfl (ly8_k La0_h) ?_
  refine mx_nmI  (fun h1 eh1 Xh1 Kh1 Lh1 => ?_)
  have H := H h1 eh1 Xh1
  have La0_h1 := La0_h.ext Xh1
  refine mx_aload_n dX8_warm_5 rfl rfl ?_
  refine mx_iconst dX8_warm_6 ic_0 ?_
  refine mx_putI 8 0 (ref := "PrairiePoolModel") cl_8 (Nat.le_of_ble_eq_true rfl) (Or.inl q1627) (Or.inl rfl) dX8_warm_7 (Or.inl rfl) rfl (ly8_k La0_h1) ?_
  refine mx_nmI  (fun h2 eh2 Xh2 Kh2 Lh2 => ?_)
  have H := H h2 eh2 Xh2
  have Kh2 := Kh2.trans Kh1
  have Lh2 := Lh2.trans Lh1
  have La0_h2 := La0_h1.ext Xh2
  refine mx_iload_n dX8_warm_10 rfl rfl ?_
  refine mx_i2l dX8_warm_11 ?_
  refine mx_lconst dX8_warm_12 lc_0 ?_
  refine mx_ldc2 q2157 dX8_warm_13 ?_
  refine mx_callS (y' := mi_X8_isIn) (vs := [jv x1.toInt64, jv (0 : Int64), jv (3 : Int64)]) (st := []) (al' := [some (jv x1.toInt64), none, some (jv (0 : Int64)), none, some (jv (3 : Int64)), none]) S_X8_isIn q1996 dX8_warm_16 rfl rfl (Nat.le_of_ble_eq_true rfl) (Nat.le_of_ble_eq_true rfl) ?_
  refine mx_lload_n dX8_isIn_0 rfl rfl ?_
  refine mx_lload_n dX8_isIn_1 rfl rfl ?_
  refine mx_lif_lt (tgt := 17) dX8_isIn_2 dX8_isIn_3 rfl (fun c3 => ?_) (fun c3 => ?_)
  · have H := H.1 c3
    refine mx_iconst dX8_isIn_17 ic_0 ?_
    refine mx_zretK rfl dX8_isIn_18 (Or.inl rfl) ?_
    refine mx_if_eq (tgt := 34) dX8_warm_19 rfl (fun _ => ?_) (fun _ => absurd ‹_› (by decide))
    refine mx_aload_n dX8_warm_34 rfl rfl ?_
    refine mx_iconst dX8_warm_35 ic_1 ?_
    refine mx_callV 8 (y' := mi_X8_refuse) (vs := [iv (1 : Int32)]) (st := []) (al' := [some (rv a0), some (iv (1 : Int32))]) cl_8 V_X8_refuse (Or.inl q1999) dX8_warm_36 rfl rfl (Nat.le_of_ble_eq_true rfl) (Nat.le_of_ble_eq_true rfl) (ly8_k La0_h2) ?_
    refine mx_aload_n dX8_refuse_0 rfl rfl ?_
    refine mx_iload_n dX8_refuse_1 rfl rfl ?_
    refine mx_putI 8 0 (ref := "PrairiePoolModel") cl_8 (Nat.le_of_ble_eq_true rfl) (Or.inl q1627) (Or.inl rfl) dX8_refuse_2 (Or.inl rfl) rfl (ly8_k La0_h2) ?_
    refine mx_nmI  (fun h4 eh4 Xh4 Kh4 Lh4 => ?_)
    have H := H h4 eh4 Xh4
    have Kh4 := Kh4.trans Kh2
    have Lh4 := Lh4.trans Lh2
    have La0_h4 := La0_h2.ext Xh4
    refine mx_iconst dX8_refuse_5 ic_m1 ?_
    refine mx_iretK rfl dX8_refuse_6 ?_
    exact mx_iret rfl dX8_warm_39 H
  · have H := H.2 c3
    refine mx_lload_n dX8_isIn_6 rfl rfl ?_
    refine mx_lload dX8_isIn_7 rfl ?_
    refine mx_lif_gt (tgt := 17) dX8_isIn_9 dX8_isIn_10 rfl (fun c5 => ?_) (fun c5 => ?_)
    · have H := H.1 c5
      refine mx_iconst dX8_isIn_17 ic_0 ?_
      refine mx_zretK rfl dX8_isIn_18 (Or.inl rfl) ?_
      refine mx_if_eq (tgt := 34) dX8_warm_19 rfl (fun _ => ?_) (fun _ => absurd ‹_› (by decide))
      refine mx_aload_n dX8_warm_34 rfl rfl ?_
      refine mx_iconst dX8_warm_35 ic_1 ?_
      refine mx_callV 8 (y' := mi_X8_refuse) (vs := [iv (1 : Int32)]) (st := []) (al' := [some (rv a0), some (iv (1 : Int32))]) cl_8 V_X8_refuse (Or.inl q1999) dX8_warm_36 rfl rfl (Nat.le_of_ble_eq_true rfl) (Nat.le_of_ble_eq_true rfl) (ly8_k La0_h2) ?_
      refine mx_aload_n dX8_refuse_0 rfl rfl ?_
      refine mx_iload_n dX8_refuse_1 rfl rfl ?_
      refine mx_putI 8 0 (ref := "PrairiePoolModel") cl_8 (Nat.le_of_ble_eq_true rfl) (Or.inl q1627) (Or.inl rfl) dX8_refuse_2 (Or.inl rfl) rfl (ly8_k La0_h2) ?_
      refine mx_nmI  (fun h6 eh6 Xh6 Kh6 Lh6 => ?_)
      have H := H h6 eh6 Xh6
      have Kh6 := Kh6.trans Kh2
      have Lh6 := Lh6.trans Lh2
      have La0_h6 := La0_h2.ext Xh6
      refine mx_iconst dX8_refuse_5 ic_m1 ?_
      refine mx_iretK rfl dX8_refuse_6 ?_
      exact mx_iret rfl dX8_warm_39 H
    · have H := H.2 c5
      refine mx_iconst dX8_isIn_13 ic_1 ?_
      refine mx_goto (tgt := 18) dX8_isIn_14 rfl ?_
      refine mx_zretK rfl dX8_isIn_18 (Or.inr rfl) ?_
      refine mx_if_eq (tgt := 34) dX8_warm_19 rfl (fun _ => absurd ‹_› (by decide)) (fun _ => ?_)
      refine mx_iload_n dX8_warm_22 rfl rfl ?_
      refine mx_i2l dX8_warm_23 ?_
      refine mx_lconst dX8_warm_24 lc_0 ?_
      refine mx_ldc2 q2157 dX8_warm_25 ?_
      refine mx_callS (y' := mi_X8_isIn) (vs := [jv x2.toInt64, jv (0 : Int64), jv (3 : Int64)]) (st := []) (al' := [some (jv x2.toInt64), none, some (jv (0 : Int64)), none, some (jv (3 : Int64)), none]) S_X8_isIn q1996 dX8_warm_28 rfl rfl (Nat.le_of_ble_eq_true rfl) (Nat.le_of_ble_eq_true rfl) ?_
      refine mx_lload_n dX8_isIn_0 rfl rfl ?_
      refine mx_lload_n dX8_isIn_1 rfl rfl ?_
      refine mx_lif_lt (tgt := 17) dX8_isIn_2 dX8_isIn_3 rfl (fun c7 => ?_) (fun c7 => ?_)
      · have H := H.1 c7
        refine mx_iconst dX8_isIn_17 ic_0 ?_
        refine mx_zretK rfl dX8_isIn_18 (Or.inl rfl) ?_
        refine mx_if_ne (tgt := 40) dX8_warm_31 rfl (fun _ => absurd ‹_› (by decide)) (fun _ => ?_)
        refine mx_aload_n dX8_warm_34 rfl rfl ?_
        refine mx_iconst dX8_warm_35 ic_1 ?_
        refine mx_callV 8 (y' := mi_X8_refuse) (vs := [iv (1 : Int32)]) (st := []) (al' := [some (rv a0), some (iv (1 : Int32))]) cl_8 V_X8_refuse (Or.inl q1999) dX8_warm_36 rfl rfl (Nat.le_of_ble_eq_true rfl) (Nat.le_of_ble_eq_true rfl) (ly8_k La0_h2) ?_
        refine mx_aload_n dX8_refuse_0 rfl rfl ?_
        refine mx_iload_n dX8_refuse_1 rfl rfl ?_
        refine mx_putI 8 0 (ref := "PrairiePoolModel") cl_8 (Nat.le_of_ble_eq_true rfl) (Or.inl q1627) (Or.inl rfl) dX8_refuse_2 (Or.inl rfl) rfl (ly8_k La0_h2) ?_
        refine mx_nmI  (fun h8 eh8 Xh8 Kh8 Lh8 => ?_)
        have H := H h8 eh8 Xh8
        have Kh8 := Kh8.trans Kh2
        have Lh8 := Lh8.trans Lh2
        have La0_h8 := La0_h2.ext Xh8
        refine mx_iconst dX8_refuse_5 ic_m1 ?_
        refine mx_iretK rfl dX8_refuse_6 ?_
        exact mx_iret rfl dX8_warm_39 H
      · have H := H.2 c7
        refine mx_lload_n dX8_isIn_6 rfl rfl ?_
        refine mx_lload dX8_isIn_7 rfl ?_
        refine mx_lif_gt (tgt := 17) dX8_isIn_9 dX8_isIn_10 rfl (fun c9 => ?_) (fun c9 => ?_)
        · have H := H.1 c9
          refine mx_iconst dX8_isIn_17 ic_0 ?_
          refine mx_zretK rfl dX8_isIn_18 (Or.inl rfl) ?_
          refine mx_if_ne (tgt := 40) dX8_warm_31 rfl (fun _ => absurd ‹_› (by decide)) (fun _ => ?_)
          refine mx_aload_n dX8_warm_34 rfl rfl ?_
          refine mx_iconst dX8_warm_35 ic_1 ?_
          refine mx_callV 8 (y' := mi_X8_refuse) (vs := [iv (1 : Int32)]) (st := []) (al' := [some (rv a0), some (iv (1 : Int32))]) cl_8 V_X8_refuse (Or.inl q1999) dX8_warm_36 rfl rfl (Nat.le_of_ble_eq_true rfl) (Nat.le_of_ble_eq_true rfl) (ly8_k La0_h2) ?_
          refine mx_aload_n dX8_refuse_0 rfl rfl ?_
          refine mx_iload_n dX8_refuse_1 rfl rfl ?_
          refine mx_putI 8 0 (ref := "PrairiePoolModel") cl_8 (Nat.le_of_ble_eq_true rfl) (Or.inl q1627) (Or.inl rfl) dX8_refuse_2 (Or.inl rfl) rfl (ly8_k La0_h2) ?_
          refine mx_nmI  (fun h10 eh10 Xh10 Kh10 Lh10 => ?_)
          have H := H h10 eh10 Xh10
          have Kh10 := Kh10.trans Kh2
          have Lh10 := Lh10.trans Lh2
          have La0_h10 := La0_h2.ext Xh10
          refine mx_iconst dX8_refuse_5 ic_m1 ?_
          refine mx_iretK rfl dX8_refuse_6 ?_
          exact mx_iret rfl dX8_warm_39 H
        · have H := H.2 c9
          refine mx_iconst dX8_isIn_13 ic_1 ?_
          refine mx_goto (tgt := 18) dX8_isIn_14 rfl ?_
          refine mx_zretK rfl dX8_isIn_18 (Or.inr rfl) ?_
          refine mx_if_ne (tgt := 40) dX8_warm_31 rfl (fun _ => ?_) (fun _ => absurd ‹_› (by decide))
          refine mx_aload_n dX8_warm_40 rfl rfl ?_
          refine mx_get 8 3 (ref := "PrairiePoolModel") cl_8 (Nat.le_of_ble_eq_true rfl) (Or.inl q1630) (Or.inl rfl) dX8_warm_41 (fv_8_3 _ _) (ly8_k La0_h2) ?_
          refine mx_tr (ly8_R_0_3 La0_h2) ?_
          refine mx_iload_n dX8_warm_44 rfl rfl ?_
          obtain ⟨k11, H⟩ := H
          refine my_iald dX8_warm_45 rfl (ly8_A_2 La0_h2 k11) ?_
          refine mx_ti ((ah_skIA eh2 (by omega)).trans (ah_skIA eh1 (by omega))) ?_
          refine mx_if_lt (tgt := 58) dX8_warm_46 rfl (fun c12 => ?_) (fun c12 => ?_)
          · have H := H.1 c12
            refine mx_aload_n dX8_warm_58 rfl rfl ?_
            refine mx_iconst dX8_warm_59 ic_3 ?_
            refine mx_callV 8 (y' := mi_X8_refuse) (vs := [iv (3 : Int32)]) (st := []) (al' := [some (rv a0), some (iv (3 : Int32))]) cl_8 V_X8_refuse (Or.inl q1999) dX8_warm_60 rfl rfl (Nat.le_of_ble_eq_true rfl) (Nat.le_of_ble_eq_true rfl) (ly8_k La0_h2) ?_
            refine mx_aload_n dX8_refuse_0 rfl rfl ?_
            refine mx_iload_n dX8_refuse_1 rfl rfl ?_
            refine mx_putI 8 0 (ref := "PrairiePoolModel") cl_8 (Nat.le_of_ble_eq_true rfl) (Or.inl q1627) (Or.inl rfl) dX8_refuse_2 (Or.inl rfl) rfl (ly8_k La0_h2) ?_
            refine mx_nmI  (fun h13 eh13 Xh13 Kh13 Lh13 => ?_)
            have H := H h13 eh13 Xh13
            have Kh13 := Kh13.trans Kh2
            have Lh13 := Lh13.trans Lh2
            have La0_h13 := La0_h2.ext Xh13
            refine mx_iconst dX8_refuse_5 ic_m1 ?_
            refine mx_iretK rfl dX8_refuse_6 ?_
            exact mx_iret rfl dX8_warm_63 H
          · have H := H.2 c12
            refine mx_aload_n dX8_warm_49 rfl rfl ?_
            refine mx_get 8 3 (ref := "PrairiePoolModel") cl_8 (Nat.le_of_ble_eq_true rfl) (Or.inl q1630) (Or.inl rfl) dX8_warm_50 (fv_8_3 _ _) (ly8_k La0_h2) ?_
            refine mx_tr (ly8_R_0_3 La0_h2) ?_
            refine mx_iload_n dX8_warm_53 rfl rfl ?_
            obtain ⟨k14, H⟩ := H
            refine my_iald dX8_warm_54 rfl (ly8_A_2 La0_h2 k14) ?_
            refine mx_ti ((ah_skIA eh2 (by omega)).trans (ah_skIA eh1 (by omega))) ?_
            refine mx_if_ge (tgt := 64) dX8_warm_55 rfl (fun c15 => ?_) (fun c15 => ?_)
            · have H := H.1 c15
              refine mx_iload_n dX8_warm_64 rfl rfl ?_
              refine mx_i2l dX8_warm_65 ?_
              refine mx_lconst dX8_warm_66 lc_1 ?_
              refine mx_ldc2 q2431 dX8_warm_67 ?_
              refine mx_callS (y' := mi_X8_isIn) (vs := [jv x3.toInt64, jv (1 : Int64), jv (8 : Int64)]) (st := []) (al' := [some (jv x3.toInt64), none, some (jv (1 : Int64)), none, some (jv (8 : Int64)), none]) S_X8_isIn q1996 dX8_warm_70 rfl rfl (Nat.le_of_ble_eq_true rfl) (Nat.le_of_ble_eq_true rfl) ?_
              refine mx_lload_n dX8_isIn_0 rfl rfl ?_
              refine mx_lload_n dX8_isIn_1 rfl rfl ?_
              refine mx_lif_lt (tgt := 17) dX8_isIn_2 dX8_isIn_3 rfl (fun c16 => ?_) (fun c16 => ?_)
              · have H := H.1 c16
                refine mx_iconst dX8_isIn_17 ic_0 ?_
                refine mx_zretK rfl dX8_isIn_18 (Or.inl rfl) ?_
                refine mx_if_ne (tgt := 82) dX8_warm_73 rfl (fun _ => absurd ‹_› (by decide)) (fun _ => ?_)
                refine mx_aload_n dX8_warm_76 rfl rfl ?_
                refine mx_iconst dX8_warm_77 ic_5 ?_
                refine mx_callV 8 (y' := mi_X8_refuse) (vs := [iv (5 : Int32)]) (st := []) (al' := [some (rv a0), some (iv (5 : Int32))]) cl_8 V_X8_refuse (Or.inl q1999) dX8_warm_78 rfl rfl (Nat.le_of_ble_eq_true rfl) (Nat.le_of_ble_eq_true rfl) (ly8_k La0_h2) ?_
                refine mx_aload_n dX8_refuse_0 rfl rfl ?_
                refine mx_iload_n dX8_refuse_1 rfl rfl ?_
                refine mx_putI 8 0 (ref := "PrairiePoolModel") cl_8 (Nat.le_of_ble_eq_true rfl) (Or.inl q1627) (Or.inl rfl) dX8_refuse_2 (Or.inl rfl) rfl (ly8_k La0_h2) ?_
                refine mx_nmI  (fun h17 eh17 Xh17 Kh17 Lh17 => ?_)
                have H := H h17 eh17 Xh17
                have Kh17 := Kh17.trans Kh2
                have Lh17 := Lh17.trans Lh2
                have La0_h17 := La0_h2.ext Xh17
                refine mx_iconst dX8_refuse_5 ic_m1 ?_
                refine mx_iretK rfl dX8_refuse_6 ?_
                exact mx_iret rfl dX8_warm_81 H
              · have H := H.2 c16
                refine mx_lload_n dX8_isIn_6 rfl rfl ?_
                refine mx_lload dX8_isIn_7 rfl ?_
                refine mx_lif_gt (tgt := 17) dX8_isIn_9 dX8_isIn_10 rfl (fun c18 => ?_) (fun c18 => ?_)
                · have H := H.1 c18
                  refine mx_iconst dX8_isIn_17 ic_0 ?_
                  refine mx_zretK rfl dX8_isIn_18 (Or.inl rfl) ?_
                  refine mx_if_ne (tgt := 82) dX8_warm_73 rfl (fun _ => absurd ‹_› (by decide)) (fun _ => ?_)
                  refine mx_aload_n dX8_warm_76 rfl rfl ?_
                  refine mx_iconst dX8_warm_77 ic_5 ?_
                  refine mx_callV 8 (y' := mi_X8_refuse) (vs := [iv (5 : Int32)]) (st := []) (al' := [some (rv a0), some (iv (5 : Int32))]) cl_8 V_X8_refuse (Or.inl q1999) dX8_warm_78 rfl rfl (Nat.le_of_ble_eq_true rfl) (Nat.le_of_ble_eq_true rfl) (ly8_k La0_h2) ?_
                  refine mx_aload_n dX8_refuse_0 rfl rfl ?_
                  refine mx_iload_n dX8_refuse_1 rfl rfl ?_
                  refine mx_putI 8 0 (ref := "PrairiePoolModel") cl_8 (Nat.le_of_ble_eq_true rfl) (Or.inl q1627) (Or.inl rfl) dX8_refuse_2 (Or.inl rfl) rfl (ly8_k La0_h2) ?_
                  refine mx_nmI  (fun h19 eh19 Xh19 Kh19 Lh19 => ?_)
                  have H := H h19 eh19 Xh19
                  have Kh19 := Kh19.trans Kh2
                  have Lh19 := Lh19.trans Lh2
                  have La0_h19 := La0_h2.ext Xh19
                  refine mx_iconst dX8_refuse_5 ic_m1 ?_
                  refine mx_iretK rfl dX8_refuse_6 ?_
                  exact mx_iret rfl dX8_warm_81 H
                · have H := H.2 c18
                  refine mx_iconst dX8_isIn_13 ic_1 ?_
                  refine mx_goto (tgt := 18) dX8_isIn_14 rfl ?_
                  refine mx_zretK rfl dX8_isIn_18 (Or.inr rfl) ?_
                  refine mx_if_ne (tgt := 82) dX8_warm_73 rfl (fun _ => ?_) (fun _ => absurd ‹_› (by decide))
                  refine mx_aload_n dX8_warm_82 rfl rfl ?_
                  refine mx_get 8 3 (ref := "PrairiePoolModel") cl_8 (Nat.le_of_ble_eq_true rfl) (Or.inl q1630) (Or.inl rfl) dX8_warm_83 (fv_8_3 _ _) (ly8_k La0_h2) ?_
                  refine mx_tr (ly8_R_0_3 La0_h2) ?_
                  refine mx_iload_n dX8_warm_86 rfl rfl ?_
                  refine my_iald dX8_warm_87 rfl (ly8_A_2 La0_h2 k11) ?_
                  refine mx_ti ((ah_skIA eh2 (by omega)).trans (ah_skIA eh1 (by omega))) ?_
                  refine mx_iload_n dX8_warm_88 rfl rfl ?_
                  refine mx_icmp_lt (tgt := 102) dX8_warm_89 rfl (fun c20 => ?_) (fun c20 => ?_)
                  · have H := H.1 c20
                    refine mx_aload_n dX8_warm_102 rfl rfl ?_
                    refine mx_iconst dX8_warm_103 ic_4 ?_
                    refine mx_callV 8 (y' := mi_X8_refuse) (vs := [iv (4 : Int32)]) (st := []) (al' := [some (rv a0), some (iv (4 : Int32))]) cl_8 V_X8_refuse (Or.inl q1999) dX8_warm_104 rfl rfl (Nat.le_of_ble_eq_true rfl) (Nat.le_of_ble_eq_true rfl) (ly8_k La0_h2) ?_
                    refine mx_aload_n dX8_refuse_0 rfl rfl ?_
                    refine mx_iload_n dX8_refuse_1 rfl rfl ?_
                    refine mx_putI 8 0 (ref := "PrairiePoolModel") cl_8 (Nat.le_of_ble_eq_true rfl) (Or.inl q1627) (Or.inl rfl) dX8_refuse_2 (Or.inl rfl) rfl (ly8_k La0_h2) ?_
                    refine mx_nmI  (fun h21 eh21 Xh21 Kh21 Lh21 => ?_)
                    have H := H h21 eh21 Xh21
                    have Kh21 := Kh21.trans Kh2
                    have Lh21 := Lh21.trans Lh2
                    have La0_h21 := La0_h2.ext Xh21
                    refine mx_iconst dX8_refuse_5 ic_m1 ?_
                    refine mx_iretK rfl dX8_refuse_6 ?_
                    exact mx_iret rfl dX8_warm_107 H
                  · have H := H.2 c20
                    refine mx_aload_n dX8_warm_92 rfl rfl ?_
                    refine mx_get 8 3 (ref := "PrairiePoolModel") cl_8 (Nat.le_of_ble_eq_true rfl) (Or.inl q1630) (Or.inl rfl) dX8_warm_93 (fv_8_3 _ _) (ly8_k La0_h2) ?_
                    refine mx_tr (ly8_R_0_3 La0_h2) ?_
                    refine mx_iload_n dX8_warm_96 rfl rfl ?_
                    refine my_iald dX8_warm_97 rfl (ly8_A_2 La0_h2 k14) ?_
                    refine mx_ti ((ah_skIA eh2 (by omega)).trans (ah_skIA eh1 (by omega))) ?_
                    refine mx_iload_n dX8_warm_98 rfl rfl ?_
                    refine mx_icmp_ge (tgt := 108) dX8_warm_99 rfl (fun c22 => ?_) (fun c22 => ?_)
                    · have H := H.1 c22
                      refine mx_iconst dX8_warm_108 ic_0 ?_
                      refine mx_istore (al' := [some (rv a0), some (iv x1), some (iv x2), some (iv x3), some (iv (0 : Int32)), none, none, none]) dX8_warm_109 (Nat.le_of_ble_eq_true rfl) rfl ?_
                      exact mx_weak (al' := [some (rv a0), some (iv x1), some (iv x2), some (iv x3), some (iv (0 : Int32)), none, none, none]) ⟨rfl, ⟨rfl, ⟨rfl, ⟨rfl, ⟨rfl, trivial⟩⟩⟩⟩⟩ H
                    · have H := H.2 c22
                      refine mx_aload_n dX8_warm_102 rfl rfl ?_
                      refine mx_iconst dX8_warm_103 ic_4 ?_
                      refine mx_callV 8 (y' := mi_X8_refuse) (vs := [iv (4 : Int32)]) (st := []) (al' := [some (rv a0), some (iv (4 : Int32))]) cl_8 V_X8_refuse (Or.inl q1999) dX8_warm_104 rfl rfl (Nat.le_of_ble_eq_true rfl) (Nat.le_of_ble_eq_true rfl) (ly8_k La0_h2) ?_
                      refine mx_aload_n dX8_refuse_0 rfl rfl ?_
                      refine mx_iload_n dX8_refuse_1 rfl rfl ?_
                      refine mx_putI 8 0 (ref := "PrairiePoolModel") cl_8 (Nat.le_of_ble_eq_true rfl) (Or.inl q1627) (Or.inl rfl) dX8_refuse_2 (Or.inl rfl) rfl (ly8_k La0_h2) ?_
                      refine mx_nmI  (fun h23 eh23 Xh23 Kh23 Lh23 => ?_)
                      have H := H h23 eh23 Xh23
                      have Kh23 := Kh23.trans Kh2
                      have Lh23 := Lh23.trans Lh2
                      have La0_h23 := La0_h2.ext Xh23
                      refine mx_iconst dX8_refuse_5 ic_m1 ?_
                      refine mx_iretK rfl dX8_refuse_6 ?_
                      exact mx_iret rfl dX8_warm_107 H
            · have H := H.2 c15
              refine mx_aload_n dX8_warm_58 rfl rfl ?_
              refine mx_iconst dX8_warm_59 ic_3 ?_
              refine mx_callV 8 (y' := mi_X8_refuse) (vs := [iv (3 : Int32)]) (st := []) (al' := [some (rv a0), some (iv (3 : Int32))]) cl_8 V_X8_refuse (Or.inl q1999) dX8_warm_60 rfl rfl (Nat.le_of_ble_eq_true rfl) (Nat.le_of_ble_eq_true rfl) (ly8_k La0_h2) ?_
              refine mx_aload_n dX8_refuse_0 rfl rfl ?_
              refine mx_iload_n dX8_refuse_1 rfl rfl ?_
              refine mx_putI 8 0 (ref := "PrairiePoolModel") cl_8 (Nat.le_of_ble_eq_true rfl) (Or.inl q1627) (Or.inl rfl) dX8_refuse_2 (Or.inl rfl) rfl (ly8_k La0_h2) ?_
              refine mx_nmI  (fun h24 eh24 Xh24 Kh24 Lh24 => ?_)
              have H := H h24 eh24 Xh24
              have Kh24 := Kh24.trans Kh2
              have Lh24 := Lh24.trans Lh2
              have La0_h24 := La0_h2.ext Xh24
              refine mx_iconst dX8_refuse_5 ic_m1 ?_
              refine mx_iretK rfl dX8_refuse_6 ?_
              exact mx_iret rfl dX8_warm_63 H
theorem v_X8_warm_111 {G : ma_G} {d : Nat} {a0 : Nat} {x1 : Int32} {x2 : Int32} {x3 : Int32} {x4 : Int32} {h : ah_T} {Q : Option ma_V → ah_T → Prop} {E : Nat → ah_T → Prop} (La0_h : LY8 h a0) (H : (x3 ≤ x4 → MX G mi_X8_warm (d + 1) 166 [some (rv a0), some (iv x1), some (iv x2), some (iv x3), some (iv (0 : Int32)), none, none, none] [] h Q E) ∧ (¬ x3 ≤ x4 → vp_in (((40 : Int32) * x1) + x4) 160 ∧ ((ah_J h (a0 + 3) (((40 : Int32) * x1) + x4).toNatClampNeg) < (0 : Int64) → ∀ h4 : ah_T, h4 = ah_wI h a0 0 (5 : Int32) → ah_ext h h4 → Q (some (iv (-1 : Int32))) h4) ∧ (¬ (ah_J h (a0 + 3) (((40 : Int32) * x1) + x4).toNatClampNeg) < (0 : Int64) → ((20 : Int64) < (ah_J h (a0 + 3) (((40 : Int32) * x1) + x4).toNatClampNeg) → ∀ h6 : ah_T, h6 = ah_wI h a0 0 (5 : Int32) → ah_ext h h6 → Q (some (iv (-1 : Int32))) h6) ∧ (¬ (20 : Int64) < (ah_J h (a0 + 3) (((40 : Int32) * x1) + x4).toNatClampNeg) → vp_in (((40 : Int32) * x2) + x4) 160 ∧ ((ah_J h (a0 + 3) (((40 : Int32) * x2) + x4).toNatClampNeg) < (1 : Int64) → ∀ h9 : ah_T, h9 = ah_wI h a0 0 (5 : Int32) → ah_ext h h9 → Q (some (iv (-1 : Int32))) h9) ∧ (¬ (ah_J h (a0 + 3) (((40 : Int32) * x2) + x4).toNatClampNeg) < (1 : Int64) → ((10000 : Int64) < (ah_J h (a0 + 3) (((40 : Int32) * x2) + x4).toNatClampNeg) → ∀ h11 : ah_T, h11 = ah_wI h a0 0 (5 : Int32) → ah_ext h h11 → Q (some (iv (-1 : Int32))) h11) ∧ (¬ (10000 : Int64) < (ah_J h (a0 + 3) (((40 : Int32) * x2) + x4).toNatClampNeg) → MX G mi_X8_warm (d + 1) 111 [some (rv a0), some (iv x1), some (iv x2), some (iv x3), some (iv (x4 + (1 : Int32))), none, none, none] [] h Q E)))))) : MX G mi_X8_warm (d + 1) 111 [some (rv a0), some (iv x1), some (iv x2), some (iv x3), some (iv x4), none, none, none] [] h Q E := by
  refine mx_iload dX8_warm_111 rfl ?_
  refine mx_iload_n dX8_warm_113 rfl rfl ?_
  refine mx_icmp_ge (tgt := 163) dX8_warm_114 rfl (fun c1 => ?_) (fun c1 => ?_)
  · have H := H.1 c1
    refine mx_iconst dX8_warm_163 ic_0 ?_
    refine mx_istore (al' := [some (rv a0), some (iv x1), some (iv x2), some (iv x3), some (iv (0 : Int32)), none, none, none]) dX8_warm_164 (Nat.le_of_ble_eq_true rfl) rfl ?_
    exact mx_weak (al' := [some (rv a0), some (iv x1), some (iv x2), some (iv x3), some (iv (0 : Int32)), none, none, none]) ⟨rfl, ⟨rfl, ⟨rfl, ⟨rfl, ⟨rfl, trivial⟩⟩⟩⟩⟩ H
  · have H := H.2 c1
    refine mx_aload_n dX8_warm_117 rfl rfl ?_
    refine mx_iload_n dX8_warm_118 rfl rfl ?_
    refine mx_iload dX8_warm_119 rfl ?_
    refine mx_callV 8 (y' := mi_X8_numberOf) (vs := [iv x1, iv x4]) (st := []) (al' := [some (rv a0), some (iv x1), some (iv x4)]) cl_8 V_X8_numberOf (Or.inl q2432) dX8_warm_121 rfl rfl (Nat.le_of_ble_eq_true rfl) (Nat.le_of_ble_eq_true rfl) (ly8_k La0_h) ?_
    refine mx_aload_n dX8_numberOf_0 rfl rfl ?_
    refine mx_get 8 4 (ref := "PrairiePoolModel") cl_8 (Nat.le_of_ble_eq_true rfl) (Or.inl q1631) (Or.inl rfl) dX8_numberOf_1 (fv_8_4 _ _) (ly8_k La0_h) ?_
    refine mx_tr (ly8_R_0_4 La0_h) ?_
    refine mx_bipush dX8_numberOf_4 ib_40 ?_
    refine mx_iload_n dX8_numberOf_6 rfl rfl ?_
    refine mx_imul dX8_numberOf_7 ?_
    refine mx_iload_n dX8_numberOf_8 rfl rfl ?_
    refine mx_iadd dX8_numberOf_9 ?_
    obtain ⟨k2, H⟩ := H
    refine my_lald dX8_numberOf_10 rfl (ly8_A_3 La0_h k2) ?_
    refine mx_lretK rfl dX8_numberOf_11 ?_
    refine mx_lconst dX8_warm_124 lc_0 ?_
    refine mx_ldc2 q2352 dX8_warm_125 ?_
    refine mx_callS (y' := mi_X8_isIn) (vs := [jv (ah_J h (a0 + 3) (((40 : Int32) * x1) + x4).toNatClampNeg), jv (0 : Int64), jv (20 : Int64)]) (st := []) (al' := [some (jv (ah_J h (a0 + 3) (((40 : Int32) * x1) + x4).toNatClampNeg)), none, some (jv (0 : Int64)), none, some (jv (20 : Int64)), none]) S_X8_isIn q1996 dX8_warm_128 rfl rfl (Nat.le_of_ble_eq_true rfl) (Nat.le_of_ble_eq_true rfl) ?_
    refine mx_lload_n dX8_isIn_0 rfl rfl ?_
    refine mx_lload_n dX8_isIn_1 rfl rfl ?_
    refine mx_lif_lt (tgt := 17) dX8_isIn_2 dX8_isIn_3 rfl (fun c3 => ?_) (fun c3 => ?_)
    · have H := H.1 c3
      refine mx_iconst dX8_isIn_17 ic_0 ?_
      refine mx_zretK rfl dX8_isIn_18 (Or.inl rfl) ?_
      refine mx_if_eq (tgt := 151) dX8_warm_131 rfl (fun _ => ?_) (fun _ => absurd ‹_› (by decide))
      refine mx_aload_n dX8_warm_151 rfl rfl ?_
      refine mx_iconst dX8_warm_152 ic_5 ?_
      refine mx_callV 8 (y' := mi_X8_refuse) (vs := [iv (5 : Int32)]) (st := []) (al' := [some (rv a0), some (iv (5 : Int32))]) cl_8 V_X8_refuse (Or.inl q1999) dX8_warm_153 rfl rfl (Nat.le_of_ble_eq_true rfl) (Nat.le_of_ble_eq_true rfl) (ly8_k La0_h) ?_
      refine mx_aload_n dX8_refuse_0 rfl rfl ?_
      refine mx_iload_n dX8_refuse_1 rfl rfl ?_
      refine mx_putI 8 0 (ref := "PrairiePoolModel") cl_8 (Nat.le_of_ble_eq_true rfl) (Or.inl q1627) (Or.inl rfl) dX8_refuse_2 (Or.inl rfl) rfl (ly8_k La0_h) ?_
      refine mx_nmI  (fun h4 eh4 Xh4 Kh4 Lh4 => ?_)
      have H := H h4 eh4 Xh4
      have La0_h4 := La0_h.ext Xh4
      refine mx_iconst dX8_refuse_5 ic_m1 ?_
      refine mx_iretK rfl dX8_refuse_6 ?_
      exact mx_iret rfl dX8_warm_156 H
    · have H := H.2 c3
      refine mx_lload_n dX8_isIn_6 rfl rfl ?_
      refine mx_lload dX8_isIn_7 rfl ?_
      refine mx_lif_gt (tgt := 17) dX8_isIn_9 dX8_isIn_10 rfl (fun c5 => ?_) (fun c5 => ?_)
      · have H := H.1 c5
        refine mx_iconst dX8_isIn_17 ic_0 ?_
        refine mx_zretK rfl dX8_isIn_18 (Or.inl rfl) ?_
        refine mx_if_eq (tgt := 151) dX8_warm_131 rfl (fun _ => ?_) (fun _ => absurd ‹_› (by decide))
        refine mx_aload_n dX8_warm_151 rfl rfl ?_
        refine mx_iconst dX8_warm_152 ic_5 ?_
        refine mx_callV 8 (y' := mi_X8_refuse) (vs := [iv (5 : Int32)]) (st := []) (al' := [some (rv a0), some (iv (5 : Int32))]) cl_8 V_X8_refuse (Or.inl q1999) dX8_warm_153 rfl rfl (Nat.le_of_ble_eq_true rfl) (Nat.le_of_ble_eq_true rfl) (ly8_k La0_h) ?_
        refine mx_aload_n dX8_refuse_0 rfl rfl ?_
        refine mx_iload_n dX8_refuse_1 rfl rfl ?_
        refine mx_putI 8 0 (ref := "PrairiePoolModel") cl_8 (Nat.le_of_ble_eq_true rfl) (Or.inl q1627) (Or.inl rfl) dX8_refuse_2 (Or.inl rfl) rfl (ly8_k La0_h) ?_
        refine mx_nmI  (fun h6 eh6 Xh6 Kh6 Lh6 => ?_)
        have H := H h6 eh6 Xh6
        have La0_h6 := La0_h.ext Xh6
        refine mx_iconst dX8_refuse_5 ic_m1 ?_
        refine mx_iretK rfl dX8_refuse_6 ?_
        exact mx_iret rfl dX8_warm_156 H
      · have H := H.2 c5
        refine mx_iconst dX8_isIn_13 ic_1 ?_
        refine mx_goto (tgt := 18) dX8_isIn_14 rfl ?_
        refine mx_zretK rfl dX8_isIn_18 (Or.inr rfl) ?_
        refine mx_if_eq (tgt := 151) dX8_warm_131 rfl (fun _ => absurd ‹_› (by decide)) (fun _ => ?_)
        refine mx_aload_n dX8_warm_134 rfl rfl ?_
        refine mx_iload_n dX8_warm_135 rfl rfl ?_
        refine mx_iload dX8_warm_136 rfl ?_
        refine mx_callV 8 (y' := mi_X8_numberOf) (vs := [iv x2, iv x4]) (st := []) (al' := [some (rv a0), some (iv x2), some (iv x4)]) cl_8 V_X8_numberOf (Or.inl q2432) dX8_warm_138 rfl rfl (Nat.le_of_ble_eq_true rfl) (Nat.le_of_ble_eq_true rfl) (ly8_k La0_h) ?_
        refine mx_aload_n dX8_numberOf_0 rfl rfl ?_
        refine mx_get 8 4 (ref := "PrairiePoolModel") cl_8 (Nat.le_of_ble_eq_true rfl) (Or.inl q1631) (Or.inl rfl) dX8_numberOf_1 (fv_8_4 _ _) (ly8_k La0_h) ?_
        refine mx_tr (ly8_R_0_4 La0_h) ?_
        refine mx_bipush dX8_numberOf_4 ib_40 ?_
        refine mx_iload_n dX8_numberOf_6 rfl rfl ?_
        refine mx_imul dX8_numberOf_7 ?_
        refine mx_iload_n dX8_numberOf_8 rfl rfl ?_
        refine mx_iadd dX8_numberOf_9 ?_
        obtain ⟨k7, H⟩ := H
        refine my_lald dX8_numberOf_10 rfl (ly8_A_3 La0_h k7) ?_
        refine mx_lretK rfl dX8_numberOf_11 ?_
        refine mx_lconst dX8_warm_141 lc_1 ?_
        refine mx_ldc2 q2022 dX8_warm_142 ?_
        refine mx_callS (y' := mi_X8_isIn) (vs := [jv (ah_J h (a0 + 3) (((40 : Int32) * x2) + x4).toNatClampNeg), jv (1 : Int64), jv (10000 : Int64)]) (st := []) (al' := [some (jv (ah_J h (a0 + 3) (((40 : Int32) * x2) + x4).toNatClampNeg)), none, some (jv (1 : Int64)), none, some (jv (10000 : Int64)), none]) S_X8_isIn q1996 dX8_warm_145 rfl rfl (Nat.le_of_ble_eq_true rfl) (Nat.le_of_ble_eq_true rfl) ?_
        refine mx_lload_n dX8_isIn_0 rfl rfl ?_
        refine mx_lload_n dX8_isIn_1 rfl rfl ?_
        refine mx_lif_lt (tgt := 17) dX8_isIn_2 dX8_isIn_3 rfl (fun c8 => ?_) (fun c8 => ?_)
        · have H := H.1 c8
          refine mx_iconst dX8_isIn_17 ic_0 ?_
          refine mx_zretK rfl dX8_isIn_18 (Or.inl rfl) ?_
          refine mx_if_ne (tgt := 157) dX8_warm_148 rfl (fun _ => absurd ‹_› (by decide)) (fun _ => ?_)
          refine mx_aload_n dX8_warm_151 rfl rfl ?_
          refine mx_iconst dX8_warm_152 ic_5 ?_
          refine mx_callV 8 (y' := mi_X8_refuse) (vs := [iv (5 : Int32)]) (st := []) (al' := [some (rv a0), some (iv (5 : Int32))]) cl_8 V_X8_refuse (Or.inl q1999) dX8_warm_153 rfl rfl (Nat.le_of_ble_eq_true rfl) (Nat.le_of_ble_eq_true rfl) (ly8_k La0_h) ?_
          refine mx_aload_n dX8_refuse_0 rfl rfl ?_
          refine mx_iload_n dX8_refuse_1 rfl rfl ?_
          refine mx_putI 8 0 (ref := "PrairiePoolModel") cl_8 (Nat.le_of_ble_eq_true rfl) (Or.inl q1627) (Or.inl rfl) dX8_refuse_2 (Or.inl rfl) rfl (ly8_k La0_h) ?_
          refine mx_nmI  (fun h9 eh9 Xh9 Kh9 Lh9 => ?_)
          have H := H h9 eh9 Xh9
          have La0_h9 := La0_h.ext Xh9
          refine mx_iconst dX8_refuse_5 ic_m1 ?_
          refine mx_iretK rfl dX8_refuse_6 ?_
          exact mx_iret rfl dX8_warm_156 H
        · have H := H.2 c8
          refine mx_lload_n dX8_isIn_6 rfl rfl ?_
          refine mx_lload dX8_isIn_7 rfl ?_
          refine mx_lif_gt (tgt := 17) dX8_isIn_9 dX8_isIn_10 rfl (fun c10 => ?_) (fun c10 => ?_)
          · have H := H.1 c10
            refine mx_iconst dX8_isIn_17 ic_0 ?_
            refine mx_zretK rfl dX8_isIn_18 (Or.inl rfl) ?_
            refine mx_if_ne (tgt := 157) dX8_warm_148 rfl (fun _ => absurd ‹_› (by decide)) (fun _ => ?_)
            refine mx_aload_n dX8_warm_151 rfl rfl ?_
            refine mx_iconst dX8_warm_152 ic_5 ?_
            refine mx_callV 8 (y' := mi_X8_refuse) (vs := [iv (5 : Int32)]) (st := []) (al' := [some (rv a0), some (iv (5 : Int32))]) cl_8 V_X8_refuse (Or.inl q1999) dX8_warm_153 rfl rfl (Nat.le_of_ble_eq_true rfl) (Nat.le_of_ble_eq_true rfl) (ly8_k La0_h) ?_
            refine mx_aload_n dX8_refuse_0 rfl rfl ?_
            refine mx_iload_n dX8_refuse_1 rfl rfl ?_
            refine mx_putI 8 0 (ref := "PrairiePoolModel") cl_8 (Nat.le_of_ble_eq_true rfl) (Or.inl q1627) (Or.inl rfl) dX8_refuse_2 (Or.inl rfl) rfl (ly8_k La0_h) ?_
            refine mx_nmI  (fun h11 eh11 Xh11 Kh11 Lh11 => ?_)
            have H := H h11 eh11 Xh11
            have La0_h11 := La0_h.ext Xh11
            refine mx_iconst dX8_refuse_5 ic_m1 ?_
            refine mx_iretK rfl dX8_refuse_6 ?_
            exact mx_iret rfl dX8_warm_156 H
          · have H := H.2 c10
            refine mx_iconst dX8_isIn_13 ic_1 ?_
            refine mx_goto (tgt := 18) dX8_isIn_14 rfl ?_
            refine mx_zretK rfl dX8_isIn_18 (Or.inr rfl) ?_
            refine mx_if_ne (tgt := 157) dX8_warm_148 rfl (fun _ => ?_) (fun _ => absurd ‹_› (by decide))
            refine mx_iinc (al' := [some (rv a0), some (iv x1), some (iv x2), some (iv x3), some (iv (x4 + (1 : Int32))), none, none, none]) dX8_warm_157 rfl ic_1 rfl ?_
            refine mx_goto (tgt := 111) dX8_warm_160 rfl ?_
            exact mx_weak (al' := [some (rv a0), some (iv x1), some (iv x2), some (iv x3), some (iv (x4 + (1 : Int32))), none, none, none]) ⟨rfl, ⟨rfl, ⟨rfl, ⟨rfl, ⟨rfl, trivial⟩⟩⟩⟩⟩ H
theorem v_X8_warm_166 {G : ma_G} {d : Nat} {a0 : Nat} {x1 : Int32} {x2 : Int32} {x3 : Int32} {x4 : Int32} {h : ah_T} {Q : Option ma_V → ah_T → Prop} {E : Nat → ah_T → Prop} (La0_h : LY8 h a0) (H : (x3 ≤ x4 → MX G mi_X8_warm (d + 1) 211 [some (rv a0), none, none, some (iv x3), some (iv (0 : Int32)), none, none, none] [] h Q E) ∧ (¬ x3 ≤ x4 → vp_in (((40 : Int32) * x1) + x4) 160 ∧ vp_in x4 8 ∧ ∀ h4 : ah_T, h4 = ah_wI h (a0 + 67) x4.toNatClampNeg (ah_J h (a0 + 3) (((40 : Int32) * x1) + x4).toNatClampNeg).toInt32 → ah_ext h h4 → vp_in (((40 : Int32) * x2) + x4) 160 ∧ ∀ h6 : ah_T, h6 = ah_wI h4 (a0 + 68) x4.toNatClampNeg (ah_J h (a0 + 3) (((40 : Int32) * x2) + x4).toNatClampNeg).toInt32 → ah_ext h4 h6 → MX G mi_X8_warm (d + 1) 166 [some (rv a0), some (iv x1), some (iv x2), some (iv x3), some (iv (x4 + (1 : Int32))), none, none, none] [] h6 Q E)) : MX G mi_X8_warm (d + 1) 166 [some (rv a0), some (iv x1), some (iv x2), some (iv x3), some (iv x4), none, none, none] [] h Q E := by
  refine mx_iload dX8_warm_166 rfl ?_
  refine mx_iload_n dX8_warm_168 rfl rfl ?_
  refine mx_icmp_ge (tgt := 208) dX8_warm_169 rfl (fun c1 => ?_) (fun c1 => ?_)
  · have H := H.1 c1
    refine mx_iconst dX8_warm_208 ic_0 ?_
    refine mx_istore (al' := [some (rv a0), some (iv x1), some (iv x2), some (iv x3), some (iv (0 : Int32)), none, none, none]) dX8_warm_209 (Nat.le_of_ble_eq_true rfl) rfl ?_
    exact mx_weak (al' := [some (rv a0), none, none, some (iv x3), some (iv (0 : Int32)), none, none, none]) ⟨rfl, ⟨rfl, ⟨rfl, trivial⟩⟩⟩ H
  · have H := H.2 c1
    refine mx_aload_n dX8_warm_172 rfl rfl ?_
    refine mx_get 8 96 (ref := "PrairiePoolModel") cl_8 (Nat.le_of_ble_eq_true rfl) (Or.inl q1723) (Or.inl rfl) dX8_warm_173 (fv_8_96 _ _) (ly8_k La0_h) ?_
    refine mx_tr (ly8_R_0_96 La0_h) ?_
    refine mx_iload dX8_warm_176 rfl ?_
    refine mx_aload_n dX8_warm_178 rfl rfl ?_
    refine mx_iload_n dX8_warm_179 rfl rfl ?_
    refine mx_iload dX8_warm_180 rfl ?_
    refine mx_callV 8 (y' := mi_X8_numberOf) (vs := [iv x1, iv x4]) (st := [iv x4, rv (a0 + 67)]) (al' := [some (rv a0), some (iv x1), some (iv x4)]) cl_8 V_X8_numberOf (Or.inl q2432) dX8_warm_182 rfl rfl (Nat.le_of_ble_eq_true rfl) (Nat.le_of_ble_eq_true rfl) (ly8_k La0_h) ?_
    refine mx_aload_n dX8_numberOf_0 rfl rfl ?_
    refine mx_get 8 4 (ref := "PrairiePoolModel") cl_8 (Nat.le_of_ble_eq_true rfl) (Or.inl q1631) (Or.inl rfl) dX8_numberOf_1 (fv_8_4 _ _) (ly8_k La0_h) ?_
    refine mx_tr (ly8_R_0_4 La0_h) ?_
    refine mx_bipush dX8_numberOf_4 ib_40 ?_
    refine mx_iload_n dX8_numberOf_6 rfl rfl ?_
    refine mx_imul dX8_numberOf_7 ?_
    refine mx_iload_n dX8_numberOf_8 rfl rfl ?_
    refine mx_iadd dX8_numberOf_9 ?_
    obtain ⟨k2, H⟩ := H
    refine my_lald dX8_numberOf_10 rfl (ly8_A_3 La0_h k2) ?_
    refine mx_lretK rfl dX8_numberOf_11 ?_
    refine mx_l2i dX8_warm_185 ?_
    obtain ⟨k3, H⟩ := H
    refine my_iast dX8_warm_186 rfl (ly8_A_67 La0_h k3) ?_
    refine mx_nmI  (fun h4 eh4 Xh4 Kh4 Lh4 => ?_)
    have H := H h4 eh4 Xh4
    have La0_h4 := La0_h.ext Xh4
    refine mx_aload_n dX8_warm_187 rfl rfl ?_
    refine mx_get 8 97 (ref := "PrairiePoolModel") cl_8 (Nat.le_of_ble_eq_true rfl) (Or.inl q1724) (Or.inl rfl) dX8_warm_188 (fv_8_97 _ _) (ly8_k La0_h4) ?_
    refine mx_tr (ly8_R_0_97 La0_h4) ?_
    refine mx_iload dX8_warm_191 rfl ?_
    refine mx_aload_n dX8_warm_193 rfl rfl ?_
    refine mx_iload_n dX8_warm_194 rfl rfl ?_
    refine mx_iload dX8_warm_195 rfl ?_
    refine mx_callV 8 (y' := mi_X8_numberOf) (vs := [iv x2, iv x4]) (st := [iv x4, rv (a0 + 68)]) (al' := [some (rv a0), some (iv x2), some (iv x4)]) cl_8 V_X8_numberOf (Or.inl q2432) dX8_warm_197 rfl rfl (Nat.le_of_ble_eq_true rfl) (Nat.le_of_ble_eq_true rfl) (ly8_k La0_h4) ?_
    refine mx_aload_n dX8_numberOf_0 rfl rfl ?_
    refine mx_get 8 4 (ref := "PrairiePoolModel") cl_8 (Nat.le_of_ble_eq_true rfl) (Or.inl q1631) (Or.inl rfl) dX8_numberOf_1 (fv_8_4 _ _) (ly8_k La0_h4) ?_
    refine mx_tr (ly8_R_0_4 La0_h4) ?_
    refine mx_bipush dX8_numberOf_4 ib_40 ?_
    refine mx_iload_n dX8_numberOf_6 rfl rfl ?_
    refine mx_imul dX8_numberOf_7 ?_
    refine mx_iload_n dX8_numberOf_8 rfl rfl ?_
    refine mx_iadd dX8_numberOf_9 ?_
    obtain ⟨k5, H⟩ := H
    refine my_lald dX8_numberOf_10 rfl (ly8_A_3 La0_h4 k5) ?_
    refine mx_tj (ah_JI eh4) ?_
    refine mx_lretK rfl dX8_numberOf_11 ?_
    refine mx_l2i dX8_warm_200 ?_
    refine my_iast dX8_warm_201 rfl (ly8_A_68 La0_h4 k3) ?_
    refine mx_nmI  (fun h6 eh6 Xh6 Kh6 Lh6 => ?_)
    have H := H h6 eh6 Xh6
    have Kh6 := Kh6.trans Kh4
    have Lh6 := Lh6.trans Lh4
    have La0_h6 := La0_h4.ext Xh6
    refine mx_iinc (al' := [some (rv a0), some (iv x1), some (iv x2), some (iv x3), some (iv (x4 + (1 : Int32))), none, none, none]) dX8_warm_202 rfl ic_1 rfl ?_
    refine mx_goto (tgt := 166) dX8_warm_205 rfl ?_
    exact mx_weak (al' := [some (rv a0), some (iv x1), some (iv x2), some (iv x3), some (iv (x4 + (1 : Int32))), none, none, none]) ⟨rfl, ⟨rfl, ⟨rfl, ⟨rfl, ⟨rfl, trivial⟩⟩⟩⟩⟩ H
theorem v_X8_warm_211 {G : ma_G} {d : Nat} {a0 : Nat} {x3 : Int32} {x4 : Int32} {h : ah_T} {Q : Option ma_V → ah_T → Prop} {E : Nat → ah_T → Prop} (La0_h : LY8 h a0) (H : (((1 : Int32) <<< (x3 &&& 31)) ≤ x4 → MX G mi_X8_warm (d + 1) 241 [some (rv a0), none, none, some (iv x3), some (iv (19 : Int32)), none, none, none] [] h Q E) ∧ (¬ ((1 : Int32) <<< (x3 &&& 31)) ≤ x4 → vp_in ((5120 : Int32) + x4) 5376 ∧ ∀ h3 : ah_T, h3 = ah_wI h (a0 + 70) ((5120 : Int32) + x4).toNatClampNeg (0 : Int32) → ah_ext h h3 → MX G mi_X8_warm (d + 1) 211 [some (rv a0), none, none, some (iv x3), some (iv (x4 + (1 : Int32))), none, none, none] [] h3 Q E)) : MX G mi_X8_warm (d + 1) 211 [some (rv a0), none, none, some (iv x3), some (iv x4), none, none, none] [] h Q E := by
  refine mx_iload dX8_warm_211 rfl ?_
  refine mx_iconst dX8_warm_213 ic_1 ?_
  refine mx_iload_n dX8_warm_214 rfl rfl ?_
  refine mx_ishl dX8_warm_215 ?_
  refine mx_icmp_ge (tgt := 237) dX8_warm_216 rfl (fun c1 => ?_) (fun c1 => ?_)
  · have H := H.1 c1
    refine mx_bipush dX8_warm_237 ib_19 ?_
    refine mx_istore (al' := [some (rv a0), none, none, some (iv x3), some (iv (19 : Int32)), none, none, none]) dX8_warm_239 (Nat.le_of_ble_eq_true rfl) rfl ?_
    exact mx_weak (al' := [some (rv a0), none, none, some (iv x3), some (iv (19 : Int32)), none, none, none]) ⟨rfl, ⟨rfl, ⟨rfl, trivial⟩⟩⟩ H
  · have H := H.2 c1
    refine mx_aload_n dX8_warm_219 rfl rfl ?_
    refine mx_get 8 99 (ref := "PrairiePoolModel") cl_8 (Nat.le_of_ble_eq_true rfl) (Or.inl q1726) (Or.inl rfl) dX8_warm_220 (fv_8_99 _ _) (ly8_k La0_h) ?_
    refine mx_tr (ly8_R_0_99 La0_h) ?_
    refine mx_sipush dX8_warm_223 is_5120 ?_
    refine mx_iload dX8_warm_226 rfl ?_
    refine mx_iadd dX8_warm_228 ?_
    refine mx_iconst dX8_warm_229 ic_0 ?_
    obtain ⟨k2, H⟩ := H
    refine my_iast dX8_warm_230 rfl (ly8_A_70 La0_h k2) ?_
    refine mx_nmI  (fun h3 eh3 Xh3 Kh3 Lh3 => ?_)
    have H := H h3 eh3 Xh3
    have La0_h3 := La0_h.ext Xh3
    refine mx_iinc (al' := [some (rv a0), none, none, some (iv x3), some (iv (x4 + (1 : Int32))), none, none, none]) dX8_warm_231 rfl ic_1 rfl ?_
    refine mx_goto (tgt := 211) dX8_warm_234 rfl ?_
    exact mx_weak (al' := [some (rv a0), none, none, some (iv x3), some (iv (x4 + (1 : Int32))), none, none, none]) ⟨rfl, ⟨rfl, ⟨rfl, trivial⟩⟩⟩ H
theorem v_X8_warm_241 {G : ma_G} {d : Nat} {a0 : Nat} {x3 : Int32} {x4 : Int32} {h : ah_T} {Q : Option ma_V → ah_T → Prop} {E : Nat → ah_T → Prop} (La0_h : LY8 h a0) (H : (x4 < 0 → MX G mi_X8_warm (d + 1) 377 [some (rv a0), none, none, some (iv x3), some (iv (0 : Int32)), some (iv (0 : Int32)), none, none] [] h Q E) ∧ (¬ x4 < 0 → MX G mi_X8_warm (d + 1) 249 [some (rv a0), none, none, some (iv x3), some (iv x4), some (iv (0 : Int32)), none, none] [] h Q E)) : MX G mi_X8_warm (d + 1) 241 [some (rv a0), none, none, some (iv x3), some (iv x4), none, none, none] [] h Q E := by
  refine mx_iload dX8_warm_241 rfl ?_
  refine mx_if_lt (tgt := 371) dX8_warm_243 rfl (fun c1 => ?_) (fun c1 => ?_)
  · have H := H.1 c1
    refine mx_iconst dX8_warm_371 ic_0 ?_
    refine mx_istore (al' := [some (rv a0), none, none, some (iv x3), some (iv (0 : Int32)), none, none, none]) dX8_warm_372 (Nat.le_of_ble_eq_true rfl) rfl ?_
    refine mx_iconst dX8_warm_374 ic_0 ?_
    refine mx_istore (al' := [some (rv a0), none, none, some (iv x3), some (iv (0 : Int32)), some (iv (0 : Int32)), none, none]) dX8_warm_375 (Nat.le_of_ble_eq_true rfl) rfl ?_
    exact mx_weak (al' := [some (rv a0), none, none, some (iv x3), some (iv (0 : Int32)), some (iv (0 : Int32)), none, none]) ⟨rfl, ⟨rfl, ⟨rfl, ⟨rfl, trivial⟩⟩⟩⟩ H
  · have H := H.2 c1
    refine mx_iconst dX8_warm_246 ic_0 ?_
    refine mx_istore (al' := [some (rv a0), none, none, some (iv x3), some (iv x4), some (iv (0 : Int32)), none, none]) dX8_warm_247 (Nat.le_of_ble_eq_true rfl) rfl ?_
    exact mx_weak (al' := [some (rv a0), none, none, some (iv x3), some (iv x4), some (iv (0 : Int32)), none, none]) ⟨rfl, ⟨rfl, ⟨rfl, ⟨rfl, trivial⟩⟩⟩⟩ H
theorem v_X8_warm_377 {G : ma_G} {d : Nat} {a0 : Nat} {x3 : Int32} {x4 : Int32} {x5 : Int32} {h : ah_T} {Q : Option ma_V → ah_T → Prop} {E : Nat → ah_T → Prop} (La0_h : LY8 h a0) (H : ((20 : Int32) ≤ x5 → ∀ h2 : ah_T, h2 = ah_wI h a0 107 (1 : Int32) → ah_ext h h2 → Q (some (iv (ah_I h (a0 + 70) 0))) h2) ∧ (¬ (20 : Int32) ≤ x5 → MX G mi_X8_warm (d + 1) 387 [some (rv a0), none, none, some (iv x3), some (iv x4), some (iv x5), some (iv (0 : Int32)), none] [] h Q E)) : MX G mi_X8_warm (d + 1) 377 [some (rv a0), none, none, some (iv x3), some (iv x4), some (iv x5), none, none] [] h Q E := by
  refine mx_iload dX8_warm_377 rfl ?_
  refine mx_bipush dX8_warm_379 ib_20 ?_
  refine mx_icmp_ge (tgt := 504) dX8_warm_381 rfl (fun c1 => ?_) (fun c1 => ?_)
  · have H := H.1 c1
    refine mx_aload_n dX8_warm_504 rfl rfl ?_
    refine mx_iconst dX8_warm_505 ic_1 ?_
    refine mx_putZ 8 107 (ref := "PrairiePoolModel") cl_8 (Nat.le_of_ble_eq_true rfl) (Or.inl q1734) (Or.inl rfl) dX8_warm_506 (Or.inl rfl) rfl (Or.inr rfl) (ly8_k La0_h) ?_
    refine mx_nmI  (fun h2 eh2 Xh2 Kh2 Lh2 => ?_)
    have H := H h2 eh2 Xh2
    have La0_h2 := La0_h.ext Xh2
    refine mx_aload_n dX8_warm_509 rfl rfl ?_
    refine mx_get 8 99 (ref := "PrairiePoolModel") cl_8 (Nat.le_of_ble_eq_true rfl) (Or.inl q1726) (Or.inl rfl) dX8_warm_510 (fv_8_99 _ _) (ly8_k La0_h2) ?_
    refine mx_tr (ly8_R_0_99 La0_h2) ?_
    refine mx_iconst dX8_warm_513 ic_0 ?_
    refine my_iald dX8_warm_514 cn_0 (ly8_A_70 La0_h2 (vp_c (by decide))) ?_
    refine mx_ti (ah_skIK eh2 (by decide)) ?_
    exact mx_iret rfl dX8_warm_515 H
  · have H := H.2 c1
    refine mx_iconst dX8_warm_384 ic_0 ?_
    refine mx_istore (al' := [some (rv a0), none, none, some (iv x3), some (iv x4), some (iv x5), some (iv (0 : Int32)), none]) dX8_warm_385 (Nat.le_of_ble_eq_true rfl) rfl ?_
    exact mx_weak (al' := [some (rv a0), none, none, some (iv x3), some (iv x4), some (iv x5), some (iv (0 : Int32)), none]) ⟨rfl, ⟨rfl, ⟨rfl, ⟨rfl, ⟨rfl, trivial⟩⟩⟩⟩⟩ H
theorem v_X8_warm_249 {G : ma_G} {d : Nat} {a0 : Nat} {x3 : Int32} {x4 : Int32} {x5 : Int32} {h : ah_T} {Q : Option ma_V → ah_T → Prop} {E : Nat → ah_T → Prop} (La0_h : LY8 h a0) (H : (((1 : Int32) <<< (x3 &&& 31)) ≤ x5 → MX G mi_X8_warm (d + 1) 241 [some (rv a0), none, none, some (iv x3), some (iv (x4 + (-1 : Int32))), none, none, none] [] h Q E) ∧ (¬ ((1 : Int32) <<< (x3 &&& 31)) ≤ x5 → vp_in ((((256 : Int32) * x4) + (256 : Int32)) + x5) 5376 ∧ MX G mi_X8_warm (d + 1) 280 [some (rv a0), none, none, some (iv x3), some (iv x4), some (iv x5), some (iv (ah_I h (a0 + 70) ((((256 : Int32) * x4) + (256 : Int32)) + x5).toNatClampNeg)), some (iv (0 : Int32))] [] h Q E)) : MX G mi_X8_warm (d + 1) 249 [some (rv a0), none, none, some (iv x3), some (iv x4), some (iv x5), none, none] [] h Q E := by
  refine mx_iload dX8_warm_249 rfl ?_
  refine mx_iconst dX8_warm_251 ic_1 ?_
  refine mx_iload_n dX8_warm_252 rfl rfl ?_
  refine mx_ishl dX8_warm_253 ?_
  refine mx_icmp_ge (tgt := 365) dX8_warm_254 rfl (fun c1 => ?_) (fun c1 => ?_)
  · have H := H.1 c1
    refine mx_iinc (al' := [some (rv a0), none, none, some (iv x3), some (iv (x4 + (-1 : Int32))), some (iv x5), none, none]) dX8_warm_365 rfl ic_m1 rfl ?_
    refine mx_goto (tgt := 241) dX8_warm_368 rfl ?_
    exact mx_weak (al' := [some (rv a0), none, none, some (iv x3), some (iv (x4 + (-1 : Int32))), none, none, none]) ⟨rfl, ⟨rfl, ⟨rfl, trivial⟩⟩⟩ H
  · have H := H.2 c1
    refine mx_aload_n dX8_warm_257 rfl rfl ?_
    refine mx_get 8 99 (ref := "PrairiePoolModel") cl_8 (Nat.le_of_ble_eq_true rfl) (Or.inl q1726) (Or.inl rfl) dX8_warm_258 (fv_8_99 _ _) (ly8_k La0_h) ?_
    refine mx_tr (ly8_R_0_99 La0_h) ?_
    refine mx_sipush dX8_warm_261 is_256 ?_
    refine mx_iload dX8_warm_264 rfl ?_
    refine mx_imul dX8_warm_266 ?_
    refine mx_sipush dX8_warm_267 is_256 ?_
    refine mx_iadd dX8_warm_270 ?_
    refine mx_iload dX8_warm_271 rfl ?_
    refine mx_iadd dX8_warm_273 ?_
    obtain ⟨k2, H⟩ := H
    refine my_iald dX8_warm_274 rfl (ly8_A_70 La0_h k2) ?_
    refine mx_istore (al' := [some (rv a0), none, none, some (iv x3), some (iv x4), some (iv x5), some (iv (ah_I h (a0 + 70) ((((256 : Int32) * x4) + (256 : Int32)) + x5).toNatClampNeg)), none]) dX8_warm_275 (Nat.le_of_ble_eq_true rfl) rfl ?_
    refine mx_iconst dX8_warm_277 ic_0 ?_
    refine mx_istore (al' := [some (rv a0), none, none, some (iv x3), some (iv x4), some (iv x5), some (iv (ah_I h (a0 + 70) ((((256 : Int32) * x4) + (256 : Int32)) + x5).toNatClampNeg)), some (iv (0 : Int32))]) dX8_warm_278 (Nat.le_of_ble_eq_true rfl) rfl ?_
    exact mx_weak (al' := [some (rv a0), none, none, some (iv x3), some (iv x4), some (iv x5), some (iv (ah_I h (a0 + 70) ((((256 : Int32) * x4) + (256 : Int32)) + x5).toNatClampNeg)), some (iv (0 : Int32))]) ⟨rfl, ⟨rfl, ⟨rfl, ⟨rfl, ⟨rfl, ⟨rfl, trivial⟩⟩⟩⟩⟩⟩ H
theorem v_X8_warm_387 {G : ma_G} {d : Nat} {a0 : Nat} {x3 : Int32} {x4 : Int32} {x5 : Int32} {x6 : Int32} {h : ah_T} {Q : Option ma_V → ah_T → Prop} {E : Nat → ah_T → Prop} (La0_h : LY8 h a0) (H : (x3 ≤ x6 → MX G mi_X8_warm (d + 1) 478 [some (rv a0), none, none, some (iv x3), some (iv x4), some (iv x5), some (iv x6), none] [iv (-1 : Int32), iv x5, rv (a0 + 69)] h Q E) ∧ (¬ x3 ≤ x6 → (¬ ((x4 >>> (x6 &&& 31)) &&& (1 : Int32)) = 0 → MX G mi_X8_warm (d + 1) 387 [some (rv a0), none, none, some (iv x3), some (iv x4), some (iv x5), some (iv (x6 + (1 : Int32))), none] [] h Q E) ∧ (((x4 >>> (x6 &&& 31)) &&& (1 : Int32)) = 0 → vp_in x6 8 ∧ ((ah_I h (a0 + 67) x6.toNatClampNeg) ≤ x5 → MX G mi_X8_warm (d + 1) 387 [some (rv a0), none, none, some (iv x3), some (iv x4), some (iv x5), some (iv (x6 + (1 : Int32))), none] [] h Q E) ∧ (¬ (ah_I h (a0 + 67) x6.toNatClampNeg) ≤ x5 → vp_in ((((256 : Int32) * x5) + (256 : Int32)) + (x4 ||| ((1 : Int32) <<< (x6 &&& 31)))) 5376 ∧ vp_in (((256 : Int32) * x5) + x4) 5376 ∧ (((ah_I h (a0 + 68) x6.toNatClampNeg) + (ah_I h (a0 + 70) ((((256 : Int32) * x5) + (256 : Int32)) + (x4 ||| ((1 : Int32) <<< (x6 &&& 31)))).toNatClampNeg)) = (ah_I h (a0 + 70) (((256 : Int32) * x5) + x4).toNatClampNeg) → MX G mi_X8_warm (d + 1) 478 [some (rv a0), none, none, some (iv x3), some (iv x4), some (iv x5), some (iv x6), none] [iv x6, iv x5, rv (a0 + 69)] h Q E) ∧ (¬ ((ah_I h (a0 + 68) x6.toNatClampNeg) + (ah_I h (a0 + 70) ((((256 : Int32) * x5) + (256 : Int32)) + (x4 ||| ((1 : Int32) <<< (x6 &&& 31)))).toNatClampNeg)) = (ah_I h (a0 + 70) (((256 : Int32) * x5) + x4).toNatClampNeg) → MX G mi_X8_warm (d + 1) 387 [some (rv a0), none, none, some (iv x3), some (iv x4), some (iv x5), some (iv (x6 + (1 : Int32))), none] [] h Q E))))) : MX G mi_X8_warm (d + 1) 387 [some (rv a0), none, none, some (iv x3), some (iv x4), some (iv x5), some (iv x6), none] [] h Q E := by
  refine mx_iload dX8_warm_387 rfl ?_
  refine mx_iload_n dX8_warm_389 rfl rfl ?_
  refine mx_icmp_ge (tgt := 460) dX8_warm_390 rfl (fun c1 => ?_) (fun c1 => ?_)
  · have H := H.1 c1
    refine mx_aload_n dX8_warm_460 rfl rfl ?_
    refine mx_get 8 98 (ref := "PrairiePoolModel") cl_8 (Nat.le_of_ble_eq_true rfl) (Or.inl q1725) (Or.inl rfl) dX8_warm_461 (fv_8_98 _ _) (ly8_k La0_h) ?_
    refine mx_tr (ly8_R_0_98 La0_h) ?_
    refine mx_iload dX8_warm_464 rfl ?_
    refine mx_iload dX8_warm_466 rfl ?_
    refine mx_iload_n dX8_warm_468 rfl rfl ?_
    refine mx_icmp_ge (tgt := 477) dX8_warm_469 rfl (fun _ => ?_) (fun q_ => absurd c1 q_)
    refine mx_iconst dX8_warm_477 ic_m1 ?_
    exact mx_weak (al' := [some (rv a0), none, none, some (iv x3), some (iv x4), some (iv x5), some (iv x6), none]) ⟨rfl, ⟨rfl, ⟨rfl, ⟨rfl, ⟨rfl, trivial⟩⟩⟩⟩⟩ H
  · have H := H.2 c1
    refine mx_aload_n dX8_warm_393 rfl rfl ?_
    refine mx_iload dX8_warm_394 rfl ?_
    refine mx_iload dX8_warm_396 rfl ?_
    refine mx_iload dX8_warm_398 rfl ?_
    refine mx_callV 8 (y' := mi_X8_canTurn) (vs := [iv x6, iv x5, iv x4]) (st := []) (al' := [some (rv a0), some (iv x6), some (iv x5), some (iv x4)]) cl_8 V_X8_canTurn (Or.inl q2436) dX8_warm_400 rfl rfl (Nat.le_of_ble_eq_true rfl) (Nat.le_of_ble_eq_true rfl) (ly8_k La0_h) ?_
    refine mx_iload_n dX8_canTurn_0 rfl rfl ?_
    refine mx_iload_n dX8_canTurn_1 rfl rfl ?_
    refine mx_ishr dX8_canTurn_2 ?_
    refine mx_iconst dX8_canTurn_3 ic_1 ?_
    refine mx_iand dX8_canTurn_4 ?_
    refine mx_if_ne (tgt := 22) dX8_canTurn_5 rfl (fun c2 => ?_) (fun c2 => ?_)
    · have H := H.1 c2
      refine mx_iconst dX8_canTurn_22 ic_0 ?_
      refine mx_zretK rfl dX8_canTurn_23 (Or.inl rfl) ?_
      refine mx_if_eq (tgt := 454) dX8_warm_403 rfl (fun _ => ?_) (fun _ => absurd ‹_› (by decide))
      refine mx_iinc (al' := [some (rv a0), none, none, some (iv x3), some (iv x4), some (iv x5), some (iv (x6 + (1 : Int32))), none]) dX8_warm_454 rfl ic_1 rfl ?_
      refine mx_goto (tgt := 387) dX8_warm_457 rfl ?_
      exact mx_weak (al' := [some (rv a0), none, none, some (iv x3), some (iv x4), some (iv x5), some (iv (x6 + (1 : Int32))), none]) ⟨rfl, ⟨rfl, ⟨rfl, ⟨rfl, ⟨rfl, trivial⟩⟩⟩⟩⟩ H
    · have H := H.2 c2
      refine mx_iload_n dX8_canTurn_8 rfl rfl ?_
      refine mx_aload_n dX8_canTurn_9 rfl rfl ?_
      refine mx_get 8 96 (ref := "PrairiePoolModel") cl_8 (Nat.le_of_ble_eq_true rfl) (Or.inl q1723) (Or.inl rfl) dX8_canTurn_10 (fv_8_96 _ _) (ly8_k La0_h) ?_
      refine mx_tr (ly8_R_0_96 La0_h) ?_
      refine mx_iload_n dX8_canTurn_13 rfl rfl ?_
      obtain ⟨k3, H⟩ := H
      refine my_iald dX8_canTurn_14 rfl (ly8_A_67 La0_h k3) ?_
      refine mx_icmp_ge (tgt := 22) dX8_canTurn_15 rfl (fun c4 => ?_) (fun c4 => ?_)
      · have H := H.1 c4
        refine mx_iconst dX8_canTurn_22 ic_0 ?_
        refine mx_zretK rfl dX8_canTurn_23 (Or.inl rfl) ?_
        refine mx_if_eq (tgt := 454) dX8_warm_403 rfl (fun _ => ?_) (fun _ => absurd ‹_› (by decide))
        refine mx_iinc (al' := [some (rv a0), none, none, some (iv x3), some (iv x4), some (iv x5), some (iv (x6 + (1 : Int32))), none]) dX8_warm_454 rfl ic_1 rfl ?_
        refine mx_goto (tgt := 387) dX8_warm_457 rfl ?_
        exact mx_weak (al' := [some (rv a0), none, none, some (iv x3), some (iv x4), some (iv x5), some (iv (x6 + (1 : Int32))), none]) ⟨rfl, ⟨rfl, ⟨rfl, ⟨rfl, ⟨rfl, trivial⟩⟩⟩⟩⟩ H
      · have H := H.2 c4
        refine mx_iconst dX8_canTurn_18 ic_1 ?_
        refine mx_goto (tgt := 23) dX8_canTurn_19 rfl ?_
        refine mx_zretK rfl dX8_canTurn_23 (Or.inr rfl) ?_
        refine mx_if_eq (tgt := 454) dX8_warm_403 rfl (fun _ => absurd ‹_› (by decide)) (fun _ => ?_)
        refine mx_aload_n dX8_warm_406 rfl rfl ?_
        refine mx_get 8 97 (ref := "PrairiePoolModel") cl_8 (Nat.le_of_ble_eq_true rfl) (Or.inl q1724) (Or.inl rfl) dX8_warm_407 (fv_8_97 _ _) (ly8_k La0_h) ?_
        refine mx_tr (ly8_R_0_97 La0_h) ?_
        refine mx_iload dX8_warm_410 rfl ?_
        refine my_iald dX8_warm_412 rfl (ly8_A_68 La0_h k3) ?_
        refine mx_aload_n dX8_warm_413 rfl rfl ?_
        refine mx_get 8 99 (ref := "PrairiePoolModel") cl_8 (Nat.le_of_ble_eq_true rfl) (Or.inl q1726) (Or.inl rfl) dX8_warm_414 (fv_8_99 _ _) (ly8_k La0_h) ?_
        refine mx_tr (ly8_R_0_99 La0_h) ?_
        refine mx_sipush dX8_warm_417 is_256 ?_
        refine mx_iload dX8_warm_420 rfl ?_
        refine mx_imul dX8_warm_422 ?_
        refine mx_sipush dX8_warm_423 is_256 ?_
        refine mx_iadd dX8_warm_426 ?_
        refine mx_iload dX8_warm_427 rfl ?_
        refine mx_iconst dX8_warm_429 ic_1 ?_
        refine mx_iload dX8_warm_430 rfl ?_
        refine mx_ishl dX8_warm_432 ?_
        refine mx_ior dX8_warm_433 ?_
        refine mx_iadd dX8_warm_434 ?_
        obtain ⟨k5, H⟩ := H
        refine my_iald dX8_warm_435 rfl (ly8_A_70 La0_h k5) ?_
        refine mx_iadd dX8_warm_436 ?_
        refine mx_aload_n dX8_warm_437 rfl rfl ?_
        refine mx_get 8 99 (ref := "PrairiePoolModel") cl_8 (Nat.le_of_ble_eq_true rfl) (Or.inl q1726) (Or.inl rfl) dX8_warm_438 (fv_8_99 _ _) (ly8_k La0_h) ?_
        refine mx_tr (ly8_R_0_99 La0_h) ?_
        refine mx_sipush dX8_warm_441 is_256 ?_
        refine mx_iload dX8_warm_444 rfl ?_
        refine mx_imul dX8_warm_446 ?_
        refine mx_iload dX8_warm_447 rfl ?_
        refine mx_iadd dX8_warm_449 ?_
        obtain ⟨k6, H⟩ := H
        refine my_iald dX8_warm_450 rfl (ly8_A_70 La0_h k6) ?_
        refine mx_icmp_eq (tgt := 460) dX8_warm_451 rfl (fun c7 => ?_) (fun c7 => ?_)
        · have H := H.1 c7
          refine mx_aload_n dX8_warm_460 rfl rfl ?_
          refine mx_get 8 98 (ref := "PrairiePoolModel") cl_8 (Nat.le_of_ble_eq_true rfl) (Or.inl q1725) (Or.inl rfl) dX8_warm_461 (fv_8_98 _ _) (ly8_k La0_h) ?_
          refine mx_tr (ly8_R_0_98 La0_h) ?_
          refine mx_iload dX8_warm_464 rfl ?_
          refine mx_iload dX8_warm_466 rfl ?_
          refine mx_iload_n dX8_warm_468 rfl rfl ?_
          refine mx_icmp_ge (tgt := 477) dX8_warm_469 rfl (fun q_ => absurd q_ c1) (fun _ => ?_)
          refine mx_iload dX8_warm_472 rfl ?_
          refine mx_goto (tgt := 478) dX8_warm_474 rfl ?_
          exact mx_weak (al' := [some (rv a0), none, none, some (iv x3), some (iv x4), some (iv x5), some (iv x6), none]) ⟨rfl, ⟨rfl, ⟨rfl, ⟨rfl, ⟨rfl, trivial⟩⟩⟩⟩⟩ H
        · have H := H.2 c7
          refine mx_iinc (al' := [some (rv a0), none, none, some (iv x3), some (iv x4), some (iv x5), some (iv (x6 + (1 : Int32))), none]) dX8_warm_454 rfl ic_1 rfl ?_
          refine mx_goto (tgt := 387) dX8_warm_457 rfl ?_
          exact mx_weak (al' := [some (rv a0), none, none, some (iv x3), some (iv x4), some (iv x5), some (iv (x6 + (1 : Int32))), none]) ⟨rfl, ⟨rfl, ⟨rfl, ⟨rfl, ⟨rfl, trivial⟩⟩⟩⟩⟩ H
theorem v_X8_warm_280 {G : ma_G} {d : Nat} {a0 : Nat} {x3 : Int32} {x4 : Int32} {x5 : Int32} {x6 : Int32} {x7 : Int32} {h : ah_T} {Q : Option ma_V → ah_T → Prop} {E : Nat → ah_T → Prop} (La0_h : LY8 h a0) (H : (x3 ≤ x7 → vp_in (((256 : Int32) * x4) + x5) 5376 ∧ ∀ h3 : ah_T, h3 = ah_wI h (a0 + 70) (((256 : Int32) * x4) + x5).toNatClampNeg x6 → ah_ext h h3 → MX G mi_X8_warm (d + 1) 249 [some (rv a0), none, none, some (iv x3), some (iv x4), some (iv (x5 + (1 : Int32))), none, none] [] h3 Q E) ∧ (¬ x3 ≤ x7 → (¬ ((x5 >>> (x7 &&& 31)) &&& (1 : Int32)) = 0 → MX G mi_X8_warm (d + 1) 280 [some (rv a0), none, none, some (iv x3), some (iv x4), some (iv x5), some (iv x6), some (iv (x7 + (1 : Int32)))] [] h Q E) ∧ (((x5 >>> (x7 &&& 31)) &&& (1 : Int32)) = 0 → vp_in x7 8 ∧ ((ah_I h (a0 + 67) x7.toNatClampNeg) ≤ x4 → MX G mi_X8_warm (d + 1) 280 [some (rv a0), none, none, some (iv x3), some (iv x4), some (iv x5), some (iv x6), some (iv (x7 + (1 : Int32)))] [] h Q E) ∧ (¬ (ah_I h (a0 + 67) x7.toNatClampNeg) ≤ x4 → vp_in ((((256 : Int32) * x4) + (256 : Int32)) + (x5 ||| ((1 : Int32) <<< (x7 &&& 31)))) 5376 ∧ MX G mi_X8_warm (d + 1) 280 [some (rv a0), none, none, some (iv x3), some (iv x4), some (iv x5), some (iv (iMax x6 ((ah_I h (a0 + 68) x7.toNatClampNeg) + (ah_I h (a0 + 70) ((((256 : Int32) * x4) + (256 : Int32)) + (x5 ||| ((1 : Int32) <<< (x7 &&& 31)))).toNatClampNeg)))), some (iv (x7 + (1 : Int32)))] [] h Q E)))) : MX G mi_X8_warm (d + 1) 280 [some (rv a0), none, none, some (iv x3), some (iv x4), some (iv x5), some (iv x6), some (iv x7)] [] h Q E := by
  refine mx_iload dX8_warm_280 rfl ?_
  refine mx_iload_n dX8_warm_282 rfl rfl ?_
  refine mx_icmp_ge (tgt := 343) dX8_warm_283 rfl (fun c1 => ?_) (fun c1 => ?_)
  · have H := H.1 c1
    refine mx_aload_n dX8_warm_343 rfl rfl ?_
    refine mx_get 8 99 (ref := "PrairiePoolModel") cl_8 (Nat.le_of_ble_eq_true rfl) (Or.inl q1726) (Or.inl rfl) dX8_warm_344 (fv_8_99 _ _) (ly8_k La0_h) ?_
    refine mx_tr (ly8_R_0_99 La0_h) ?_
    refine mx_sipush dX8_warm_347 is_256 ?_
    refine mx_iload dX8_warm_350 rfl ?_
    refine mx_imul dX8_warm_352 ?_
    refine mx_iload dX8_warm_353 rfl ?_
    refine mx_iadd dX8_warm_355 ?_
    refine mx_iload dX8_warm_356 rfl ?_
    obtain ⟨k2, H⟩ := H
    refine my_iast dX8_warm_358 rfl (ly8_A_70 La0_h k2) ?_
    refine mx_nmI  (fun h3 eh3 Xh3 Kh3 Lh3 => ?_)
    have H := H h3 eh3 Xh3
    have La0_h3 := La0_h.ext Xh3
    refine mx_iinc (al' := [some (rv a0), none, none, some (iv x3), some (iv x4), some (iv (x5 + (1 : Int32))), some (iv x6), some (iv x7)]) dX8_warm_359 rfl ic_1 rfl ?_
    refine mx_goto (tgt := 249) dX8_warm_362 rfl ?_
    exact mx_weak (al' := [some (rv a0), none, none, some (iv x3), some (iv x4), some (iv (x5 + (1 : Int32))), none, none]) ⟨rfl, ⟨rfl, ⟨rfl, ⟨rfl, trivial⟩⟩⟩⟩ H
  · have H := H.2 c1
    refine mx_aload_n dX8_warm_286 rfl rfl ?_
    refine mx_iload dX8_warm_287 rfl ?_
    refine mx_iload dX8_warm_289 rfl ?_
    refine mx_iload dX8_warm_291 rfl ?_
    refine mx_callV 8 (y' := mi_X8_canTurn) (vs := [iv x7, iv x4, iv x5]) (st := []) (al' := [some (rv a0), some (iv x7), some (iv x4), some (iv x5)]) cl_8 V_X8_canTurn (Or.inl q2436) dX8_warm_293 rfl rfl (Nat.le_of_ble_eq_true rfl) (Nat.le_of_ble_eq_true rfl) (ly8_k La0_h) ?_
    refine mx_iload_n dX8_canTurn_0 rfl rfl ?_
    refine mx_iload_n dX8_canTurn_1 rfl rfl ?_
    refine mx_ishr dX8_canTurn_2 ?_
    refine mx_iconst dX8_canTurn_3 ic_1 ?_
    refine mx_iand dX8_canTurn_4 ?_
    refine mx_if_ne (tgt := 22) dX8_canTurn_5 rfl (fun c4 => ?_) (fun c4 => ?_)
    · have H := H.1 c4
      refine mx_iconst dX8_canTurn_22 ic_0 ?_
      refine mx_zretK rfl dX8_canTurn_23 (Or.inl rfl) ?_
      refine mx_if_eq (tgt := 337) dX8_warm_296 rfl (fun _ => ?_) (fun _ => absurd ‹_› (by decide))
      refine mx_iinc (al' := [some (rv a0), none, none, some (iv x3), some (iv x4), some (iv x5), some (iv x6), some (iv (x7 + (1 : Int32)))]) dX8_warm_337 rfl ic_1 rfl ?_
      refine mx_goto (tgt := 280) dX8_warm_340 rfl ?_
      exact mx_weak (al' := [some (rv a0), none, none, some (iv x3), some (iv x4), some (iv x5), some (iv x6), some (iv (x7 + (1 : Int32)))]) ⟨rfl, ⟨rfl, ⟨rfl, ⟨rfl, ⟨rfl, ⟨rfl, trivial⟩⟩⟩⟩⟩⟩ H
    · have H := H.2 c4
      refine mx_iload_n dX8_canTurn_8 rfl rfl ?_
      refine mx_aload_n dX8_canTurn_9 rfl rfl ?_
      refine mx_get 8 96 (ref := "PrairiePoolModel") cl_8 (Nat.le_of_ble_eq_true rfl) (Or.inl q1723) (Or.inl rfl) dX8_canTurn_10 (fv_8_96 _ _) (ly8_k La0_h) ?_
      refine mx_tr (ly8_R_0_96 La0_h) ?_
      refine mx_iload_n dX8_canTurn_13 rfl rfl ?_
      obtain ⟨k5, H⟩ := H
      refine my_iald dX8_canTurn_14 rfl (ly8_A_67 La0_h k5) ?_
      refine mx_icmp_ge (tgt := 22) dX8_canTurn_15 rfl (fun c6 => ?_) (fun c6 => ?_)
      · have H := H.1 c6
        refine mx_iconst dX8_canTurn_22 ic_0 ?_
        refine mx_zretK rfl dX8_canTurn_23 (Or.inl rfl) ?_
        refine mx_if_eq (tgt := 337) dX8_warm_296 rfl (fun _ => ?_) (fun _ => absurd ‹_› (by decide))
        refine mx_iinc (al' := [some (rv a0), none, none, some (iv x3), some (iv x4), some (iv x5), some (iv x6), some (iv (x7 + (1 : Int32)))]) dX8_warm_337 rfl ic_1 rfl ?_
        refine mx_goto (tgt := 280) dX8_warm_340 rfl ?_
        exact mx_weak (al' := [some (rv a0), none, none, some (iv x3), some (iv x4), some (iv x5), some (iv x6), some (iv (x7 + (1 : Int32)))]) ⟨rfl, ⟨rfl, ⟨rfl, ⟨rfl, ⟨rfl, ⟨rfl, trivial⟩⟩⟩⟩⟩⟩ H
      · have H := H.2 c6
        refine mx_iconst dX8_canTurn_18 ic_1 ?_
        refine mx_goto (tgt := 23) dX8_canTurn_19 rfl ?_
        refine mx_zretK rfl dX8_canTurn_23 (Or.inr rfl) ?_
        refine mx_if_eq (tgt := 337) dX8_warm_296 rfl (fun _ => absurd ‹_› (by decide)) (fun _ => ?_)
        refine mx_iload dX8_warm_299 rfl ?_
        refine mx_aload_n dX8_warm_301 rfl rfl ?_
        refine mx_get 8 97 (ref := "PrairiePoolModel") cl_8 (Nat.le_of_ble_eq_true rfl) (Or.inl q1724) (Or.inl rfl) dX8_warm_302 (fv_8_97 _ _) (ly8_k La0_h) ?_
        refine mx_tr (ly8_R_0_97 La0_h) ?_
        refine mx_iload dX8_warm_305 rfl ?_
        refine my_iald dX8_warm_307 rfl (ly8_A_68 La0_h k5) ?_
        refine mx_aload_n dX8_warm_308 rfl rfl ?_
        refine mx_get 8 99 (ref := "PrairiePoolModel") cl_8 (Nat.le_of_ble_eq_true rfl) (Or.inl q1726) (Or.inl rfl) dX8_warm_309 (fv_8_99 _ _) (ly8_k La0_h) ?_
        refine mx_tr (ly8_R_0_99 La0_h) ?_
        refine mx_sipush dX8_warm_312 is_256 ?_
        refine mx_iload dX8_warm_315 rfl ?_
        refine mx_imul dX8_warm_317 ?_
        refine mx_sipush dX8_warm_318 is_256 ?_
        refine mx_iadd dX8_warm_321 ?_
        refine mx_iload dX8_warm_322 rfl ?_
        refine mx_iconst dX8_warm_324 ic_1 ?_
        refine mx_iload dX8_warm_325 rfl ?_
        refine mx_ishl dX8_warm_327 ?_
        refine mx_ior dX8_warm_328 ?_
        refine mx_iadd dX8_warm_329 ?_
        obtain ⟨k7, H⟩ := H
        refine my_iald dX8_warm_330 rfl (ly8_A_70 La0_h k7) ?_
        refine mx_iadd dX8_warm_331 ?_
        refine mx_callS (y' := mi_J8_max_2) (vs := [iv x6, iv ((ah_I h (a0 + 68) x7.toNatClampNeg) + (ah_I h (a0 + 70) ((((256 : Int32) * x4) + (256 : Int32)) + (x5 ||| ((1 : Int32) <<< (x7 &&& 31)))).toNatClampNeg))]) (st := []) (al' := [some (iv x6), some (iv ((ah_I h (a0 + 68) x7.toNatClampNeg) + (ah_I h (a0 + 70) ((((256 : Int32) * x4) + (256 : Int32)) + (x5 ||| ((1 : Int32) <<< (x7 &&& 31)))).toNatClampNeg)))]) S_J8_max_2 q2134 dX8_warm_332 rfl rfl (Nat.le_of_ble_eq_true rfl) (Nat.le_of_ble_eq_true rfl) ?_
        refine pv_J8_max_2 ?_
        refine mx_istore (al' := [some (rv a0), none, none, some (iv x3), some (iv x4), some (iv x5), some (iv (iMax x6 ((ah_I h (a0 + 68) x7.toNatClampNeg) + (ah_I h (a0 + 70) ((((256 : Int32) * x4) + (256 : Int32)) + (x5 ||| ((1 : Int32) <<< (x7 &&& 31)))).toNatClampNeg)))), some (iv x7)]) dX8_warm_335 (Nat.le_of_ble_eq_true rfl) rfl ?_
        refine mx_iinc (al' := [some (rv a0), none, none, some (iv x3), some (iv x4), some (iv x5), some (iv (iMax x6 ((ah_I h (a0 + 68) x7.toNatClampNeg) + (ah_I h (a0 + 70) ((((256 : Int32) * x4) + (256 : Int32)) + (x5 ||| ((1 : Int32) <<< (x7 &&& 31)))).toNatClampNeg)))), some (iv (x7 + (1 : Int32)))]) dX8_warm_337 rfl ic_1 rfl ?_
        refine mx_goto (tgt := 280) dX8_warm_340 rfl ?_
        exact mx_weak (al' := [some (rv a0), none, none, some (iv x3), some (iv x4), some (iv x5), some (iv (iMax x6 ((ah_I h (a0 + 68) x7.toNatClampNeg) + (ah_I h (a0 + 70) ((((256 : Int32) * x4) + (256 : Int32)) + (x5 ||| ((1 : Int32) <<< (x7 &&& 31)))).toNatClampNeg)))), some (iv (x7 + (1 : Int32)))]) ⟨rfl, ⟨rfl, ⟨rfl, ⟨rfl, ⟨rfl, ⟨rfl, trivial⟩⟩⟩⟩⟩⟩ H
theorem v_X8_warm_478 {G : ma_G} {d : Nat} {a0 : Nat} {x3 : Int32} {x4 : Int32} {x5 : Int32} {x6 : Int32} {z0 : Int32} {h : ah_T} {Q : Option ma_V → ah_T → Prop} {E : Nat → ah_T → Prop} (La0_h : LY8 h a0) (H : vp_in x5 20 ∧ ∀ h2 : ah_T, h2 = ah_wI h (a0 + 69) x5.toNatClampNeg z0 → ah_ext h h2 → (x3 ≤ x6 → MX G mi_X8_warm (d + 1) 377 [some (rv a0), none, none, some (iv x3), some (iv (x4 ||| (0 : Int32))), some (iv (x5 + (1 : Int32))), none, none] [] h2 Q E) ∧ (¬ x3 ≤ x6 → MX G mi_X8_warm (d + 1) 377 [some (rv a0), none, none, some (iv x3), some (iv (x4 ||| ((1 : Int32) <<< (x6 &&& 31)))), some (iv (x5 + (1 : Int32))), none, none] [] h2 Q E)) : MX G mi_X8_warm (d + 1) 478 [some (rv a0), none, none, some (iv x3), some (iv x4), some (iv x5), some (iv x6), none] [iv z0, iv x5, rv (a0 + 69)] h Q E := by
  obtain ⟨k1, H⟩ := H
  refine my_iast dX8_warm_478 rfl (ly8_A_69 La0_h k1) ?_
  refine mx_nmI  (fun h2 eh2 Xh2 Kh2 Lh2 => ?_)
  have H := H h2 eh2 Xh2
  have La0_h2 := La0_h.ext Xh2
  refine mx_iload dX8_warm_479 rfl ?_
  refine mx_iload dX8_warm_481 rfl ?_
  refine mx_iload_n dX8_warm_483 rfl rfl ?_
  refine mx_icmp_ge (tgt := 494) dX8_warm_484 rfl (fun c3 => ?_) (fun c3 => ?_)
  · have H := H.1 c3
    refine mx_iconst dX8_warm_494 ic_0 ?_
    refine mx_ior dX8_warm_495 ?_
    refine mx_istore (al' := [some (rv a0), none, none, some (iv x3), some (iv (x4 ||| (0 : Int32))), some (iv x5), some (iv x6), none]) dX8_warm_496 (Nat.le_of_ble_eq_true rfl) rfl ?_
    refine mx_iinc (al' := [some (rv a0), none, none, some (iv x3), some (iv (x4 ||| (0 : Int32))), some (iv (x5 + (1 : Int32))), some (iv x6), none]) dX8_warm_498 rfl ic_1 rfl ?_
    refine mx_goto (tgt := 377) dX8_warm_501 rfl ?_
    exact mx_weak (al' := [some (rv a0), none, none, some (iv x3), some (iv (x4 ||| (0 : Int32))), some (iv (x5 + (1 : Int32))), none, none]) ⟨rfl, ⟨rfl, ⟨rfl, ⟨rfl, trivial⟩⟩⟩⟩ H
  · have H := H.2 c3
    refine mx_iconst dX8_warm_487 ic_1 ?_
    refine mx_iload dX8_warm_488 rfl ?_
    refine mx_ishl dX8_warm_490 ?_
    refine mx_goto (tgt := 495) dX8_warm_491 rfl ?_
    refine mx_ior dX8_warm_495 ?_
    refine mx_istore (al' := [some (rv a0), none, none, some (iv x3), some (iv (x4 ||| ((1 : Int32) <<< (x6 &&& 31)))), some (iv x5), some (iv x6), none]) dX8_warm_496 (Nat.le_of_ble_eq_true rfl) rfl ?_
    refine mx_iinc (al' := [some (rv a0), none, none, some (iv x3), some (iv (x4 ||| ((1 : Int32) <<< (x6 &&& 31)))), some (iv (x5 + (1 : Int32))), some (iv x6), none]) dX8_warm_498 rfl ic_1 rfl ?_
    refine mx_goto (tgt := 377) dX8_warm_501 rfl ?_
    exact mx_weak (al' := [some (rv a0), none, none, some (iv x3), some (iv (x4 ||| ((1 : Int32) <<< (x6 &&& 31)))), some (iv (x5 + (1 : Int32))), none, none]) ⟨rfl, ⟨rfl, ⟨rfl, ⟨rfl, trivial⟩⟩⟩⟩ H
theorem v_X8_numberOf {G : ma_G} {d : Nat} {a0 : Nat} {x1 : Int32} {x2 : Int32} {h : ah_T} {Q : Option ma_V → ah_T → Prop} {E : Nat → ah_T → Prop} (La0_h : LY8 h a0) (H : vp_in (((40 : Int32) * x1) + x2) 160 ∧ Q (some (jv (ah_J h (a0 + 3) (((40 : Int32) * x1) + x2).toNatClampNeg))) h) : MX G mi_X8_numberOf d 0 [some (rv a0), some (iv x1), some (iv x2)] [] h Q E := by
  refine mx_aload_n dX8_numberOf_0 rfl rfl ?_
  refine mx_get 8 4 (ref := "PrairiePoolModel") cl_8 (Nat.le_of_ble_eq_true rfl) (Or.inl q1631) (Or.inl rfl) dX8_numberOf_1 (fv_8_4 _ _) (ly8_k La0_h) ?_
  refine mx_tr (ly8_R_0_4 La0_h) ?_
  refine mx_bipush dX8_numberOf_4 ib_40 ?_
  refine mx_iload_n dX8_numberOf_6 rfl rfl ?_
  refine mx_imul dX8_numberOf_7 ?_
  refine mx_iload_n dX8_numberOf_8 rfl rfl ?_
  refine mx_iadd dX8_numberOf_9 ?_
  obtain ⟨k1, H⟩ := H
  refine my_lald dX8_numberOf_10 rfl (ly8_A_3 La0_h k1) ?_
  exact mx_lret rfl dX8_numberOf_11 H
theorem v_X8_canTurn {G : ma_G} {d : Nat} {a0 : Nat} {x1 : Int32} {x2 : Int32} {x3 : Int32} {h : ah_T} {Q : Option ma_V → ah_T → Prop} {E : Nat → ah_T → Prop} (La0_h : LY8 h a0) (H : (¬ ((x3 >>> (x1 &&& 31)) &&& (1 : Int32)) = 0 → Q (some (iv (0 : Int32))) h) ∧ (((x3 >>> (x1 &&& 31)) &&& (1 : Int32)) = 0 → vp_in x1 8 ∧ ((ah_I h (a0 + 67) x1.toNatClampNeg) ≤ x2 → Q (some (iv (0 : Int32))) h) ∧ (¬ (ah_I h (a0 + 67) x1.toNatClampNeg) ≤ x2 → Q (some (iv (1 : Int32))) h))) : MX G mi_X8_canTurn d 0 [some (rv a0), some (iv x1), some (iv x2), some (iv x3)] [] h Q E := by
  refine mx_iload_n dX8_canTurn_0 rfl rfl ?_
  refine mx_iload_n dX8_canTurn_1 rfl rfl ?_
  refine mx_ishr dX8_canTurn_2 ?_
  refine mx_iconst dX8_canTurn_3 ic_1 ?_
  refine mx_iand dX8_canTurn_4 ?_
  refine mx_if_ne (tgt := 22) dX8_canTurn_5 rfl (fun c1 => ?_) (fun c1 => ?_)
  · have H := H.1 c1
    refine mx_iconst dX8_canTurn_22 ic_0 ?_
    exact mx_zret rfl dX8_canTurn_23 (Or.inl rfl) H
  · have H := H.2 c1
    refine mx_iload_n dX8_canTurn_8 rfl rfl ?_
    refine mx_aload_n dX8_canTurn_9 rfl rfl ?_
    refine mx_get 8 96 (ref := "PrairiePoolModel") cl_8 (Nat.le_of_ble_eq_true rfl) (Or.inl q1723) (Or.inl rfl) dX8_canTurn_10 (fv_8_96 _ _) (ly8_k La0_h) ?_
    refine mx_tr (ly8_R_0_96 La0_h) ?_
    refine mx_iload_n dX8_canTurn_13 rfl rfl ?_
    obtain ⟨k2, H⟩ := H
    refine my_iald dX8_canTurn_14 rfl (ly8_A_67 La0_h k2) ?_
    refine mx_icmp_ge (tgt := 22) dX8_canTurn_15 rfl (fun c3 => ?_) (fun c3 => ?_)
    · have H := H.1 c3
      refine mx_iconst dX8_canTurn_22 ic_0 ?_
      exact mx_zret rfl dX8_canTurn_23 (Or.inl rfl) H
    · have H := H.2 c3
      refine mx_iconst dX8_canTurn_18 ic_1 ?_
      refine mx_goto (tgt := 23) dX8_canTurn_19 rfl ?_
      exact mx_zret rfl dX8_canTurn_23 (Or.inr rfl) H
theorem dX8_turned_0 : decode mi_X8_turned.2.1 0 = .ok (.aload_n 0, 1) := by decide +kernel
theorem dX8_turned_1 : decode mi_X8_turned.2.1 1 = .ok (.iconst 0, 1) := by decide +kernel
theorem dX8_turned_2 : decode mi_X8_turned.2.1 2 = .ok (.putfield 257, 3) := by decide +kernel
theorem dX8_turned_5 : decode mi_X8_turned.2.1 5 = .ok (.aload_n 0, 1) := by decide +kernel
theorem dX8_turned_6 : decode mi_X8_turned.2.1 6 = .ok (.iconst 0, 1) := by decide +kernel
theorem dX8_turned_7 : decode mi_X8_turned.2.1 7 = .ok (.putfield 260, 3) := by decide +kernel
theorem dX8_turned_10 : decode mi_X8_turned.2.1 10 = .ok (.aload_n 0, 1) := by decide +kernel
theorem dX8_turned_11 : decode mi_X8_turned.2.1 11 = .ok (.getfield 666, 3) := by decide +kernel
theorem dX8_turned_14 : decode mi_X8_turned.2.1 14 = .ok (.ifCond .eq 24, 3) := by decide +kernel
theorem dX8_turned_17 : decode mi_X8_turned.2.1 17 = .ok (.iload_n 1, 1) := by decide +kernel
theorem dX8_turned_18 : decode mi_X8_turned.2.1 18 = .ok (.i2l, 1) := by decide +kernel
theorem dX8_turned_19 : decode mi_X8_turned.2.1 19 = .ok (.lconst 0, 1) := by decide +kernel
theorem dX8_turned_20 : decode mi_X8_turned.2.1 20 = .ok (.ldc2_w 669, 3) := by decide +kernel
theorem dX8_turned_23 : decode mi_X8_turned.2.1 23 = .ok (.invokestatic 265, 3) := by decide +kernel
theorem dX8_turned_26 : decode mi_X8_turned.2.1 26 = .ok (.ifCond .eq 12, 3) := by decide +kernel
theorem dX8_turned_29 : decode mi_X8_turned.2.1 29 = .ok (.aload_n 0, 1) := by decide +kernel
theorem dX8_turned_30 : decode mi_X8_turned.2.1 30 = .ok (.getfield 230, 3) := by decide +kernel
theorem dX8_turned_33 : decode mi_X8_turned.2.1 33 = .ok (.iload_n 1, 1) := by decide +kernel
theorem dX8_turned_34 : decode mi_X8_turned.2.1 34 = .ok (.iaload, 1) := by decide +kernel
theorem dX8_turned_35 : decode mi_X8_turned.2.1 35 = .ok (.goto 9, 3) := by decide +kernel
theorem dX8_turned_38 : decode mi_X8_turned.2.1 38 = .ok (.aload_n 0, 1) := by decide +kernel
theorem dX8_turned_39 : decode mi_X8_turned.2.1 39 = .ok (.bipush 8, 2) := by decide +kernel
theorem dX8_turned_41 : decode mi_X8_turned.2.1 41 = .ok (.invokevirtual 297, 3) := by decide +kernel
theorem dX8_turned_44 : decode mi_X8_turned.2.1 44 = .ok (.ireturn, 1) := by decide +kernel
theorem v_X8_turned {G : ma_G} {d : Nat} {a0 : Nat} {x1 : Int32} {h : ah_T} {Q : Option ma_V → ah_T → Prop} {E : Nat → ah_T → Prop} (La0_h : LY8 h a0) (H : ∀ h1 : ah_T, h1 = ah_wI h a0 1 (0 : Int32) → ah_ext h h1 → ∀ h2 : ah_T, h2 = ah_wI h1 a0 0 (0 : Int32) → ah_ext h1 h2 → ((ah_I h a0 107) = 0 → ∀ h4 : ah_T, h4 = ah_wI h2 a0 0 (8 : Int32) → ah_ext h2 h4 → Q (some (iv (-1 : Int32))) h4) ∧ (¬ (ah_I h a0 107) = 0 → (x1.toInt64 < (0 : Int64) → ∀ h6 : ah_T, h6 = ah_wI h2 a0 0 (8 : Int32) → ah_ext h2 h6 → Q (some (iv (-1 : Int32))) h6) ∧ (¬ x1.toInt64 < (0 : Int64) → ((19 : Int64) < x1.toInt64 → ∀ h8 : ah_T, h8 = ah_wI h2 a0 0 (8 : Int32) → ah_ext h2 h8 → Q (some (iv (-1 : Int32))) h8) ∧ (¬ (19 : Int64) < x1.toInt64 → vp_in x1 20 ∧ Q (some (iv (ah_I h (a0 + 69) x1.toNatClampNeg))) h2)))) : MX G mi_X8_turned (d + 1) 0 [some (rv a0), some (iv x1)] [] h Q E := by
  refine mx_aload_n dX8_turned_0 rfl rfl ?_
  refine mx_iconst dX8_turned_1 ic_0 ?_
  refine mx_putI 8 1 (ref := "PrairiePoolModel") cl_8 (Nat.le_of_ble_eq_true rfl) (Or.inl q1628) (Or.inl rfl) dX8_turned_2 (Or.inl rfl) rfl (ly8_k La0_h) ?_
  refine mx_nmI  (fun h1 eh1 Xh1 Kh1 Lh1 => ?_)
  have H := H h1 eh1 Xh1
  have La0_h1 := La0_h.ext Xh1
  refine mx_aload_n dX8_turned_5 rfl rfl ?_
  refine mx_iconst dX8_turned_6 ic_0 ?_
  refine mx_putI 8 0 (ref := "PrairiePoolModel") cl_8 (Nat.le_of_ble_eq_true rfl) (Or.inl q1627) (Or.inl rfl) dX8_turned_7 (Or.inl rfl) rfl (ly8_k La0_h1) ?_
  refine mx_nmI  (fun h2 eh2 Xh2 Kh2 Lh2 => ?_)
  have H := H h2 eh2 Xh2
  have Kh2 := Kh2.trans Kh1
  have Lh2 := Lh2.trans Lh1
  have La0_h2 := La0_h1.ext Xh2
  refine mx_aload_n dX8_turned_10 rfl rfl ?_
  refine mx_get 8 107 (ref := "PrairiePoolModel") cl_8 (Nat.le_of_ble_eq_true rfl) (Or.inl q1734) (Or.inl rfl) dX8_turned_11 (fv_8_107 _ _) (ly8_k La0_h2) ?_
  refine mx_ti ((ah_skIK eh2 (by decide)).trans (ah_skIK eh1 (by decide))) ?_
  refine mx_if_eq (tgt := 38) dX8_turned_14 rfl (fun c3 => ?_) (fun c3 => ?_)
  · have H := H.1 c3
    refine mx_aload_n dX8_turned_38 rfl rfl ?_
    refine mx_bipush dX8_turned_39 ib_8 ?_
    refine mx_callV 8 (y' := mi_X8_refuse) (vs := [iv (8 : Int32)]) (st := []) (al' := [some (rv a0), some (iv (8 : Int32))]) cl_8 V_X8_refuse (Or.inl q1999) dX8_turned_41 rfl rfl (Nat.le_of_ble_eq_true rfl) (Nat.le_of_ble_eq_true rfl) (ly8_k La0_h2) ?_
    refine mx_aload_n dX8_refuse_0 rfl rfl ?_
    refine mx_iload_n dX8_refuse_1 rfl rfl ?_
    refine mx_putI 8 0 (ref := "PrairiePoolModel") cl_8 (Nat.le_of_ble_eq_true rfl) (Or.inl q1627) (Or.inl rfl) dX8_refuse_2 (Or.inl rfl) rfl (ly8_k La0_h2) ?_
    refine mx_nmI  (fun h4 eh4 Xh4 Kh4 Lh4 => ?_)
    have H := H h4 eh4 Xh4
    have Kh4 := Kh4.trans Kh2
    have Lh4 := Lh4.trans Lh2
    have La0_h4 := La0_h2.ext Xh4
    refine mx_iconst dX8_refuse_5 ic_m1 ?_
    refine mx_iretK rfl dX8_refuse_6 ?_
    exact mx_iret rfl dX8_turned_44 H
  · have H := H.2 c3
    refine mx_iload_n dX8_turned_17 rfl rfl ?_
    refine mx_i2l dX8_turned_18 ?_
    refine mx_lconst dX8_turned_19 lc_0 ?_
    refine mx_ldc2 q2444 dX8_turned_20 ?_
    refine mx_callS (y' := mi_X8_isIn) (vs := [jv x1.toInt64, jv (0 : Int64), jv (19 : Int64)]) (st := []) (al' := [some (jv x1.toInt64), none, some (jv (0 : Int64)), none, some (jv (19 : Int64)), none]) S_X8_isIn q1996 dX8_turned_23 rfl rfl (Nat.le_of_ble_eq_true rfl) (Nat.le_of_ble_eq_true rfl) ?_
    refine mx_lload_n dX8_isIn_0 rfl rfl ?_
    refine mx_lload_n dX8_isIn_1 rfl rfl ?_
    refine mx_lif_lt (tgt := 17) dX8_isIn_2 dX8_isIn_3 rfl (fun c5 => ?_) (fun c5 => ?_)
    · have H := H.1 c5
      refine mx_iconst dX8_isIn_17 ic_0 ?_
      refine mx_zretK rfl dX8_isIn_18 (Or.inl rfl) ?_
      refine mx_if_eq (tgt := 38) dX8_turned_26 rfl (fun _ => ?_) (fun _ => absurd ‹_› (by decide))
      refine mx_aload_n dX8_turned_38 rfl rfl ?_
      refine mx_bipush dX8_turned_39 ib_8 ?_
      refine mx_callV 8 (y' := mi_X8_refuse) (vs := [iv (8 : Int32)]) (st := []) (al' := [some (rv a0), some (iv (8 : Int32))]) cl_8 V_X8_refuse (Or.inl q1999) dX8_turned_41 rfl rfl (Nat.le_of_ble_eq_true rfl) (Nat.le_of_ble_eq_true rfl) (ly8_k La0_h2) ?_
      refine mx_aload_n dX8_refuse_0 rfl rfl ?_
      refine mx_iload_n dX8_refuse_1 rfl rfl ?_
      refine mx_putI 8 0 (ref := "PrairiePoolModel") cl_8 (Nat.le_of_ble_eq_true rfl) (Or.inl q1627) (Or.inl rfl) dX8_refuse_2 (Or.inl rfl) rfl (ly8_k La0_h2) ?_
      refine mx_nmI  (fun h6 eh6 Xh6 Kh6 Lh6 => ?_)
      have H := H h6 eh6 Xh6
      have Kh6 := Kh6.trans Kh2
      have Lh6 := Lh6.trans Lh2
      have La0_h6 := La0_h2.ext Xh6
      refine mx_iconst dX8_refuse_5 ic_m1 ?_
      refine mx_iretK rfl dX8_refuse_6 ?_
      exact mx_iret rfl dX8_turned_44 H
    · have H := H.2 c5
      refine mx_lload_n dX8_isIn_6 rfl rfl ?_
      refine mx_lload dX8_isIn_7 rfl ?_
      refine mx_lif_gt (tgt := 17) dX8_isIn_9 dX8_isIn_10 rfl (fun c7 => ?_) (fun c7 => ?_)
      · have H := H.1 c7
        refine mx_iconst dX8_isIn_17 ic_0 ?_
        refine mx_zretK rfl dX8_isIn_18 (Or.inl rfl) ?_
        refine mx_if_eq (tgt := 38) dX8_turned_26 rfl (fun _ => ?_) (fun _ => absurd ‹_› (by decide))
        refine mx_aload_n dX8_turned_38 rfl rfl ?_
        refine mx_bipush dX8_turned_39 ib_8 ?_
        refine mx_callV 8 (y' := mi_X8_refuse) (vs := [iv (8 : Int32)]) (st := []) (al' := [some (rv a0), some (iv (8 : Int32))]) cl_8 V_X8_refuse (Or.inl q1999) dX8_turned_41 rfl rfl (Nat.le_of_ble_eq_true rfl) (Nat.le_of_ble_eq_true rfl) (ly8_k La0_h2) ?_
        refine mx_aload_n dX8_refuse_0 rfl rfl ?_
        refine mx_iload_n dX8_refuse_1 rfl rfl ?_
        refine mx_putI 8 0 (ref := "PrairiePoolModel") cl_8 (Nat.le_of_ble_eq_true rfl) (Or.inl q1627) (Or.inl rfl) dX8_refuse_2 (Or.inl rfl) rfl (ly8_k La0_h2) ?_
        refine mx_nmI  (fun h8 eh8 Xh8 Kh8 Lh8 => ?_)
        have H := H h8 eh8 Xh8
        have Kh8 := Kh8.trans Kh2
        have Lh8 := Lh8.trans Lh2
        have La0_h8 := La0_h2.ext Xh8
        refine mx_iconst dX8_refuse_5 ic_m1 ?_
        refine mx_iretK rfl dX8_refuse_6 ?_
        exact mx_iret rfl dX8_turned_44 H
      · have H := H.2 c7
        refine mx_iconst dX8_isIn_13 ic_1 ?_
        refine mx_goto (tgt := 18) dX8_isIn_14 rfl ?_
        refine mx_zretK rfl dX8_isIn_18 (Or.inr rfl) ?_
        refine mx_if_eq (tgt := 38) dX8_turned_26 rfl (fun _ => absurd ‹_› (by decide)) (fun _ => ?_)
        refine mx_aload_n dX8_turned_29 rfl rfl ?_
        refine mx_get 8 98 (ref := "PrairiePoolModel") cl_8 (Nat.le_of_ble_eq_true rfl) (Or.inl q1725) (Or.inl rfl) dX8_turned_30 (fv_8_98 _ _) (ly8_k La0_h2) ?_
        refine mx_tr (ly8_R_0_98 La0_h2) ?_
        refine mx_iload_n dX8_turned_33 rfl rfl ?_
        obtain ⟨k9, H⟩ := H
        refine my_iald dX8_turned_34 rfl (ly8_A_69 La0_h2 k9) ?_
        refine mx_ti ((ah_skIA eh2 (by omega)).trans (ah_skIA eh1 (by omega))) ?_
        refine mx_goto (tgt := 44) dX8_turned_35 rfl ?_
        exact mx_iret rfl dX8_turned_44 H
theorem dX8_send_0 : decode mi_X8_send.2.1 0 = .ok (.aload_n 0, 1) := by decide +kernel
theorem dX8_send_1 : decode mi_X8_send.2.1 1 = .ok (.iconst 0, 1) := by decide +kernel
theorem dX8_send_2 : decode mi_X8_send.2.1 2 = .ok (.putfield 257, 3) := by decide +kernel
theorem dX8_send_5 : decode mi_X8_send.2.1 5 = .ok (.aload_n 0, 1) := by decide +kernel
theorem dX8_send_6 : decode mi_X8_send.2.1 6 = .ok (.aload_n 0, 1) := by decide +kernel
theorem dX8_send_7 : decode mi_X8_send.2.1 7 = .ok (.iload_n 1, 1) := by decide +kernel
theorem dX8_send_8 : decode mi_X8_send.2.1 8 = .ok (.iload_n 2, 1) := by decide +kernel
theorem dX8_send_9 : decode mi_X8_send.2.1 9 = .ok (.iload_n 3, 1) := by decide +kernel
theorem dX8_send_10 : decode mi_X8_send.2.1 10 = .ok (.iload 4, 2) := by decide +kernel
theorem dX8_send_12 : decode mi_X8_send.2.1 12 = .ok (.iload 5, 2) := by decide +kernel
theorem dX8_send_14 : decode mi_X8_send.2.1 14 = .ok (.invokevirtual 673, 3) := by decide +kernel
theorem dX8_send_17 : decode mi_X8_send.2.1 17 = .ok (.putfield 260, 3) := by decide +kernel
theorem dX8_send_20 : decode mi_X8_send.2.1 20 = .ok (.aload_n 0, 1) := by decide +kernel
theorem dX8_send_21 : decode mi_X8_send.2.1 21 = .ok (.getfield 260, 3) := by decide +kernel
theorem dX8_send_24 : decode mi_X8_send.2.1 24 = .ok (.ifCond .le 5, 3) := by decide +kernel
theorem dX8_send_27 : decode mi_X8_send.2.1 27 = .ok (.iconst (-1), 1) := by decide +kernel
theorem dX8_send_28 : decode mi_X8_send.2.1 28 = .ok (.ireturn, 1) := by decide +kernel
theorem dX8_send_29 : decode mi_X8_send.2.1 29 = .ok (.iconst 0, 1) := by decide +kernel
theorem dX8_send_30 : decode mi_X8_send.2.1 30 = .ok (.istore 6, 2) := by decide +kernel
theorem dX8_send_32 : decode mi_X8_send.2.1 32 = .ok (.iconst 0, 1) := by decide +kernel
theorem dX8_send_33 : decode mi_X8_send.2.1 33 = .ok (.istore 7, 2) := by decide +kernel
theorem dX8_send_35 : decode mi_X8_send.2.1 35 = .ok (.iload 7, 2) := by decide +kernel
theorem dX8_send_37 : decode mi_X8_send.2.1 37 = .ok (.iload_n 2, 1) := by decide +kernel
theorem dX8_send_38 : decode mi_X8_send.2.1 38 = .ok (.if_icmp .ge 24, 3) := by decide +kernel
theorem dX8_send_41 : decode mi_X8_send.2.1 41 = .ok (.aload_n 0, 1) := by decide +kernel
theorem dX8_send_42 : decode mi_X8_send.2.1 42 = .ok (.getfield 236, 3) := by decide +kernel
theorem dX8_send_45 : decode mi_X8_send.2.1 45 = .ok (.iload 7, 2) := by decide +kernel
theorem dX8_send_47 : decode mi_X8_send.2.1 47 = .ok (.aload_n 0, 1) := by decide +kernel
theorem dX8_send_48 : decode mi_X8_send.2.1 48 = .ok (.iload_n 1, 1) := by decide +kernel
theorem dX8_send_49 : decode mi_X8_send.2.1 49 = .ok (.iload 7, 2) := by decide +kernel
theorem dX8_send_51 : decode mi_X8_send.2.1 51 = .ok (.invokevirtual 658, 3) := by decide +kernel
theorem dX8_send_54 : decode mi_X8_send.2.1 54 = .ok (.l2i, 1) := by decide +kernel
theorem dX8_send_55 : decode mi_X8_send.2.1 55 = .ok (.iastore, 1) := by decide +kernel
theorem dX8_send_56 : decode mi_X8_send.2.1 56 = .ok (.iinc 7 1, 3) := by decide +kernel
theorem dX8_send_59 : decode mi_X8_send.2.1 59 = .ok (.goto (-24), 3) := by decide +kernel
theorem dX8_send_62 : decode mi_X8_send.2.1 62 = .ok (.iconst 0, 1) := by decide +kernel
theorem dX8_send_63 : decode mi_X8_send.2.1 63 = .ok (.istore 7, 2) := by decide +kernel
theorem dX8_send_65 : decode mi_X8_send.2.1 65 = .ok (.iload 7, 2) := by decide +kernel
theorem dX8_send_67 : decode mi_X8_send.2.1 67 = .ok (.iload 4, 2) := by decide +kernel
theorem dX8_send_69 : decode mi_X8_send.2.1 69 = .ok (.if_icmp .ge 36, 3) := by decide +kernel
theorem dX8_send_72 : decode mi_X8_send.2.1 72 = .ok (.aload_n 0, 1) := by decide +kernel
theorem dX8_send_73 : decode mi_X8_send.2.1 73 = .ok (.getfield 239, 3) := by decide +kernel
theorem dX8_send_76 : decode mi_X8_send.2.1 76 = .ok (.iload 7, 2) := by decide +kernel
theorem dX8_send_78 : decode mi_X8_send.2.1 78 = .ok (.aload_n 0, 1) := by decide +kernel
theorem dX8_send_79 : decode mi_X8_send.2.1 79 = .ok (.iload_n 3, 1) := by decide +kernel
theorem dX8_send_80 : decode mi_X8_send.2.1 80 = .ok (.iload 7, 2) := by decide +kernel
theorem dX8_send_82 : decode mi_X8_send.2.1 82 = .ok (.invokevirtual 658, 3) := by decide +kernel
theorem dX8_send_85 : decode mi_X8_send.2.1 85 = .ok (.l2i, 1) := by decide +kernel
theorem dX8_send_86 : decode mi_X8_send.2.1 86 = .ok (.iastore, 1) := by decide +kernel
theorem dX8_send_87 : decode mi_X8_send.2.1 87 = .ok (.iload 6, 2) := by decide +kernel
theorem dX8_send_89 : decode mi_X8_send.2.1 89 = .ok (.aload_n 0, 1) := by decide +kernel
theorem dX8_send_90 : decode mi_X8_send.2.1 90 = .ok (.getfield 239, 3) := by decide +kernel
theorem dX8_send_93 : decode mi_X8_send.2.1 93 = .ok (.iload 7, 2) := by decide +kernel
theorem dX8_send_95 : decode mi_X8_send.2.1 95 = .ok (.iaload, 1) := by decide +kernel
theorem dX8_send_96 : decode mi_X8_send.2.1 96 = .ok (.iadd, 1) := by decide +kernel
theorem dX8_send_97 : decode mi_X8_send.2.1 97 = .ok (.istore 6, 2) := by decide +kernel
theorem dX8_send_99 : decode mi_X8_send.2.1 99 = .ok (.iinc 7 1, 3) := by decide +kernel
theorem dX8_send_102 : decode mi_X8_send.2.1 102 = .ok (.goto (-37), 3) := by decide +kernel
theorem dX8_send_105 : decode mi_X8_send.2.1 105 = .ok (.iconst 0, 1) := by decide +kernel
theorem dX8_send_106 : decode mi_X8_send.2.1 106 = .ok (.istore 7, 2) := by decide +kernel
theorem dX8_send_108 : decode mi_X8_send.2.1 108 = .ok (.iload 7, 2) := by decide +kernel
theorem dX8_send_110 : decode mi_X8_send.2.1 110 = .ok (.iload_n 2, 1) := by decide +kernel
theorem dX8_send_111 : decode mi_X8_send.2.1 111 = .ok (.iload 4, 2) := by decide +kernel
theorem dX8_send_113 : decode mi_X8_send.2.1 113 = .ok (.imul, 1) := by decide +kernel
theorem dX8_send_114 : decode mi_X8_send.2.1 114 = .ok (.if_icmp .ge 33, 3) := by decide +kernel
theorem dX8_send_117 : decode mi_X8_send.2.1 117 = .ok (.aload_n 0, 1) := by decide +kernel
theorem dX8_send_118 : decode mi_X8_send.2.1 118 = .ok (.getfield 242, 3) := by decide +kernel
theorem dX8_send_121 : decode mi_X8_send.2.1 121 = .ok (.iload 7, 2) := by decide +kernel
theorem dX8_send_123 : decode mi_X8_send.2.1 123 = .ok (.aload_n 0, 1) := by decide +kernel
theorem dX8_send_124 : decode mi_X8_send.2.1 124 = .ok (.iload 5, 2) := by decide +kernel
theorem dX8_send_126 : decode mi_X8_send.2.1 126 = .ok (.iload 7, 2) := by decide +kernel
theorem dX8_send_128 : decode mi_X8_send.2.1 128 = .ok (.invokevirtual 658, 3) := by decide +kernel
theorem dX8_send_131 : decode mi_X8_send.2.1 131 = .ok (.l2i, 1) := by decide +kernel
theorem dX8_send_132 : decode mi_X8_send.2.1 132 = .ok (.iastore, 1) := by decide +kernel
theorem dX8_send_133 : decode mi_X8_send.2.1 133 = .ok (.aload_n 0, 1) := by decide +kernel
theorem dX8_send_134 : decode mi_X8_send.2.1 134 = .ok (.getfield 245, 3) := by decide +kernel
theorem dX8_send_137 : decode mi_X8_send.2.1 137 = .ok (.iload 7, 2) := by decide +kernel
theorem dX8_send_139 : decode mi_X8_send.2.1 139 = .ok (.iconst 0, 1) := by decide +kernel
theorem dX8_send_140 : decode mi_X8_send.2.1 140 = .ok (.iastore, 1) := by decide +kernel
theorem dX8_send_141 : decode mi_X8_send.2.1 141 = .ok (.iinc 7 1, 3) := by decide +kernel
theorem dX8_send_144 : decode mi_X8_send.2.1 144 = .ok (.goto (-36), 3) := by decide +kernel
theorem dX8_send_147 : decode mi_X8_send.2.1 147 = .ok (.iconst 0, 1) := by decide +kernel
theorem dX8_send_148 : decode mi_X8_send.2.1 148 = .ok (.istore 7, 2) := by decide +kernel
theorem dX8_send_150 : decode mi_X8_send.2.1 150 = .ok (.iconst 0, 1) := by decide +kernel
theorem dX8_send_151 : decode mi_X8_send.2.1 151 = .ok (.istore 8, 2) := by decide +kernel
theorem dX8_send_153 : decode mi_X8_send.2.1 153 = .ok (.iload 8, 2) := by decide +kernel
theorem dX8_send_155 : decode mi_X8_send.2.1 155 = .ok (.iload 6, 2) := by decide +kernel
theorem dX8_send_157 : decode mi_X8_send.2.1 157 = .ok (.if_icmp .ge 21, 3) := by decide +kernel
theorem dX8_send_160 : decode mi_X8_send.2.1 160 = .ok (.iload 7, 2) := by decide +kernel
theorem dX8_send_162 : decode mi_X8_send.2.1 162 = .ok (.aload_n 0, 1) := by decide +kernel
theorem dX8_send_163 : decode mi_X8_send.2.1 163 = .ok (.iload_n 2, 1) := by decide +kernel
theorem dX8_send_164 : decode mi_X8_send.2.1 164 = .ok (.iload 4, 2) := by decide +kernel
theorem dX8_send_166 : decode mi_X8_send.2.1 166 = .ok (.invokevirtual 677, 3) := by decide +kernel
theorem dX8_send_169 : decode mi_X8_send.2.1 169 = .ok (.iadd, 1) := by decide +kernel
theorem dX8_send_170 : decode mi_X8_send.2.1 170 = .ok (.istore 7, 2) := by decide +kernel
theorem dX8_send_172 : decode mi_X8_send.2.1 172 = .ok (.iinc 8 1, 3) := by decide +kernel
theorem dX8_send_175 : decode mi_X8_send.2.1 175 = .ok (.goto (-22), 3) := by decide +kernel
theorem dX8_send_178 : decode mi_X8_send.2.1 178 = .ok (.iload 7, 2) := by decide +kernel
theorem dX8_send_180 : decode mi_X8_send.2.1 180 = .ok (.ireturn, 1) := by decide +kernel
theorem v_X8_send {G : ma_G} {d : Nat} {a0 : Nat} {x1 : Int32} {x2 : Int32} {x3 : Int32} {x4 : Int32} {x5 : Int32} {h : ah_T} {Q : Option ma_V → ah_T → Prop} {E : Nat → ah_T → Prop} (La0_h : LY8 h a0) (H : ∀ h1 : ah_T, h1 = ah_wI h a0 1 (0 : Int32) → ah_ext h h1 → MX G mi_X8_asksSend d 0 [some (rv a0), some (iv x1), some (iv x2), some (iv x3), some (iv x4), some (iv x5), none, none, none] [] h1 (Qi fun r3 h2 => ah_ext h1 h2 → ∀ h4 : ah_T, h4 = ah_wI h2 a0 0 r3 → ah_ext h2 h4 → (r3 ≤ 0 → MX G mi_X8_send (d + 1) 35 [some (rv a0), some (iv x1), some (iv x2), some (iv x3), some (iv x4), some (iv x5), some (iv (0 : Int32)), some (iv (0 : Int32)), none] [] h4 Q E) ∧ (¬ r3 ≤ 0 → Q (some (iv (-1 : Int32))) h4)) E) : MX G mi_X8_send (d + 1) 0 [some (rv a0), some (iv x1), some (iv x2), some (iv x3), some (iv x4), some (iv x5), none, none, none] [] h Q E := by
  refine mx_aload_n dX8_send_0 rfl rfl ?_
  refine mx_iconst dX8_send_1 ic_0 ?_
  refine mx_putI 8 1 (ref := "PrairiePoolModel") cl_8 (Nat.le_of_ble_eq_true rfl) (Or.inl q1628) (Or.inl rfl) dX8_send_2 (Or.inl rfl) rfl (ly8_k La0_h) ?_
  refine mx_nmI  (fun h1 eh1 Xh1 Kh1 Lh1 => ?_)
  have H := H h1 eh1 Xh1
  have La0_h1 := La0_h.ext Xh1
  refine mx_aload_n dX8_send_5 rfl rfl ?_
  refine mx_aload_n dX8_send_6 rfl rfl ?_
  refine mx_iload_n dX8_send_7 rfl rfl ?_
  refine mx_iload_n dX8_send_8 rfl rfl ?_
  refine mx_iload_n dX8_send_9 rfl rfl ?_
  refine mx_iload dX8_send_10 rfl ?_
  refine mx_iload dX8_send_12 rfl ?_
  refine mx_callV 8 (y' := mi_X8_asksSend) (vs := [iv x1, iv x2, iv x3, iv x4, iv x5]) (st := [rv a0]) (al' := [some (rv a0), some (iv x1), some (iv x2), some (iv x3), some (iv x4), some (iv x5), none, none, none]) cl_8 V_X8_asksSend (Or.inl q2449) dX8_send_14 rfl rfl (Nat.le_of_ble_eq_true rfl) (Nat.le_of_ble_eq_true rfl) (ly8_k La0_h1) ?_
  refine ma_ki H (fun r3 h2 Xh2 H => ?_) (fun x1 h1 X1 H => mt_out rfl H)
  have H := H Xh2
  have La0_h2 := La0_h1.ext Xh2
  refine mx_putI 8 0 (ref := "PrairiePoolModel") cl_8 (Nat.le_of_ble_eq_true rfl) (Or.inl q1627) (Or.inl rfl) dX8_send_17 (Or.inl rfl) rfl (ly8_k La0_h2) ?_
  refine mx_nmI  (fun h4 eh4 Xh4 Kh4 Lh4 => ?_)
  have H := H h4 eh4 Xh4
  have La0_h4 := La0_h2.ext Xh4
  refine mx_aload_n dX8_send_20 rfl rfl ?_
  refine mx_get 8 0 (ref := "PrairiePoolModel") cl_8 (Nat.le_of_ble_eq_true rfl) (Or.inl q1627) (Or.inl rfl) dX8_send_21 (fv_8_0 _ _) (ly8_k La0_h4) ?_
  refine mx_ti (ah_hitI eh4) ?_
  refine mx_if_le (tgt := 29) dX8_send_24 rfl (fun c5 => ?_) (fun c5 => ?_)
  · have H := H.1 c5
    refine mx_iconst dX8_send_29 ic_0 ?_
    refine mx_istore (al' := [some (rv a0), some (iv x1), some (iv x2), some (iv x3), some (iv x4), some (iv x5), some (iv (0 : Int32)), none, none]) dX8_send_30 (Nat.le_of_ble_eq_true rfl) rfl ?_
    refine mx_iconst dX8_send_32 ic_0 ?_
    refine mx_istore (al' := [some (rv a0), some (iv x1), some (iv x2), some (iv x3), some (iv x4), some (iv x5), some (iv (0 : Int32)), some (iv (0 : Int32)), none]) dX8_send_33 (Nat.le_of_ble_eq_true rfl) rfl ?_
    exact mx_weak (al' := [some (rv a0), some (iv x1), some (iv x2), some (iv x3), some (iv x4), some (iv x5), some (iv (0 : Int32)), some (iv (0 : Int32)), none]) ⟨rfl, ⟨rfl, ⟨rfl, ⟨rfl, ⟨rfl, ⟨rfl, ⟨rfl, ⟨rfl, trivial⟩⟩⟩⟩⟩⟩⟩⟩ H
  · have H := H.2 c5
    refine mx_iconst dX8_send_27 ic_m1 ?_
    exact mx_iret rfl dX8_send_28 H
theorem v_X8_send_35 {G : ma_G} {d : Nat} {a0 : Nat} {x1 : Int32} {x2 : Int32} {x3 : Int32} {x4 : Int32} {x5 : Int32} {x6 : Int32} {x7 : Int32} {h : ah_T} {Q : Option ma_V → ah_T → Prop} {E : Nat → ah_T → Prop} (La0_h : LY8 h a0) (H : (x2 ≤ x7 → MX G mi_X8_send (d + 1) 65 [some (rv a0), none, some (iv x2), some (iv x3), some (iv x4), some (iv x5), some (iv x6), some (iv (0 : Int32)), none] [] h Q E) ∧ (¬ x2 ≤ x7 → vp_in (((40 : Int32) * x1) + x7) 160 ∧ vp_in x7 5 ∧ ∀ h4 : ah_T, h4 = ah_wI h (a0 + 71) x7.toNatClampNeg (ah_J h (a0 + 3) (((40 : Int32) * x1) + x7).toNatClampNeg).toInt32 → ah_ext h h4 → MX G mi_X8_send (d + 1) 35 [some (rv a0), some (iv x1), some (iv x2), some (iv x3), some (iv x4), some (iv x5), some (iv x6), some (iv (x7 + (1 : Int32))), none] [] h4 Q E)) : MX G mi_X8_send (d + 1) 35 [some (rv a0), some (iv x1), some (iv x2), some (iv x3), some (iv x4), some (iv x5), some (iv x6), some (iv x7), none] [] h Q E := by
  refine mx_iload dX8_send_35 rfl ?_
  refine mx_iload_n dX8_send_37 rfl rfl ?_
  refine mx_icmp_ge (tgt := 62) dX8_send_38 rfl (fun c1 => ?_) (fun c1 => ?_)
  · have H := H.1 c1
    refine mx_iconst dX8_send_62 ic_0 ?_
    refine mx_istore (al' := [some (rv a0), some (iv x1), some (iv x2), some (iv x3), some (iv x4), some (iv x5), some (iv x6), some (iv (0 : Int32)), none]) dX8_send_63 (Nat.le_of_ble_eq_true rfl) rfl ?_
    exact mx_weak (al' := [some (rv a0), none, some (iv x2), some (iv x3), some (iv x4), some (iv x5), some (iv x6), some (iv (0 : Int32)), none]) ⟨rfl, ⟨rfl, ⟨rfl, ⟨rfl, ⟨rfl, ⟨rfl, ⟨rfl, trivial⟩⟩⟩⟩⟩⟩⟩ H
  · have H := H.2 c1
    refine mx_aload_n dX8_send_41 rfl rfl ?_
    refine mx_get 8 100 (ref := "PrairiePoolModel") cl_8 (Nat.le_of_ble_eq_true rfl) (Or.inl q1727) (Or.inl rfl) dX8_send_42 (fv_8_100 _ _) (ly8_k La0_h) ?_
    refine mx_tr (ly8_R_0_100 La0_h) ?_
    refine mx_iload dX8_send_45 rfl ?_
    refine mx_aload_n dX8_send_47 rfl rfl ?_
    refine mx_iload_n dX8_send_48 rfl rfl ?_
    refine mx_iload dX8_send_49 rfl ?_
    refine mx_callV 8 (y' := mi_X8_numberOf) (vs := [iv x1, iv x7]) (st := [iv x7, rv (a0 + 71)]) (al' := [some (rv a0), some (iv x1), some (iv x7)]) cl_8 V_X8_numberOf (Or.inl q2432) dX8_send_51 rfl rfl (Nat.le_of_ble_eq_true rfl) (Nat.le_of_ble_eq_true rfl) (ly8_k La0_h) ?_
    refine mx_aload_n dX8_numberOf_0 rfl rfl ?_
    refine mx_get 8 4 (ref := "PrairiePoolModel") cl_8 (Nat.le_of_ble_eq_true rfl) (Or.inl q1631) (Or.inl rfl) dX8_numberOf_1 (fv_8_4 _ _) (ly8_k La0_h) ?_
    refine mx_tr (ly8_R_0_4 La0_h) ?_
    refine mx_bipush dX8_numberOf_4 ib_40 ?_
    refine mx_iload_n dX8_numberOf_6 rfl rfl ?_
    refine mx_imul dX8_numberOf_7 ?_
    refine mx_iload_n dX8_numberOf_8 rfl rfl ?_
    refine mx_iadd dX8_numberOf_9 ?_
    obtain ⟨k2, H⟩ := H
    refine my_lald dX8_numberOf_10 rfl (ly8_A_3 La0_h k2) ?_
    refine mx_lretK rfl dX8_numberOf_11 ?_
    refine mx_l2i dX8_send_54 ?_
    obtain ⟨k3, H⟩ := H
    refine my_iast dX8_send_55 rfl (ly8_A_71 La0_h k3) ?_
    refine mx_nmI  (fun h4 eh4 Xh4 Kh4 Lh4 => ?_)
    have H := H h4 eh4 Xh4
    have La0_h4 := La0_h.ext Xh4
    refine mx_iinc (al' := [some (rv a0), some (iv x1), some (iv x2), some (iv x3), some (iv x4), some (iv x5), some (iv x6), some (iv (x7 + (1 : Int32))), none]) dX8_send_56 rfl ic_1 rfl ?_
    refine mx_goto (tgt := 35) dX8_send_59 rfl ?_
    exact mx_weak (al' := [some (rv a0), some (iv x1), some (iv x2), some (iv x3), some (iv x4), some (iv x5), some (iv x6), some (iv (x7 + (1 : Int32))), none]) ⟨rfl, ⟨rfl, ⟨rfl, ⟨rfl, ⟨rfl, ⟨rfl, ⟨rfl, ⟨rfl, trivial⟩⟩⟩⟩⟩⟩⟩⟩ H
theorem v_X8_send_65 {G : ma_G} {d : Nat} {a0 : Nat} {x2 : Int32} {x3 : Int32} {x4 : Int32} {x5 : Int32} {x6 : Int32} {x7 : Int32} {h : ah_T} {Q : Option ma_V → ah_T → Prop} {E : Nat → ah_T → Prop} (La0_h : LY8 h a0) (H : (x4 ≤ x7 → MX G mi_X8_send (d + 1) 108 [some (rv a0), none, some (iv x2), none, some (iv x4), some (iv x5), some (iv x6), some (iv (0 : Int32)), none] [] h Q E) ∧ (¬ x4 ≤ x7 → vp_in (((40 : Int32) * x3) + x7) 160 ∧ vp_in x7 4 ∧ ∀ h4 : ah_T, h4 = ah_wI h (a0 + 72) x7.toNatClampNeg (ah_J h (a0 + 3) (((40 : Int32) * x3) + x7).toNatClampNeg).toInt32 → ah_ext h h4 → MX G mi_X8_send (d + 1) 65 [some (rv a0), none, some (iv x2), some (iv x3), some (iv x4), some (iv x5), some (iv (x6 + (ah_J h (a0 + 3) (((40 : Int32) * x3) + x7).toNatClampNeg).toInt32)), some (iv (x7 + (1 : Int32))), none] [] h4 Q E)) : MX G mi_X8_send (d + 1) 65 [some (rv a0), none, some (iv x2), some (iv x3), some (iv x4), some (iv x5), some (iv x6), some (iv x7), none] [] h Q E := by
  refine mx_iload dX8_send_65 rfl ?_
  refine mx_iload dX8_send_67 rfl ?_
  refine mx_icmp_ge (tgt := 105) dX8_send_69 rfl (fun c1 => ?_) (fun c1 => ?_)
  · have H := H.1 c1
    refine mx_iconst dX8_send_105 ic_0 ?_
    refine mx_istore (al' := [some (rv a0), none, some (iv x2), some (iv x3), some (iv x4), some (iv x5), some (iv x6), some (iv (0 : Int32)), none]) dX8_send_106 (Nat.le_of_ble_eq_true rfl) rfl ?_
    exact mx_weak (al' := [some (rv a0), none, some (iv x2), none, some (iv x4), some (iv x5), some (iv x6), some (iv (0 : Int32)), none]) ⟨rfl, ⟨rfl, ⟨rfl, ⟨rfl, ⟨rfl, ⟨rfl, trivial⟩⟩⟩⟩⟩⟩ H
  · have H := H.2 c1
    refine mx_aload_n dX8_send_72 rfl rfl ?_
    refine mx_get 8 101 (ref := "PrairiePoolModel") cl_8 (Nat.le_of_ble_eq_true rfl) (Or.inl q1728) (Or.inl rfl) dX8_send_73 (fv_8_101 _ _) (ly8_k La0_h) ?_
    refine mx_tr (ly8_R_0_101 La0_h) ?_
    refine mx_iload dX8_send_76 rfl ?_
    refine mx_aload_n dX8_send_78 rfl rfl ?_
    refine mx_iload_n dX8_send_79 rfl rfl ?_
    refine mx_iload dX8_send_80 rfl ?_
    refine mx_callV 8 (y' := mi_X8_numberOf) (vs := [iv x3, iv x7]) (st := [iv x7, rv (a0 + 72)]) (al' := [some (rv a0), some (iv x3), some (iv x7)]) cl_8 V_X8_numberOf (Or.inl q2432) dX8_send_82 rfl rfl (Nat.le_of_ble_eq_true rfl) (Nat.le_of_ble_eq_true rfl) (ly8_k La0_h) ?_
    refine mx_aload_n dX8_numberOf_0 rfl rfl ?_
    refine mx_get 8 4 (ref := "PrairiePoolModel") cl_8 (Nat.le_of_ble_eq_true rfl) (Or.inl q1631) (Or.inl rfl) dX8_numberOf_1 (fv_8_4 _ _) (ly8_k La0_h) ?_
    refine mx_tr (ly8_R_0_4 La0_h) ?_
    refine mx_bipush dX8_numberOf_4 ib_40 ?_
    refine mx_iload_n dX8_numberOf_6 rfl rfl ?_
    refine mx_imul dX8_numberOf_7 ?_
    refine mx_iload_n dX8_numberOf_8 rfl rfl ?_
    refine mx_iadd dX8_numberOf_9 ?_
    obtain ⟨k2, H⟩ := H
    refine my_lald dX8_numberOf_10 rfl (ly8_A_3 La0_h k2) ?_
    refine mx_lretK rfl dX8_numberOf_11 ?_
    refine mx_l2i dX8_send_85 ?_
    obtain ⟨k3, H⟩ := H
    refine my_iast dX8_send_86 rfl (ly8_A_72 La0_h k3) ?_
    refine mx_nmI  (fun h4 eh4 Xh4 Kh4 Lh4 => ?_)
    have H := H h4 eh4 Xh4
    have La0_h4 := La0_h.ext Xh4
    refine mx_iload dX8_send_87 rfl ?_
    refine mx_aload_n dX8_send_89 rfl rfl ?_
    refine mx_get 8 101 (ref := "PrairiePoolModel") cl_8 (Nat.le_of_ble_eq_true rfl) (Or.inl q1728) (Or.inl rfl) dX8_send_90 (fv_8_101 _ _) (ly8_k La0_h4) ?_
    refine mx_tr (ly8_R_0_101 La0_h4) ?_
    refine mx_iload dX8_send_93 rfl ?_
    refine my_iald dX8_send_95 rfl (ly8_A_72 La0_h4 k3) ?_
    refine mx_ti (ah_hitI eh4) ?_
    refine mx_iadd dX8_send_96 ?_
    refine mx_istore (al' := [some (rv a0), none, some (iv x2), some (iv x3), some (iv x4), some (iv x5), some (iv (x6 + (ah_J h (a0 + 3) (((40 : Int32) * x3) + x7).toNatClampNeg).toInt32)), some (iv x7), none]) dX8_send_97 (Nat.le_of_ble_eq_true rfl) rfl ?_
    refine mx_iinc (al' := [some (rv a0), none, some (iv x2), some (iv x3), some (iv x4), some (iv x5), some (iv (x6 + (ah_J h (a0 + 3) (((40 : Int32) * x3) + x7).toNatClampNeg).toInt32)), some (iv (x7 + (1 : Int32))), none]) dX8_send_99 rfl ic_1 rfl ?_
    refine mx_goto (tgt := 65) dX8_send_102 rfl ?_
    exact mx_weak (al' := [some (rv a0), none, some (iv x2), some (iv x3), some (iv x4), some (iv x5), some (iv (x6 + (ah_J h (a0 + 3) (((40 : Int32) * x3) + x7).toNatClampNeg).toInt32)), some (iv (x7 + (1 : Int32))), none]) ⟨rfl, ⟨rfl, ⟨rfl, ⟨rfl, ⟨rfl, ⟨rfl, ⟨rfl, trivial⟩⟩⟩⟩⟩⟩⟩ H
theorem v_X8_send_108 {G : ma_G} {d : Nat} {a0 : Nat} {x2 : Int32} {x4 : Int32} {x5 : Int32} {x6 : Int32} {x7 : Int32} {h : ah_T} {Q : Option ma_V → ah_T → Prop} {E : Nat → ah_T → Prop} (La0_h : LY8 h a0) (H : ((x2 * x4) ≤ x7 → MX G mi_X8_send (d + 1) 153 [some (rv a0), none, some (iv x2), none, some (iv x4), none, some (iv x6), some (iv (0 : Int32)), some (iv (0 : Int32))] [] h Q E) ∧ (¬ (x2 * x4) ≤ x7 → vp_in (((40 : Int32) * x5) + x7) 160 ∧ vp_in x7 20 ∧ ∀ h4 : ah_T, h4 = ah_wI h (a0 + 73) x7.toNatClampNeg (ah_J h (a0 + 3) (((40 : Int32) * x5) + x7).toNatClampNeg).toInt32 → ah_ext h h4 → ∀ h5 : ah_T, h5 = ah_wI h4 (a0 + 74) x7.toNatClampNeg (0 : Int32) → ah_ext h4 h5 → MX G mi_X8_send (d + 1) 108 [some (rv a0), none, some (iv x2), none, some (iv x4), some (iv x5), some (iv x6), some (iv (x7 + (1 : Int32))), none] [] h5 Q E)) : MX G mi_X8_send (d + 1) 108 [some (rv a0), none, some (iv x2), none, some (iv x4), some (iv x5), some (iv x6), some (iv x7), none] [] h Q E := by
  refine mx_iload dX8_send_108 rfl ?_
  refine mx_iload_n dX8_send_110 rfl rfl ?_
  refine mx_iload dX8_send_111 rfl ?_
  refine mx_imul dX8_send_113 ?_
  refine mx_icmp_ge (tgt := 147) dX8_send_114 rfl (fun c1 => ?_) (fun c1 => ?_)
  · have H := H.1 c1
    refine mx_iconst dX8_send_147 ic_0 ?_
    refine mx_istore (al' := [some (rv a0), none, some (iv x2), none, some (iv x4), some (iv x5), some (iv x6), some (iv (0 : Int32)), none]) dX8_send_148 (Nat.le_of_ble_eq_true rfl) rfl ?_
    refine mx_iconst dX8_send_150 ic_0 ?_
    refine mx_istore (al' := [some (rv a0), none, some (iv x2), none, some (iv x4), some (iv x5), some (iv x6), some (iv (0 : Int32)), some (iv (0 : Int32))]) dX8_send_151 (Nat.le_of_ble_eq_true rfl) rfl ?_
    exact mx_weak (al' := [some (rv a0), none, some (iv x2), none, some (iv x4), none, some (iv x6), some (iv (0 : Int32)), some (iv (0 : Int32))]) ⟨rfl, ⟨rfl, ⟨rfl, ⟨rfl, ⟨rfl, ⟨rfl, trivial⟩⟩⟩⟩⟩⟩ H
  · have H := H.2 c1
    refine mx_aload_n dX8_send_117 rfl rfl ?_
    refine mx_get 8 102 (ref := "PrairiePoolModel") cl_8 (Nat.le_of_ble_eq_true rfl) (Or.inl q1729) (Or.inl rfl) dX8_send_118 (fv_8_102 _ _) (ly8_k La0_h) ?_
    refine mx_tr (ly8_R_0_102 La0_h) ?_
    refine mx_iload dX8_send_121 rfl ?_
    refine mx_aload_n dX8_send_123 rfl rfl ?_
    refine mx_iload dX8_send_124 rfl ?_
    refine mx_iload dX8_send_126 rfl ?_
    refine mx_callV 8 (y' := mi_X8_numberOf) (vs := [iv x5, iv x7]) (st := [iv x7, rv (a0 + 73)]) (al' := [some (rv a0), some (iv x5), some (iv x7)]) cl_8 V_X8_numberOf (Or.inl q2432) dX8_send_128 rfl rfl (Nat.le_of_ble_eq_true rfl) (Nat.le_of_ble_eq_true rfl) (ly8_k La0_h) ?_
    refine mx_aload_n dX8_numberOf_0 rfl rfl ?_
    refine mx_get 8 4 (ref := "PrairiePoolModel") cl_8 (Nat.le_of_ble_eq_true rfl) (Or.inl q1631) (Or.inl rfl) dX8_numberOf_1 (fv_8_4 _ _) (ly8_k La0_h) ?_
    refine mx_tr (ly8_R_0_4 La0_h) ?_
    refine mx_bipush dX8_numberOf_4 ib_40 ?_
    refine mx_iload_n dX8_numberOf_6 rfl rfl ?_
    refine mx_imul dX8_numberOf_7 ?_
    refine mx_iload_n dX8_numberOf_8 rfl rfl ?_
    refine mx_iadd dX8_numberOf_9 ?_
    obtain ⟨k2, H⟩ := H
    refine my_lald dX8_numberOf_10 rfl (ly8_A_3 La0_h k2) ?_
    refine mx_lretK rfl dX8_numberOf_11 ?_
    refine mx_l2i dX8_send_131 ?_
    obtain ⟨k3, H⟩ := H
    refine my_iast dX8_send_132 rfl (ly8_A_73 La0_h k3) ?_
    refine mx_nmI  (fun h4 eh4 Xh4 Kh4 Lh4 => ?_)
    have H := H h4 eh4 Xh4
    have La0_h4 := La0_h.ext Xh4
    refine mx_aload_n dX8_send_133 rfl rfl ?_
    refine mx_get 8 103 (ref := "PrairiePoolModel") cl_8 (Nat.le_of_ble_eq_true rfl) (Or.inl q1730) (Or.inl rfl) dX8_send_134 (fv_8_103 _ _) (ly8_k La0_h4) ?_
    refine mx_tr (ly8_R_0_103 La0_h4) ?_
    refine mx_iload dX8_send_137 rfl ?_
    refine mx_iconst dX8_send_139 ic_0 ?_
    refine my_iast dX8_send_140 rfl (ly8_A_74 La0_h4 k3) ?_
    refine mx_nmI  (fun h5 eh5 Xh5 Kh5 Lh5 => ?_)
    have H := H h5 eh5 Xh5
    have Kh5 := Kh5.trans Kh4
    have Lh5 := Lh5.trans Lh4
    have La0_h5 := La0_h4.ext Xh5
    refine mx_iinc (al' := [some (rv a0), none, some (iv x2), none, some (iv x4), some (iv x5), some (iv x6), some (iv (x7 + (1 : Int32))), none]) dX8_send_141 rfl ic_1 rfl ?_
    refine mx_goto (tgt := 108) dX8_send_144 rfl ?_
    exact mx_weak (al' := [some (rv a0), none, some (iv x2), none, some (iv x4), some (iv x5), some (iv x6), some (iv (x7 + (1 : Int32))), none]) ⟨rfl, ⟨rfl, ⟨rfl, ⟨rfl, ⟨rfl, ⟨rfl, trivial⟩⟩⟩⟩⟩⟩ H
theorem v_X8_send_153 {G : ma_G} {d : Nat} {a0 : Nat} {x2 : Int32} {x4 : Int32} {x6 : Int32} {x7 : Int32} {x8 : Int32} {h : ah_T} {Q : Option ma_V → ah_T → Prop} {E : Nat → ah_T → Prop} (La0_h : LY8 h a0) (H : (x6 ≤ x8 → Q (some (iv x7)) h) ∧ (¬ x6 ≤ x8 → MX G mi_X8_bushel d 0 [some (rv a0), some (iv x2), some (iv x4), none, none, none, none, none] [] h (Qi fun r3 h2 => ah_ext h h2 → MX G mi_X8_send (d + 1) 153 [some (rv a0), none, some (iv x2), none, some (iv x4), none, some (iv x6), some (iv (x7 + r3)), some (iv (x8 + (1 : Int32)))] [] h2 Q E) E)) : MX G mi_X8_send (d + 1) 153 [some (rv a0), none, some (iv x2), none, some (iv x4), none, some (iv x6), some (iv x7), some (iv x8)] [] h Q E := by
  refine mx_iload dX8_send_153 rfl ?_
  refine mx_iload dX8_send_155 rfl ?_
  refine mx_icmp_ge (tgt := 178) dX8_send_157 rfl (fun c1 => ?_) (fun c1 => ?_)
  · have H := H.1 c1
    refine mx_iload dX8_send_178 rfl ?_
    exact mx_iret rfl dX8_send_180 H
  · have H := H.2 c1
    refine mx_iload dX8_send_160 rfl ?_
    refine mx_aload_n dX8_send_162 rfl rfl ?_
    refine mx_iload_n dX8_send_163 rfl rfl ?_
    refine mx_iload dX8_send_164 rfl ?_
    refine mx_callV 8 (y' := mi_X8_bushel) (vs := [iv x2, iv x4]) (st := [iv x7]) (al' := [some (rv a0), some (iv x2), some (iv x4), none, none, none, none, none]) cl_8 V_X8_bushel (Or.inl q2454) dX8_send_166 rfl rfl (Nat.le_of_ble_eq_true rfl) (Nat.le_of_ble_eq_true rfl) (ly8_k La0_h) ?_
    refine ma_ki H (fun r3 h2 Xh2 H => ?_) (fun x1 h1 X1 H => mt_out rfl H)
    have H := H Xh2
    have La0_h2 := La0_h.ext Xh2
    refine mx_iadd dX8_send_169 ?_
    refine mx_istore (al' := [some (rv a0), none, some (iv x2), none, some (iv x4), none, some (iv x6), some (iv (x7 + r3)), some (iv x8)]) dX8_send_170 (Nat.le_of_ble_eq_true rfl) rfl ?_
    refine mx_iinc (al' := [some (rv a0), none, some (iv x2), none, some (iv x4), none, some (iv x6), some (iv (x7 + r3)), some (iv (x8 + (1 : Int32)))]) dX8_send_172 rfl ic_1 rfl ?_
    refine mx_goto (tgt := 153) dX8_send_175 rfl ?_
    exact mx_weak (al' := [some (rv a0), none, some (iv x2), none, some (iv x4), none, some (iv x6), some (iv (x7 + r3)), some (iv (x8 + (1 : Int32)))]) ⟨rfl, ⟨rfl, ⟨rfl, ⟨rfl, ⟨rfl, ⟨rfl, trivial⟩⟩⟩⟩⟩⟩ H
theorem dX8_asksSend_0 : decode mi_X8_asksSend.2.1 0 = .ok (.iload_n 1, 1) := by decide +kernel
theorem dX8_asksSend_1 : decode mi_X8_asksSend.2.1 1 = .ok (.i2l, 1) := by decide +kernel
theorem dX8_asksSend_2 : decode mi_X8_asksSend.2.1 2 = .ok (.lconst 0, 1) := by decide +kernel
theorem dX8_asksSend_3 : decode mi_X8_asksSend.2.1 3 = .ok (.ldc2_w 408, 3) := by decide +kernel
theorem dX8_asksSend_6 : decode mi_X8_asksSend.2.1 6 = .ok (.invokestatic 265, 3) := by decide +kernel
theorem dX8_asksSend_9 : decode mi_X8_asksSend.2.1 9 = .ok (.ifCond .eq 28, 3) := by decide +kernel
theorem dX8_asksSend_12 : decode mi_X8_asksSend.2.1 12 = .ok (.iload_n 3, 1) := by decide +kernel
theorem dX8_asksSend_13 : decode mi_X8_asksSend.2.1 13 = .ok (.i2l, 1) := by decide +kernel
theorem dX8_asksSend_14 : decode mi_X8_asksSend.2.1 14 = .ok (.lconst 0, 1) := by decide +kernel
theorem dX8_asksSend_15 : decode mi_X8_asksSend.2.1 15 = .ok (.ldc2_w 408, 3) := by decide +kernel
theorem dX8_asksSend_18 : decode mi_X8_asksSend.2.1 18 = .ok (.invokestatic 265, 3) := by decide +kernel
theorem dX8_asksSend_21 : decode mi_X8_asksSend.2.1 21 = .ok (.ifCond .eq 16, 3) := by decide +kernel
theorem dX8_asksSend_24 : decode mi_X8_asksSend.2.1 24 = .ok (.iload 5, 2) := by decide +kernel
theorem dX8_asksSend_26 : decode mi_X8_asksSend.2.1 26 = .ok (.i2l, 1) := by decide +kernel
theorem dX8_asksSend_27 : decode mi_X8_asksSend.2.1 27 = .ok (.lconst 0, 1) := by decide +kernel
theorem dX8_asksSend_28 : decode mi_X8_asksSend.2.1 28 = .ok (.ldc2_w 408, 3) := by decide +kernel
theorem dX8_asksSend_31 : decode mi_X8_asksSend.2.1 31 = .ok (.invokestatic 265, 3) := by decide +kernel
theorem dX8_asksSend_34 : decode mi_X8_asksSend.2.1 34 = .ok (.ifCond .ne 5, 3) := by decide +kernel
theorem dX8_asksSend_37 : decode mi_X8_asksSend.2.1 37 = .ok (.iconst 1, 1) := by decide +kernel
theorem dX8_asksSend_38 : decode mi_X8_asksSend.2.1 38 = .ok (.ireturn, 1) := by decide +kernel
theorem dX8_asksSend_39 : decode mi_X8_asksSend.2.1 39 = .ok (.aload_n 0, 1) := by decide +kernel
theorem dX8_asksSend_40 : decode mi_X8_asksSend.2.1 40 = .ok (.getfield 13, 3) := by decide +kernel
theorem dX8_asksSend_43 : decode mi_X8_asksSend.2.1 43 = .ok (.iload_n 1, 1) := by decide +kernel
theorem dX8_asksSend_44 : decode mi_X8_asksSend.2.1 44 = .ok (.iaload, 1) := by decide +kernel
theorem dX8_asksSend_45 : decode mi_X8_asksSend.2.1 45 = .ok (.ifCond .lt 22, 3) := by decide +kernel
theorem dX8_asksSend_48 : decode mi_X8_asksSend.2.1 48 = .ok (.aload_n 0, 1) := by decide +kernel
theorem dX8_asksSend_49 : decode mi_X8_asksSend.2.1 49 = .ok (.getfield 13, 3) := by decide +kernel
theorem dX8_asksSend_52 : decode mi_X8_asksSend.2.1 52 = .ok (.iload_n 3, 1) := by decide +kernel
theorem dX8_asksSend_53 : decode mi_X8_asksSend.2.1 53 = .ok (.iaload, 1) := by decide +kernel
theorem dX8_asksSend_54 : decode mi_X8_asksSend.2.1 54 = .ok (.ifCond .lt 13, 3) := by decide +kernel
theorem dX8_asksSend_57 : decode mi_X8_asksSend.2.1 57 = .ok (.aload_n 0, 1) := by decide +kernel
theorem dX8_asksSend_58 : decode mi_X8_asksSend.2.1 58 = .ok (.getfield 13, 3) := by decide +kernel
theorem dX8_asksSend_61 : decode mi_X8_asksSend.2.1 61 = .ok (.iload 5, 2) := by decide +kernel
theorem dX8_asksSend_63 : decode mi_X8_asksSend.2.1 63 = .ok (.iaload, 1) := by decide +kernel
theorem dX8_asksSend_64 : decode mi_X8_asksSend.2.1 64 = .ok (.ifCond .ge 5, 3) := by decide +kernel
theorem dX8_asksSend_67 : decode mi_X8_asksSend.2.1 67 = .ok (.iconst 3, 1) := by decide +kernel
theorem dX8_asksSend_68 : decode mi_X8_asksSend.2.1 68 = .ok (.ireturn, 1) := by decide +kernel
theorem dX8_asksSend_69 : decode mi_X8_asksSend.2.1 69 = .ok (.iload_n 2, 1) := by decide +kernel
theorem dX8_asksSend_70 : decode mi_X8_asksSend.2.1 70 = .ok (.i2l, 1) := by decide +kernel
theorem dX8_asksSend_71 : decode mi_X8_asksSend.2.1 71 = .ok (.lconst 1, 1) := by decide +kernel
theorem dX8_asksSend_72 : decode mi_X8_asksSend.2.1 72 = .ok (.ldc2_w 271, 3) := by decide +kernel
theorem dX8_asksSend_75 : decode mi_X8_asksSend.2.1 75 = .ok (.invokestatic 265, 3) := by decide +kernel
theorem dX8_asksSend_78 : decode mi_X8_asksSend.2.1 78 = .ok (.ifCond .eq 16, 3) := by decide +kernel
theorem dX8_asksSend_81 : decode mi_X8_asksSend.2.1 81 = .ok (.iload 4, 2) := by decide +kernel
theorem dX8_asksSend_83 : decode mi_X8_asksSend.2.1 83 = .ok (.i2l, 1) := by decide +kernel
theorem dX8_asksSend_84 : decode mi_X8_asksSend.2.1 84 = .ok (.lconst 1, 1) := by decide +kernel
theorem dX8_asksSend_85 : decode mi_X8_asksSend.2.1 85 = .ok (.ldc2_w 406, 3) := by decide +kernel
theorem dX8_asksSend_88 : decode mi_X8_asksSend.2.1 88 = .ok (.invokestatic 265, 3) := by decide +kernel
theorem dX8_asksSend_91 : decode mi_X8_asksSend.2.1 91 = .ok (.ifCond .ne 5, 3) := by decide +kernel
theorem dX8_asksSend_94 : decode mi_X8_asksSend.2.1 94 = .ok (.iconst 5, 1) := by decide +kernel
theorem dX8_asksSend_95 : decode mi_X8_asksSend.2.1 95 = .ok (.ireturn, 1) := by decide +kernel
theorem dX8_asksSend_96 : decode mi_X8_asksSend.2.1 96 = .ok (.aload_n 0, 1) := by decide +kernel
theorem dX8_asksSend_97 : decode mi_X8_asksSend.2.1 97 = .ok (.getfield 13, 3) := by decide +kernel
theorem dX8_asksSend_100 : decode mi_X8_asksSend.2.1 100 = .ok (.iload_n 1, 1) := by decide +kernel
theorem dX8_asksSend_101 : decode mi_X8_asksSend.2.1 101 = .ok (.iaload, 1) := by decide +kernel
theorem dX8_asksSend_102 : decode mi_X8_asksSend.2.1 102 = .ok (.iload_n 2, 1) := by decide +kernel
theorem dX8_asksSend_103 : decode mi_X8_asksSend.2.1 103 = .ok (.if_icmp .lt 28, 3) := by decide +kernel
theorem dX8_asksSend_106 : decode mi_X8_asksSend.2.1 106 = .ok (.aload_n 0, 1) := by decide +kernel
theorem dX8_asksSend_107 : decode mi_X8_asksSend.2.1 107 = .ok (.getfield 13, 3) := by decide +kernel
theorem dX8_asksSend_110 : decode mi_X8_asksSend.2.1 110 = .ok (.iload_n 3, 1) := by decide +kernel
theorem dX8_asksSend_111 : decode mi_X8_asksSend.2.1 111 = .ok (.iaload, 1) := by decide +kernel
theorem dX8_asksSend_112 : decode mi_X8_asksSend.2.1 112 = .ok (.iload 4, 2) := by decide +kernel
theorem dX8_asksSend_114 : decode mi_X8_asksSend.2.1 114 = .ok (.if_icmp .lt 17, 3) := by decide +kernel
theorem dX8_asksSend_117 : decode mi_X8_asksSend.2.1 117 = .ok (.aload_n 0, 1) := by decide +kernel
theorem dX8_asksSend_118 : decode mi_X8_asksSend.2.1 118 = .ok (.getfield 13, 3) := by decide +kernel
theorem dX8_asksSend_121 : decode mi_X8_asksSend.2.1 121 = .ok (.iload 5, 2) := by decide +kernel
theorem dX8_asksSend_123 : decode mi_X8_asksSend.2.1 123 = .ok (.iaload, 1) := by decide +kernel
theorem dX8_asksSend_124 : decode mi_X8_asksSend.2.1 124 = .ok (.iload_n 2, 1) := by decide +kernel
theorem dX8_asksSend_125 : decode mi_X8_asksSend.2.1 125 = .ok (.iload 4, 2) := by decide +kernel
theorem dX8_asksSend_127 : decode mi_X8_asksSend.2.1 127 = .ok (.imul, 1) := by decide +kernel
theorem dX8_asksSend_128 : decode mi_X8_asksSend.2.1 128 = .ok (.if_icmp .ge 5, 3) := by decide +kernel
theorem dX8_asksSend_131 : decode mi_X8_asksSend.2.1 131 = .ok (.iconst 4, 1) := by decide +kernel
theorem dX8_asksSend_132 : decode mi_X8_asksSend.2.1 132 = .ok (.ireturn, 1) := by decide +kernel
theorem dX8_asksSend_133 : decode mi_X8_asksSend.2.1 133 = .ok (.iconst 0, 1) := by decide +kernel
theorem dX8_asksSend_134 : decode mi_X8_asksSend.2.1 134 = .ok (.istore 6, 2) := by decide +kernel
theorem dX8_asksSend_136 : decode mi_X8_asksSend.2.1 136 = .ok (.iload 6, 2) := by decide +kernel
theorem dX8_asksSend_138 : decode mi_X8_asksSend.2.1 138 = .ok (.iload_n 2, 1) := by decide +kernel
theorem dX8_asksSend_139 : decode mi_X8_asksSend.2.1 139 = .ok (.if_icmp .ge 28, 3) := by decide +kernel
theorem dX8_asksSend_142 : decode mi_X8_asksSend.2.1 142 = .ok (.aload_n 0, 1) := by decide +kernel
theorem dX8_asksSend_143 : decode mi_X8_asksSend.2.1 143 = .ok (.iload_n 1, 1) := by decide +kernel
theorem dX8_asksSend_144 : decode mi_X8_asksSend.2.1 144 = .ok (.iload 6, 2) := by decide +kernel
theorem dX8_asksSend_146 : decode mi_X8_asksSend.2.1 146 = .ok (.invokevirtual 658, 3) := by decide +kernel
theorem dX8_asksSend_149 : decode mi_X8_asksSend.2.1 149 = .ok (.lconst 0, 1) := by decide +kernel
theorem dX8_asksSend_150 : decode mi_X8_asksSend.2.1 150 = .ok (.ldc2_w 671, 3) := by decide +kernel
theorem dX8_asksSend_153 : decode mi_X8_asksSend.2.1 153 = .ok (.invokestatic 265, 3) := by decide +kernel
theorem dX8_asksSend_156 : decode mi_X8_asksSend.2.1 156 = .ok (.ifCond .ne 5, 3) := by decide +kernel
theorem dX8_asksSend_159 : decode mi_X8_asksSend.2.1 159 = .ok (.iconst 5, 1) := by decide +kernel
theorem dX8_asksSend_160 : decode mi_X8_asksSend.2.1 160 = .ok (.ireturn, 1) := by decide +kernel
theorem dX8_asksSend_161 : decode mi_X8_asksSend.2.1 161 = .ok (.iinc 6 1, 3) := by decide +kernel
theorem dX8_asksSend_164 : decode mi_X8_asksSend.2.1 164 = .ok (.goto (-28), 3) := by decide +kernel
theorem dX8_asksSend_167 : decode mi_X8_asksSend.2.1 167 = .ok (.iconst 0, 1) := by decide +kernel
theorem dX8_asksSend_168 : decode mi_X8_asksSend.2.1 168 = .ok (.istore 6, 2) := by decide +kernel
theorem dX8_asksSend_170 : decode mi_X8_asksSend.2.1 170 = .ok (.iload 6, 2) := by decide +kernel
theorem dX8_asksSend_172 : decode mi_X8_asksSend.2.1 172 = .ok (.iload 4, 2) := by decide +kernel
theorem dX8_asksSend_174 : decode mi_X8_asksSend.2.1 174 = .ok (.if_icmp .ge 28, 3) := by decide +kernel
theorem dX8_asksSend_177 : decode mi_X8_asksSend.2.1 177 = .ok (.aload_n 0, 1) := by decide +kernel
theorem dX8_asksSend_178 : decode mi_X8_asksSend.2.1 178 = .ok (.iload_n 3, 1) := by decide +kernel
theorem dX8_asksSend_179 : decode mi_X8_asksSend.2.1 179 = .ok (.iload 6, 2) := by decide +kernel
theorem dX8_asksSend_181 : decode mi_X8_asksSend.2.1 181 = .ok (.invokevirtual 658, 3) := by decide +kernel
theorem dX8_asksSend_184 : decode mi_X8_asksSend.2.1 184 = .ok (.lconst 0, 1) := by decide +kernel
theorem dX8_asksSend_185 : decode mi_X8_asksSend.2.1 185 = .ok (.ldc2_w 671, 3) := by decide +kernel
theorem dX8_asksSend_188 : decode mi_X8_asksSend.2.1 188 = .ok (.invokestatic 265, 3) := by decide +kernel
theorem dX8_asksSend_191 : decode mi_X8_asksSend.2.1 191 = .ok (.ifCond .ne 5, 3) := by decide +kernel
theorem dX8_asksSend_194 : decode mi_X8_asksSend.2.1 194 = .ok (.iconst 5, 1) := by decide +kernel
theorem dX8_asksSend_195 : decode mi_X8_asksSend.2.1 195 = .ok (.ireturn, 1) := by decide +kernel
theorem dX8_asksSend_196 : decode mi_X8_asksSend.2.1 196 = .ok (.iinc 6 1, 3) := by decide +kernel
theorem dX8_asksSend_199 : decode mi_X8_asksSend.2.1 199 = .ok (.goto (-29), 3) := by decide +kernel
theorem dX8_asksSend_202 : decode mi_X8_asksSend.2.1 202 = .ok (.iconst 0, 1) := by decide +kernel
theorem dX8_asksSend_203 : decode mi_X8_asksSend.2.1 203 = .ok (.istore 6, 2) := by decide +kernel
theorem dX8_asksSend_205 : decode mi_X8_asksSend.2.1 205 = .ok (.iload 6, 2) := by decide +kernel
theorem dX8_asksSend_207 : decode mi_X8_asksSend.2.1 207 = .ok (.iload_n 2, 1) := by decide +kernel
theorem dX8_asksSend_208 : decode mi_X8_asksSend.2.1 208 = .ok (.iload 4, 2) := by decide +kernel
theorem dX8_asksSend_210 : decode mi_X8_asksSend.2.1 210 = .ok (.imul, 1) := by decide +kernel
theorem dX8_asksSend_211 : decode mi_X8_asksSend.2.1 211 = .ok (.if_icmp .ge 29, 3) := by decide +kernel
theorem dX8_asksSend_214 : decode mi_X8_asksSend.2.1 214 = .ok (.aload_n 0, 1) := by decide +kernel
theorem dX8_asksSend_215 : decode mi_X8_asksSend.2.1 215 = .ok (.iload 5, 2) := by decide +kernel
theorem dX8_asksSend_217 : decode mi_X8_asksSend.2.1 217 = .ok (.iload 6, 2) := by decide +kernel
theorem dX8_asksSend_219 : decode mi_X8_asksSend.2.1 219 = .ok (.invokevirtual 658, 3) := by decide +kernel
theorem dX8_asksSend_222 : decode mi_X8_asksSend.2.1 222 = .ok (.lconst 0, 1) := by decide +kernel
theorem dX8_asksSend_223 : decode mi_X8_asksSend.2.1 223 = .ok (.ldc2_w 636, 3) := by decide +kernel
theorem dX8_asksSend_226 : decode mi_X8_asksSend.2.1 226 = .ok (.invokestatic 265, 3) := by decide +kernel
theorem dX8_asksSend_229 : decode mi_X8_asksSend.2.1 229 = .ok (.ifCond .ne 5, 3) := by decide +kernel
theorem dX8_asksSend_232 : decode mi_X8_asksSend.2.1 232 = .ok (.iconst 5, 1) := by decide +kernel
theorem dX8_asksSend_233 : decode mi_X8_asksSend.2.1 233 = .ok (.ireturn, 1) := by decide +kernel
theorem dX8_asksSend_234 : decode mi_X8_asksSend.2.1 234 = .ok (.iinc 6 1, 3) := by decide +kernel
theorem dX8_asksSend_237 : decode mi_X8_asksSend.2.1 237 = .ok (.goto (-32), 3) := by decide +kernel
theorem dX8_asksSend_240 : decode mi_X8_asksSend.2.1 240 = .ok (.lconst 0, 1) := by decide +kernel
theorem dX8_asksSend_241 : decode mi_X8_asksSend.2.1 241 = .ok (.lstore 6, 2) := by decide +kernel
theorem dX8_asksSend_243 : decode mi_X8_asksSend.2.1 243 = .ok (.iconst 0, 1) := by decide +kernel
theorem dX8_asksSend_244 : decode mi_X8_asksSend.2.1 244 = .ok (.istore 8, 2) := by decide +kernel
theorem dX8_asksSend_246 : decode mi_X8_asksSend.2.1 246 = .ok (.iload 8, 2) := by decide +kernel
theorem dX8_asksSend_248 : decode mi_X8_asksSend.2.1 248 = .ok (.iload_n 2, 1) := by decide +kernel
theorem dX8_asksSend_249 : decode mi_X8_asksSend.2.1 249 = .ok (.if_icmp .ge 21, 3) := by decide +kernel
theorem dX8_asksSend_252 : decode mi_X8_asksSend.2.1 252 = .ok (.lload 6, 2) := by decide +kernel
theorem dX8_asksSend_254 : decode mi_X8_asksSend.2.1 254 = .ok (.aload_n 0, 1) := by decide +kernel
theorem dX8_asksSend_255 : decode mi_X8_asksSend.2.1 255 = .ok (.iload_n 1, 1) := by decide +kernel
theorem dX8_asksSend_256 : decode mi_X8_asksSend.2.1 256 = .ok (.iload 8, 2) := by decide +kernel
theorem dX8_asksSend_258 : decode mi_X8_asksSend.2.1 258 = .ok (.invokevirtual 658, 3) := by decide +kernel
theorem dX8_asksSend_261 : decode mi_X8_asksSend.2.1 261 = .ok (.ladd, 1) := by decide +kernel
theorem dX8_asksSend_262 : decode mi_X8_asksSend.2.1 262 = .ok (.lstore 6, 2) := by decide +kernel
theorem dX8_asksSend_264 : decode mi_X8_asksSend.2.1 264 = .ok (.iinc 8 1, 3) := by decide +kernel
theorem dX8_asksSend_267 : decode mi_X8_asksSend.2.1 267 = .ok (.goto (-21), 3) := by decide +kernel
theorem dX8_asksSend_270 : decode mi_X8_asksSend.2.1 270 = .ok (.iconst 0, 1) := by decide +kernel
theorem dX8_asksSend_271 : decode mi_X8_asksSend.2.1 271 = .ok (.istore 8, 2) := by decide +kernel
theorem dX8_asksSend_273 : decode mi_X8_asksSend.2.1 273 = .ok (.iload 8, 2) := by decide +kernel
theorem dX8_asksSend_275 : decode mi_X8_asksSend.2.1 275 = .ok (.iload 4, 2) := by decide +kernel
theorem dX8_asksSend_277 : decode mi_X8_asksSend.2.1 277 = .ok (.if_icmp .ge 21, 3) := by decide +kernel
theorem dX8_asksSend_280 : decode mi_X8_asksSend.2.1 280 = .ok (.lload 6, 2) := by decide +kernel
theorem dX8_asksSend_282 : decode mi_X8_asksSend.2.1 282 = .ok (.aload_n 0, 1) := by decide +kernel
theorem dX8_asksSend_283 : decode mi_X8_asksSend.2.1 283 = .ok (.iload_n 3, 1) := by decide +kernel
theorem dX8_asksSend_284 : decode mi_X8_asksSend.2.1 284 = .ok (.iload 8, 2) := by decide +kernel
theorem dX8_asksSend_286 : decode mi_X8_asksSend.2.1 286 = .ok (.invokevirtual 658, 3) := by decide +kernel
theorem dX8_asksSend_289 : decode mi_X8_asksSend.2.1 289 = .ok (.lsub, 1) := by decide +kernel
theorem dX8_asksSend_290 : decode mi_X8_asksSend.2.1 290 = .ok (.lstore 6, 2) := by decide +kernel
theorem dX8_asksSend_292 : decode mi_X8_asksSend.2.1 292 = .ok (.iinc 8 1, 3) := by decide +kernel
theorem dX8_asksSend_295 : decode mi_X8_asksSend.2.1 295 = .ok (.goto (-22), 3) := by decide +kernel
theorem dX8_asksSend_298 : decode mi_X8_asksSend.2.1 298 = .ok (.lload 6, 2) := by decide +kernel
theorem dX8_asksSend_300 : decode mi_X8_asksSend.2.1 300 = .ok (.lconst 0, 1) := by decide +kernel
theorem dX8_asksSend_301 : decode mi_X8_asksSend.2.1 301 = .ok (.lcmp, 1) := by decide +kernel
theorem dX8_asksSend_302 : decode mi_X8_asksSend.2.1 302 = .ok (.ifCond .ge 8, 3) := by decide +kernel
theorem dX8_asksSend_305 : decode mi_X8_asksSend.2.1 305 = .ok (.bipush 9, 2) := by decide +kernel
theorem dX8_asksSend_307 : decode mi_X8_asksSend.2.1 307 = .ok (.goto 4, 3) := by decide +kernel
theorem dX8_asksSend_310 : decode mi_X8_asksSend.2.1 310 = .ok (.iconst 0, 1) := by decide +kernel
theorem dX8_asksSend_311 : decode mi_X8_asksSend.2.1 311 = .ok (.ireturn, 1) := by decide +kernel
theorem v_X8_asksSend {G : ma_G} {d : Nat} {a0 : Nat} {x1 : Int32} {x2 : Int32} {x3 : Int32} {x4 : Int32} {x5 : Int32} {h : ah_T} {Q : Option ma_V → ah_T → Prop} {E : Nat → ah_T → Prop} (La0_h : LY8 h a0) (H : (x1.toInt64 < (0 : Int64) → Q (some (iv (1 : Int32))) h) ∧ (¬ x1.toInt64 < (0 : Int64) → ((3 : Int64) < x1.toInt64 → Q (some (iv (1 : Int32))) h) ∧ (¬ (3 : Int64) < x1.toInt64 → (x3.toInt64 < (0 : Int64) → Q (some (iv (1 : Int32))) h) ∧ (¬ x3.toInt64 < (0 : Int64) → ((3 : Int64) < x3.toInt64 → Q (some (iv (1 : Int32))) h) ∧ (¬ (3 : Int64) < x3.toInt64 → (x5.toInt64 < (0 : Int64) → Q (some (iv (1 : Int32))) h) ∧ (¬ x5.toInt64 < (0 : Int64) → ((3 : Int64) < x5.toInt64 → Q (some (iv (1 : Int32))) h) ∧ (¬ (3 : Int64) < x5.toInt64 → vp_in x1 4 ∧ ((ah_I h (a0 + 2) x1.toNatClampNeg) < 0 → Q (some (iv (3 : Int32))) h) ∧ (¬ (ah_I h (a0 + 2) x1.toNatClampNeg) < 0 → vp_in x3 4 ∧ ((ah_I h (a0 + 2) x3.toNatClampNeg) < 0 → Q (some (iv (3 : Int32))) h) ∧ (¬ (ah_I h (a0 + 2) x3.toNatClampNeg) < 0 → vp_in x5 4 ∧ (0 ≤ (ah_I h (a0 + 2) x5.toNatClampNeg) → (x2.toInt64 < (1 : Int64) → Q (some (iv (5 : Int32))) h) ∧ (¬ x2.toInt64 < (1 : Int64) → ((5 : Int64) < x2.toInt64 → Q (some (iv (5 : Int32))) h) ∧ (¬ (5 : Int64) < x2.toInt64 → (x4.toInt64 < (1 : Int64) → Q (some (iv (5 : Int32))) h) ∧ (¬ x4.toInt64 < (1 : Int64) → ((4 : Int64) < x4.toInt64 → Q (some (iv (5 : Int32))) h) ∧ (¬ (4 : Int64) < x4.toInt64 → ((ah_I h (a0 + 2) x1.toNatClampNeg) < x2 → Q (some (iv (4 : Int32))) h) ∧ (¬ (ah_I h (a0 + 2) x1.toNatClampNeg) < x2 → ((ah_I h (a0 + 2) x3.toNatClampNeg) < x4 → Q (some (iv (4 : Int32))) h) ∧ (¬ (ah_I h (a0 + 2) x3.toNatClampNeg) < x4 → ((x2 * x4) ≤ (ah_I h (a0 + 2) x5.toNatClampNeg) → MX G mi_X8_asksSend (d + 1) 136 [some (rv a0), some (iv x1), some (iv x2), some (iv x3), some (iv x4), some (iv x5), some (iv (0 : Int32)), none, none] [] h Q E) ∧ (¬ (x2 * x4) ≤ (ah_I h (a0 + 2) x5.toNatClampNeg) → Q (some (iv (4 : Int32))) h)))))))) ∧ (¬ 0 ≤ (ah_I h (a0 + 2) x5.toNatClampNeg) → Q (some (iv (3 : Int32))) h)))))))))) : MX G mi_X8_asksSend (d + 1) 0 [some (rv a0), some (iv x1), some (iv x2), some (iv x3), some (iv x4), some (iv x5), none, none, none] [] h Q E := by
  refine mx_iload_n dX8_asksSend_0 rfl rfl ?_
  refine mx_i2l dX8_asksSend_1 ?_
  refine mx_lconst dX8_asksSend_2 lc_0 ?_
  refine mx_ldc2 q2157 dX8_asksSend_3 ?_
  refine mx_callS (y' := mi_X8_isIn) (vs := [jv x1.toInt64, jv (0 : Int64), jv (3 : Int64)]) (st := []) (al' := [some (jv x1.toInt64), none, some (jv (0 : Int64)), none, some (jv (3 : Int64)), none]) S_X8_isIn q1996 dX8_asksSend_6 rfl rfl (Nat.le_of_ble_eq_true rfl) (Nat.le_of_ble_eq_true rfl) ?_
  refine mx_lload_n dX8_isIn_0 rfl rfl ?_
  refine mx_lload_n dX8_isIn_1 rfl rfl ?_
  refine mx_lif_lt (tgt := 17) dX8_isIn_2 dX8_isIn_3 rfl (fun c1 => ?_) (fun c1 => ?_)
  · have H := H.1 c1
    refine mx_iconst dX8_isIn_17 ic_0 ?_
    refine mx_zretK rfl dX8_isIn_18 (Or.inl rfl) ?_
    refine mx_if_eq (tgt := 37) dX8_asksSend_9 rfl (fun _ => ?_) (fun _ => absurd ‹_› (by decide))
    refine mx_iconst dX8_asksSend_37 ic_1 ?_
    exact mx_iret rfl dX8_asksSend_38 H
  · have H := H.2 c1
    refine mx_lload_n dX8_isIn_6 rfl rfl ?_
    refine mx_lload dX8_isIn_7 rfl ?_
    refine mx_lif_gt (tgt := 17) dX8_isIn_9 dX8_isIn_10 rfl (fun c2 => ?_) (fun c2 => ?_)
    · have H := H.1 c2
      refine mx_iconst dX8_isIn_17 ic_0 ?_
      refine mx_zretK rfl dX8_isIn_18 (Or.inl rfl) ?_
      refine mx_if_eq (tgt := 37) dX8_asksSend_9 rfl (fun _ => ?_) (fun _ => absurd ‹_› (by decide))
      refine mx_iconst dX8_asksSend_37 ic_1 ?_
      exact mx_iret rfl dX8_asksSend_38 H
    · have H := H.2 c2
      refine mx_iconst dX8_isIn_13 ic_1 ?_
      refine mx_goto (tgt := 18) dX8_isIn_14 rfl ?_
      refine mx_zretK rfl dX8_isIn_18 (Or.inr rfl) ?_
      refine mx_if_eq (tgt := 37) dX8_asksSend_9 rfl (fun _ => absurd ‹_› (by decide)) (fun _ => ?_)
      refine mx_iload_n dX8_asksSend_12 rfl rfl ?_
      refine mx_i2l dX8_asksSend_13 ?_
      refine mx_lconst dX8_asksSend_14 lc_0 ?_
      refine mx_ldc2 q2157 dX8_asksSend_15 ?_
      refine mx_callS (y' := mi_X8_isIn) (vs := [jv x3.toInt64, jv (0 : Int64), jv (3 : Int64)]) (st := []) (al' := [some (jv x3.toInt64), none, some (jv (0 : Int64)), none, some (jv (3 : Int64)), none]) S_X8_isIn q1996 dX8_asksSend_18 rfl rfl (Nat.le_of_ble_eq_true rfl) (Nat.le_of_ble_eq_true rfl) ?_
      refine mx_lload_n dX8_isIn_0 rfl rfl ?_
      refine mx_lload_n dX8_isIn_1 rfl rfl ?_
      refine mx_lif_lt (tgt := 17) dX8_isIn_2 dX8_isIn_3 rfl (fun c3 => ?_) (fun c3 => ?_)
      · have H := H.1 c3
        refine mx_iconst dX8_isIn_17 ic_0 ?_
        refine mx_zretK rfl dX8_isIn_18 (Or.inl rfl) ?_
        refine mx_if_eq (tgt := 37) dX8_asksSend_21 rfl (fun _ => ?_) (fun _ => absurd ‹_› (by decide))
        refine mx_iconst dX8_asksSend_37 ic_1 ?_
        exact mx_iret rfl dX8_asksSend_38 H
      · have H := H.2 c3
        refine mx_lload_n dX8_isIn_6 rfl rfl ?_
        refine mx_lload dX8_isIn_7 rfl ?_
        refine mx_lif_gt (tgt := 17) dX8_isIn_9 dX8_isIn_10 rfl (fun c4 => ?_) (fun c4 => ?_)
        · have H := H.1 c4
          refine mx_iconst dX8_isIn_17 ic_0 ?_
          refine mx_zretK rfl dX8_isIn_18 (Or.inl rfl) ?_
          refine mx_if_eq (tgt := 37) dX8_asksSend_21 rfl (fun _ => ?_) (fun _ => absurd ‹_› (by decide))
          refine mx_iconst dX8_asksSend_37 ic_1 ?_
          exact mx_iret rfl dX8_asksSend_38 H
        · have H := H.2 c4
          refine mx_iconst dX8_isIn_13 ic_1 ?_
          refine mx_goto (tgt := 18) dX8_isIn_14 rfl ?_
          refine mx_zretK rfl dX8_isIn_18 (Or.inr rfl) ?_
          refine mx_if_eq (tgt := 37) dX8_asksSend_21 rfl (fun _ => absurd ‹_› (by decide)) (fun _ => ?_)
          refine mx_iload dX8_asksSend_24 rfl ?_
          refine mx_i2l dX8_asksSend_26 ?_
          refine mx_lconst dX8_asksSend_27 lc_0 ?_
          refine mx_ldc2 q2157 dX8_asksSend_28 ?_
          refine mx_callS (y' := mi_X8_isIn) (vs := [jv x5.toInt64, jv (0 : Int64), jv (3 : Int64)]) (st := []) (al' := [some (jv x5.toInt64), none, some (jv (0 : Int64)), none, some (jv (3 : Int64)), none]) S_X8_isIn q1996 dX8_asksSend_31 rfl rfl (Nat.le_of_ble_eq_true rfl) (Nat.le_of_ble_eq_true rfl) ?_
          refine mx_lload_n dX8_isIn_0 rfl rfl ?_
          refine mx_lload_n dX8_isIn_1 rfl rfl ?_
          refine mx_lif_lt (tgt := 17) dX8_isIn_2 dX8_isIn_3 rfl (fun c5 => ?_) (fun c5 => ?_)
          · have H := H.1 c5
            refine mx_iconst dX8_isIn_17 ic_0 ?_
            refine mx_zretK rfl dX8_isIn_18 (Or.inl rfl) ?_
            refine mx_if_ne (tgt := 39) dX8_asksSend_34 rfl (fun _ => absurd ‹_› (by decide)) (fun _ => ?_)
            refine mx_iconst dX8_asksSend_37 ic_1 ?_
            exact mx_iret rfl dX8_asksSend_38 H
          · have H := H.2 c5
            refine mx_lload_n dX8_isIn_6 rfl rfl ?_
            refine mx_lload dX8_isIn_7 rfl ?_
            refine mx_lif_gt (tgt := 17) dX8_isIn_9 dX8_isIn_10 rfl (fun c6 => ?_) (fun c6 => ?_)
            · have H := H.1 c6
              refine mx_iconst dX8_isIn_17 ic_0 ?_
              refine mx_zretK rfl dX8_isIn_18 (Or.inl rfl) ?_
              refine mx_if_ne (tgt := 39) dX8_asksSend_34 rfl (fun _ => absurd ‹_› (by decide)) (fun _ => ?_)
              refine mx_iconst dX8_asksSend_37 ic_1 ?_
              exact mx_iret rfl dX8_asksSend_38 H
            · have H := H.2 c6
              refine mx_iconst dX8_isIn_13 ic_1 ?_
              refine mx_goto (tgt := 18) dX8_isIn_14 rfl ?_
              refine mx_zretK rfl dX8_isIn_18 (Or.inr rfl) ?_
              refine mx_if_ne (tgt := 39) dX8_asksSend_34 rfl (fun _ => ?_) (fun _ => absurd ‹_› (by decide))
              refine mx_aload_n dX8_asksSend_39 rfl rfl ?_
              refine mx_get 8 3 (ref := "PrairiePoolModel") cl_8 (Nat.le_of_ble_eq_true rfl) (Or.inl q1630) (Or.inl rfl) dX8_asksSend_40 (fv_8_3 _ _) (ly8_k La0_h) ?_
              refine mx_tr (ly8_R_0_3 La0_h) ?_
              refine mx_iload_n dX8_asksSend_43 rfl rfl ?_
              obtain ⟨k7, H⟩ := H
              refine my_iald dX8_asksSend_44 rfl (ly8_A_2 La0_h k7) ?_
              refine mx_if_lt (tgt := 67) dX8_asksSend_45 rfl (fun c8 => ?_) (fun c8 => ?_)
              · have H := H.1 c8
                refine mx_iconst dX8_asksSend_67 ic_3 ?_
                exact mx_iret rfl dX8_asksSend_68 H
              · have H := H.2 c8
                refine mx_aload_n dX8_asksSend_48 rfl rfl ?_
                refine mx_get 8 3 (ref := "PrairiePoolModel") cl_8 (Nat.le_of_ble_eq_true rfl) (Or.inl q1630) (Or.inl rfl) dX8_asksSend_49 (fv_8_3 _ _) (ly8_k La0_h) ?_
                refine mx_tr (ly8_R_0_3 La0_h) ?_
                refine mx_iload_n dX8_asksSend_52 rfl rfl ?_
                obtain ⟨k9, H⟩ := H
                refine my_iald dX8_asksSend_53 rfl (ly8_A_2 La0_h k9) ?_
                refine mx_if_lt (tgt := 67) dX8_asksSend_54 rfl (fun c10 => ?_) (fun c10 => ?_)
                · have H := H.1 c10
                  refine mx_iconst dX8_asksSend_67 ic_3 ?_
                  exact mx_iret rfl dX8_asksSend_68 H
                · have H := H.2 c10
                  refine mx_aload_n dX8_asksSend_57 rfl rfl ?_
                  refine mx_get 8 3 (ref := "PrairiePoolModel") cl_8 (Nat.le_of_ble_eq_true rfl) (Or.inl q1630) (Or.inl rfl) dX8_asksSend_58 (fv_8_3 _ _) (ly8_k La0_h) ?_
                  refine mx_tr (ly8_R_0_3 La0_h) ?_
                  refine mx_iload dX8_asksSend_61 rfl ?_
                  obtain ⟨k11, H⟩ := H
                  refine my_iald dX8_asksSend_63 rfl (ly8_A_2 La0_h k11) ?_
                  refine mx_if_ge (tgt := 69) dX8_asksSend_64 rfl (fun c12 => ?_) (fun c12 => ?_)
                  · have H := H.1 c12
                    refine mx_iload_n dX8_asksSend_69 rfl rfl ?_
                    refine mx_i2l dX8_asksSend_70 ?_
                    refine mx_lconst dX8_asksSend_71 lc_1 ?_
                    refine mx_ldc2 q1995 dX8_asksSend_72 ?_
                    refine mx_callS (y' := mi_X8_isIn) (vs := [jv x2.toInt64, jv (1 : Int64), jv (5 : Int64)]) (st := []) (al' := [some (jv x2.toInt64), none, some (jv (1 : Int64)), none, some (jv (5 : Int64)), none]) S_X8_isIn q1996 dX8_asksSend_75 rfl rfl (Nat.le_of_ble_eq_true rfl) (Nat.le_of_ble_eq_true rfl) ?_
                    refine mx_lload_n dX8_isIn_0 rfl rfl ?_
                    refine mx_lload_n dX8_isIn_1 rfl rfl ?_
                    refine mx_lif_lt (tgt := 17) dX8_isIn_2 dX8_isIn_3 rfl (fun c13 => ?_) (fun c13 => ?_)
                    · have H := H.1 c13
                      refine mx_iconst dX8_isIn_17 ic_0 ?_
                      refine mx_zretK rfl dX8_isIn_18 (Or.inl rfl) ?_
                      refine mx_if_eq (tgt := 94) dX8_asksSend_78 rfl (fun _ => ?_) (fun _ => absurd ‹_› (by decide))
                      refine mx_iconst dX8_asksSend_94 ic_5 ?_
                      exact mx_iret rfl dX8_asksSend_95 H
                    · have H := H.2 c13
                      refine mx_lload_n dX8_isIn_6 rfl rfl ?_
                      refine mx_lload dX8_isIn_7 rfl ?_
                      refine mx_lif_gt (tgt := 17) dX8_isIn_9 dX8_isIn_10 rfl (fun c14 => ?_) (fun c14 => ?_)
                      · have H := H.1 c14
                        refine mx_iconst dX8_isIn_17 ic_0 ?_
                        refine mx_zretK rfl dX8_isIn_18 (Or.inl rfl) ?_
                        refine mx_if_eq (tgt := 94) dX8_asksSend_78 rfl (fun _ => ?_) (fun _ => absurd ‹_› (by decide))
                        refine mx_iconst dX8_asksSend_94 ic_5 ?_
                        exact mx_iret rfl dX8_asksSend_95 H
                      · have H := H.2 c14
                        refine mx_iconst dX8_isIn_13 ic_1 ?_
                        refine mx_goto (tgt := 18) dX8_isIn_14 rfl ?_
                        refine mx_zretK rfl dX8_isIn_18 (Or.inr rfl) ?_
                        refine mx_if_eq (tgt := 94) dX8_asksSend_78 rfl (fun _ => absurd ‹_› (by decide)) (fun _ => ?_)
                        refine mx_iload dX8_asksSend_81 rfl ?_
                        refine mx_i2l dX8_asksSend_83 ?_
                        refine mx_lconst dX8_asksSend_84 lc_1 ?_
                        refine mx_ldc2 q2156 dX8_asksSend_85 ?_
                        refine mx_callS (y' := mi_X8_isIn) (vs := [jv x4.toInt64, jv (1 : Int64), jv (4 : Int64)]) (st := []) (al' := [some (jv x4.toInt64), none, some (jv (1 : Int64)), none, some (jv (4 : Int64)), none]) S_X8_isIn q1996 dX8_asksSend_88 rfl rfl (Nat.le_of_ble_eq_true rfl) (Nat.le_of_ble_eq_true rfl) ?_
                        refine mx_lload_n dX8_isIn_0 rfl rfl ?_
                        refine mx_lload_n dX8_isIn_1 rfl rfl ?_
                        refine mx_lif_lt (tgt := 17) dX8_isIn_2 dX8_isIn_3 rfl (fun c15 => ?_) (fun c15 => ?_)
                        · have H := H.1 c15
                          refine mx_iconst dX8_isIn_17 ic_0 ?_
                          refine mx_zretK rfl dX8_isIn_18 (Or.inl rfl) ?_
                          refine mx_if_ne (tgt := 96) dX8_asksSend_91 rfl (fun _ => absurd ‹_› (by decide)) (fun _ => ?_)
                          refine mx_iconst dX8_asksSend_94 ic_5 ?_
                          exact mx_iret rfl dX8_asksSend_95 H
                        · have H := H.2 c15
                          refine mx_lload_n dX8_isIn_6 rfl rfl ?_
                          refine mx_lload dX8_isIn_7 rfl ?_
                          refine mx_lif_gt (tgt := 17) dX8_isIn_9 dX8_isIn_10 rfl (fun c16 => ?_) (fun c16 => ?_)
                          · have H := H.1 c16
                            refine mx_iconst dX8_isIn_17 ic_0 ?_
                            refine mx_zretK rfl dX8_isIn_18 (Or.inl rfl) ?_
                            refine mx_if_ne (tgt := 96) dX8_asksSend_91 rfl (fun _ => absurd ‹_› (by decide)) (fun _ => ?_)
                            refine mx_iconst dX8_asksSend_94 ic_5 ?_
                            exact mx_iret rfl dX8_asksSend_95 H
                          · have H := H.2 c16
                            refine mx_iconst dX8_isIn_13 ic_1 ?_
                            refine mx_goto (tgt := 18) dX8_isIn_14 rfl ?_
                            refine mx_zretK rfl dX8_isIn_18 (Or.inr rfl) ?_
                            refine mx_if_ne (tgt := 96) dX8_asksSend_91 rfl (fun _ => ?_) (fun _ => absurd ‹_› (by decide))
                            refine mx_aload_n dX8_asksSend_96 rfl rfl ?_
                            refine mx_get 8 3 (ref := "PrairiePoolModel") cl_8 (Nat.le_of_ble_eq_true rfl) (Or.inl q1630) (Or.inl rfl) dX8_asksSend_97 (fv_8_3 _ _) (ly8_k La0_h) ?_
                            refine mx_tr (ly8_R_0_3 La0_h) ?_
                            refine mx_iload_n dX8_asksSend_100 rfl rfl ?_
                            refine my_iald dX8_asksSend_101 rfl (ly8_A_2 La0_h k7) ?_
                            refine mx_iload_n dX8_asksSend_102 rfl rfl ?_
                            refine mx_icmp_lt (tgt := 131) dX8_asksSend_103 rfl (fun c17 => ?_) (fun c17 => ?_)
                            · have H := H.1 c17
                              refine mx_iconst dX8_asksSend_131 ic_4 ?_
                              exact mx_iret rfl dX8_asksSend_132 H
                            · have H := H.2 c17
                              refine mx_aload_n dX8_asksSend_106 rfl rfl ?_
                              refine mx_get 8 3 (ref := "PrairiePoolModel") cl_8 (Nat.le_of_ble_eq_true rfl) (Or.inl q1630) (Or.inl rfl) dX8_asksSend_107 (fv_8_3 _ _) (ly8_k La0_h) ?_
                              refine mx_tr (ly8_R_0_3 La0_h) ?_
                              refine mx_iload_n dX8_asksSend_110 rfl rfl ?_
                              refine my_iald dX8_asksSend_111 rfl (ly8_A_2 La0_h k9) ?_
                              refine mx_iload dX8_asksSend_112 rfl ?_
                              refine mx_icmp_lt (tgt := 131) dX8_asksSend_114 rfl (fun c18 => ?_) (fun c18 => ?_)
                              · have H := H.1 c18
                                refine mx_iconst dX8_asksSend_131 ic_4 ?_
                                exact mx_iret rfl dX8_asksSend_132 H
                              · have H := H.2 c18
                                refine mx_aload_n dX8_asksSend_117 rfl rfl ?_
                                refine mx_get 8 3 (ref := "PrairiePoolModel") cl_8 (Nat.le_of_ble_eq_true rfl) (Or.inl q1630) (Or.inl rfl) dX8_asksSend_118 (fv_8_3 _ _) (ly8_k La0_h) ?_
                                refine mx_tr (ly8_R_0_3 La0_h) ?_
                                refine mx_iload dX8_asksSend_121 rfl ?_
                                refine my_iald dX8_asksSend_123 rfl (ly8_A_2 La0_h k11) ?_
                                refine mx_iload_n dX8_asksSend_124 rfl rfl ?_
                                refine mx_iload dX8_asksSend_125 rfl ?_
                                refine mx_imul dX8_asksSend_127 ?_
                                refine mx_icmp_ge (tgt := 133) dX8_asksSend_128 rfl (fun c19 => ?_) (fun c19 => ?_)
                                · have H := H.1 c19
                                  refine mx_iconst dX8_asksSend_133 ic_0 ?_
                                  refine mx_istore (al' := [some (rv a0), some (iv x1), some (iv x2), some (iv x3), some (iv x4), some (iv x5), some (iv (0 : Int32)), none, none]) dX8_asksSend_134 (Nat.le_of_ble_eq_true rfl) rfl ?_
                                  exact mx_weak (al' := [some (rv a0), some (iv x1), some (iv x2), some (iv x3), some (iv x4), some (iv x5), some (iv (0 : Int32)), none, none]) ⟨rfl, ⟨rfl, ⟨rfl, ⟨rfl, ⟨rfl, ⟨rfl, ⟨rfl, trivial⟩⟩⟩⟩⟩⟩⟩ H
                                · have H := H.2 c19
                                  refine mx_iconst dX8_asksSend_131 ic_4 ?_
                                  exact mx_iret rfl dX8_asksSend_132 H
                  · have H := H.2 c12
                    refine mx_iconst dX8_asksSend_67 ic_3 ?_
                    exact mx_iret rfl dX8_asksSend_68 H
theorem v_X8_asksSend_136 {G : ma_G} {d : Nat} {a0 : Nat} {x1 : Int32} {x2 : Int32} {x3 : Int32} {x4 : Int32} {x5 : Int32} {x6 : Int32} {h : ah_T} {Q : Option ma_V → ah_T → Prop} {E : Nat → ah_T → Prop} (La0_h : LY8 h a0) (H : (x2 ≤ x6 → MX G mi_X8_asksSend (d + 1) 170 [some (rv a0), some (iv x1), some (iv x2), some (iv x3), some (iv x4), some (iv x5), some (iv (0 : Int32)), none, none] [] h Q E) ∧ (¬ x2 ≤ x6 → vp_in (((40 : Int32) * x1) + x6) 160 ∧ ((ah_J h (a0 + 3) (((40 : Int32) * x1) + x6).toNatClampNeg) < (0 : Int64) → Q (some (iv (5 : Int32))) h) ∧ (¬ (ah_J h (a0 + 3) (((40 : Int32) * x1) + x6).toNatClampNeg) < (0 : Int64) → ((30 : Int64) < (ah_J h (a0 + 3) (((40 : Int32) * x1) + x6).toNatClampNeg) → Q (some (iv (5 : Int32))) h) ∧ (¬ (30 : Int64) < (ah_J h (a0 + 3) (((40 : Int32) * x1) + x6).toNatClampNeg) → MX G mi_X8_asksSend (d + 1) 136 [some (rv a0), some (iv x1), some (iv x2), some (iv x3), some (iv x4), some (iv x5), some (iv (x6 + (1 : Int32))), none, none] [] h Q E)))) : MX G mi_X8_asksSend (d + 1) 136 [some (rv a0), some (iv x1), some (iv x2), some (iv x3), some (iv x4), some (iv x5), some (iv x6), none, none] [] h Q E := by
  refine mx_iload dX8_asksSend_136 rfl ?_
  refine mx_iload_n dX8_asksSend_138 rfl rfl ?_
  refine mx_icmp_ge (tgt := 167) dX8_asksSend_139 rfl (fun c1 => ?_) (fun c1 => ?_)
  · have H := H.1 c1
    refine mx_iconst dX8_asksSend_167 ic_0 ?_
    refine mx_istore (al' := [some (rv a0), some (iv x1), some (iv x2), some (iv x3), some (iv x4), some (iv x5), some (iv (0 : Int32)), none, none]) dX8_asksSend_168 (Nat.le_of_ble_eq_true rfl) rfl ?_
    exact mx_weak (al' := [some (rv a0), some (iv x1), some (iv x2), some (iv x3), some (iv x4), some (iv x5), some (iv (0 : Int32)), none, none]) ⟨rfl, ⟨rfl, ⟨rfl, ⟨rfl, ⟨rfl, ⟨rfl, ⟨rfl, trivial⟩⟩⟩⟩⟩⟩⟩ H
  · have H := H.2 c1
    refine mx_aload_n dX8_asksSend_142 rfl rfl ?_
    refine mx_iload_n dX8_asksSend_143 rfl rfl ?_
    refine mx_iload dX8_asksSend_144 rfl ?_
    refine mx_callV 8 (y' := mi_X8_numberOf) (vs := [iv x1, iv x6]) (st := []) (al' := [some (rv a0), some (iv x1), some (iv x6)]) cl_8 V_X8_numberOf (Or.inl q2432) dX8_asksSend_146 rfl rfl (Nat.le_of_ble_eq_true rfl) (Nat.le_of_ble_eq_true rfl) (ly8_k La0_h) ?_
    refine mx_aload_n dX8_numberOf_0 rfl rfl ?_
    refine mx_get 8 4 (ref := "PrairiePoolModel") cl_8 (Nat.le_of_ble_eq_true rfl) (Or.inl q1631) (Or.inl rfl) dX8_numberOf_1 (fv_8_4 _ _) (ly8_k La0_h) ?_
    refine mx_tr (ly8_R_0_4 La0_h) ?_
    refine mx_bipush dX8_numberOf_4 ib_40 ?_
    refine mx_iload_n dX8_numberOf_6 rfl rfl ?_
    refine mx_imul dX8_numberOf_7 ?_
    refine mx_iload_n dX8_numberOf_8 rfl rfl ?_
    refine mx_iadd dX8_numberOf_9 ?_
    obtain ⟨k2, H⟩ := H
    refine my_lald dX8_numberOf_10 rfl (ly8_A_3 La0_h k2) ?_
    refine mx_lretK rfl dX8_numberOf_11 ?_
    refine mx_lconst dX8_asksSend_149 lc_0 ?_
    refine mx_ldc2 q2453 dX8_asksSend_150 ?_
    refine mx_callS (y' := mi_X8_isIn) (vs := [jv (ah_J h (a0 + 3) (((40 : Int32) * x1) + x6).toNatClampNeg), jv (0 : Int64), jv (30 : Int64)]) (st := []) (al' := [some (jv (ah_J h (a0 + 3) (((40 : Int32) * x1) + x6).toNatClampNeg)), none, some (jv (0 : Int64)), none, some (jv (30 : Int64)), none]) S_X8_isIn q1996 dX8_asksSend_153 rfl rfl (Nat.le_of_ble_eq_true rfl) (Nat.le_of_ble_eq_true rfl) ?_
    refine mx_lload_n dX8_isIn_0 rfl rfl ?_
    refine mx_lload_n dX8_isIn_1 rfl rfl ?_
    refine mx_lif_lt (tgt := 17) dX8_isIn_2 dX8_isIn_3 rfl (fun c3 => ?_) (fun c3 => ?_)
    · have H := H.1 c3
      refine mx_iconst dX8_isIn_17 ic_0 ?_
      refine mx_zretK rfl dX8_isIn_18 (Or.inl rfl) ?_
      refine mx_if_ne (tgt := 161) dX8_asksSend_156 rfl (fun _ => absurd ‹_› (by decide)) (fun _ => ?_)
      refine mx_iconst dX8_asksSend_159 ic_5 ?_
      exact mx_iret rfl dX8_asksSend_160 H
    · have H := H.2 c3
      refine mx_lload_n dX8_isIn_6 rfl rfl ?_
      refine mx_lload dX8_isIn_7 rfl ?_
      refine mx_lif_gt (tgt := 17) dX8_isIn_9 dX8_isIn_10 rfl (fun c4 => ?_) (fun c4 => ?_)
      · have H := H.1 c4
        refine mx_iconst dX8_isIn_17 ic_0 ?_
        refine mx_zretK rfl dX8_isIn_18 (Or.inl rfl) ?_
        refine mx_if_ne (tgt := 161) dX8_asksSend_156 rfl (fun _ => absurd ‹_› (by decide)) (fun _ => ?_)
        refine mx_iconst dX8_asksSend_159 ic_5 ?_
        exact mx_iret rfl dX8_asksSend_160 H
      · have H := H.2 c4
        refine mx_iconst dX8_isIn_13 ic_1 ?_
        refine mx_goto (tgt := 18) dX8_isIn_14 rfl ?_
        refine mx_zretK rfl dX8_isIn_18 (Or.inr rfl) ?_
        refine mx_if_ne (tgt := 161) dX8_asksSend_156 rfl (fun _ => ?_) (fun _ => absurd ‹_› (by decide))
        refine mx_iinc (al' := [some (rv a0), some (iv x1), some (iv x2), some (iv x3), some (iv x4), some (iv x5), some (iv (x6 + (1 : Int32))), none, none]) dX8_asksSend_161 rfl ic_1 rfl ?_
        refine mx_goto (tgt := 136) dX8_asksSend_164 rfl ?_
        exact mx_weak (al' := [some (rv a0), some (iv x1), some (iv x2), some (iv x3), some (iv x4), some (iv x5), some (iv (x6 + (1 : Int32))), none, none]) ⟨rfl, ⟨rfl, ⟨rfl, ⟨rfl, ⟨rfl, ⟨rfl, ⟨rfl, trivial⟩⟩⟩⟩⟩⟩⟩ H
theorem v_X8_asksSend_170 {G : ma_G} {d : Nat} {a0 : Nat} {x1 : Int32} {x2 : Int32} {x3 : Int32} {x4 : Int32} {x5 : Int32} {x6 : Int32} {h : ah_T} {Q : Option ma_V → ah_T → Prop} {E : Nat → ah_T → Prop} (La0_h : LY8 h a0) (H : (x4 ≤ x6 → MX G mi_X8_asksSend (d + 1) 205 [some (rv a0), some (iv x1), some (iv x2), some (iv x3), some (iv x4), some (iv x5), some (iv (0 : Int32)), none, none] [] h Q E) ∧ (¬ x4 ≤ x6 → vp_in (((40 : Int32) * x3) + x6) 160 ∧ ((ah_J h (a0 + 3) (((40 : Int32) * x3) + x6).toNatClampNeg) < (0 : Int64) → Q (some (iv (5 : Int32))) h) ∧ (¬ (ah_J h (a0 + 3) (((40 : Int32) * x3) + x6).toNatClampNeg) < (0 : Int64) → ((30 : Int64) < (ah_J h (a0 + 3) (((40 : Int32) * x3) + x6).toNatClampNeg) → Q (some (iv (5 : Int32))) h) ∧ (¬ (30 : Int64) < (ah_J h (a0 + 3) (((40 : Int32) * x3) + x6).toNatClampNeg) → MX G mi_X8_asksSend (d + 1) 170 [some (rv a0), some (iv x1), some (iv x2), some (iv x3), some (iv x4), some (iv x5), some (iv (x6 + (1 : Int32))), none, none] [] h Q E)))) : MX G mi_X8_asksSend (d + 1) 170 [some (rv a0), some (iv x1), some (iv x2), some (iv x3), some (iv x4), some (iv x5), some (iv x6), none, none] [] h Q E := by
  refine mx_iload dX8_asksSend_170 rfl ?_
  refine mx_iload dX8_asksSend_172 rfl ?_
  refine mx_icmp_ge (tgt := 202) dX8_asksSend_174 rfl (fun c1 => ?_) (fun c1 => ?_)
  · have H := H.1 c1
    refine mx_iconst dX8_asksSend_202 ic_0 ?_
    refine mx_istore (al' := [some (rv a0), some (iv x1), some (iv x2), some (iv x3), some (iv x4), some (iv x5), some (iv (0 : Int32)), none, none]) dX8_asksSend_203 (Nat.le_of_ble_eq_true rfl) rfl ?_
    exact mx_weak (al' := [some (rv a0), some (iv x1), some (iv x2), some (iv x3), some (iv x4), some (iv x5), some (iv (0 : Int32)), none, none]) ⟨rfl, ⟨rfl, ⟨rfl, ⟨rfl, ⟨rfl, ⟨rfl, ⟨rfl, trivial⟩⟩⟩⟩⟩⟩⟩ H
  · have H := H.2 c1
    refine mx_aload_n dX8_asksSend_177 rfl rfl ?_
    refine mx_iload_n dX8_asksSend_178 rfl rfl ?_
    refine mx_iload dX8_asksSend_179 rfl ?_
    refine mx_callV 8 (y' := mi_X8_numberOf) (vs := [iv x3, iv x6]) (st := []) (al' := [some (rv a0), some (iv x3), some (iv x6)]) cl_8 V_X8_numberOf (Or.inl q2432) dX8_asksSend_181 rfl rfl (Nat.le_of_ble_eq_true rfl) (Nat.le_of_ble_eq_true rfl) (ly8_k La0_h) ?_
    refine mx_aload_n dX8_numberOf_0 rfl rfl ?_
    refine mx_get 8 4 (ref := "PrairiePoolModel") cl_8 (Nat.le_of_ble_eq_true rfl) (Or.inl q1631) (Or.inl rfl) dX8_numberOf_1 (fv_8_4 _ _) (ly8_k La0_h) ?_
    refine mx_tr (ly8_R_0_4 La0_h) ?_
    refine mx_bipush dX8_numberOf_4 ib_40 ?_
    refine mx_iload_n dX8_numberOf_6 rfl rfl ?_
    refine mx_imul dX8_numberOf_7 ?_
    refine mx_iload_n dX8_numberOf_8 rfl rfl ?_
    refine mx_iadd dX8_numberOf_9 ?_
    obtain ⟨k2, H⟩ := H
    refine my_lald dX8_numberOf_10 rfl (ly8_A_3 La0_h k2) ?_
    refine mx_lretK rfl dX8_numberOf_11 ?_
    refine mx_lconst dX8_asksSend_184 lc_0 ?_
    refine mx_ldc2 q2453 dX8_asksSend_185 ?_
    refine mx_callS (y' := mi_X8_isIn) (vs := [jv (ah_J h (a0 + 3) (((40 : Int32) * x3) + x6).toNatClampNeg), jv (0 : Int64), jv (30 : Int64)]) (st := []) (al' := [some (jv (ah_J h (a0 + 3) (((40 : Int32) * x3) + x6).toNatClampNeg)), none, some (jv (0 : Int64)), none, some (jv (30 : Int64)), none]) S_X8_isIn q1996 dX8_asksSend_188 rfl rfl (Nat.le_of_ble_eq_true rfl) (Nat.le_of_ble_eq_true rfl) ?_
    refine mx_lload_n dX8_isIn_0 rfl rfl ?_
    refine mx_lload_n dX8_isIn_1 rfl rfl ?_
    refine mx_lif_lt (tgt := 17) dX8_isIn_2 dX8_isIn_3 rfl (fun c3 => ?_) (fun c3 => ?_)
    · have H := H.1 c3
      refine mx_iconst dX8_isIn_17 ic_0 ?_
      refine mx_zretK rfl dX8_isIn_18 (Or.inl rfl) ?_
      refine mx_if_ne (tgt := 196) dX8_asksSend_191 rfl (fun _ => absurd ‹_› (by decide)) (fun _ => ?_)
      refine mx_iconst dX8_asksSend_194 ic_5 ?_
      exact mx_iret rfl dX8_asksSend_195 H
    · have H := H.2 c3
      refine mx_lload_n dX8_isIn_6 rfl rfl ?_
      refine mx_lload dX8_isIn_7 rfl ?_
      refine mx_lif_gt (tgt := 17) dX8_isIn_9 dX8_isIn_10 rfl (fun c4 => ?_) (fun c4 => ?_)
      · have H := H.1 c4
        refine mx_iconst dX8_isIn_17 ic_0 ?_
        refine mx_zretK rfl dX8_isIn_18 (Or.inl rfl) ?_
        refine mx_if_ne (tgt := 196) dX8_asksSend_191 rfl (fun _ => absurd ‹_› (by decide)) (fun _ => ?_)
        refine mx_iconst dX8_asksSend_194 ic_5 ?_
        exact mx_iret rfl dX8_asksSend_195 H
      · have H := H.2 c4
        refine mx_iconst dX8_isIn_13 ic_1 ?_
        refine mx_goto (tgt := 18) dX8_isIn_14 rfl ?_
        refine mx_zretK rfl dX8_isIn_18 (Or.inr rfl) ?_
        refine mx_if_ne (tgt := 196) dX8_asksSend_191 rfl (fun _ => ?_) (fun _ => absurd ‹_› (by decide))
        refine mx_iinc (al' := [some (rv a0), some (iv x1), some (iv x2), some (iv x3), some (iv x4), some (iv x5), some (iv (x6 + (1 : Int32))), none, none]) dX8_asksSend_196 rfl ic_1 rfl ?_
        refine mx_goto (tgt := 170) dX8_asksSend_199 rfl ?_
        exact mx_weak (al' := [some (rv a0), some (iv x1), some (iv x2), some (iv x3), some (iv x4), some (iv x5), some (iv (x6 + (1 : Int32))), none, none]) ⟨rfl, ⟨rfl, ⟨rfl, ⟨rfl, ⟨rfl, ⟨rfl, ⟨rfl, trivial⟩⟩⟩⟩⟩⟩⟩ H
theorem v_X8_asksSend_205 {G : ma_G} {d : Nat} {a0 : Nat} {x1 : Int32} {x2 : Int32} {x3 : Int32} {x4 : Int32} {x5 : Int32} {x6 : Int32} {h : ah_T} {Q : Option ma_V → ah_T → Prop} {E : Nat → ah_T → Prop} (La0_h : LY8 h a0) (H : ((x2 * x4) ≤ x6 → MX G mi_X8_asksSend (d + 1) 246 [some (rv a0), some (iv x1), some (iv x2), some (iv x3), some (iv x4), none, some (jv (0 : Int64)), none, some (iv (0 : Int32))] [] h Q E) ∧ (¬ (x2 * x4) ≤ x6 → vp_in (((40 : Int32) * x5) + x6) 160 ∧ ((ah_J h (a0 + 3) (((40 : Int32) * x5) + x6).toNatClampNeg) < (0 : Int64) → Q (some (iv (5 : Int32))) h) ∧ (¬ (ah_J h (a0 + 3) (((40 : Int32) * x5) + x6).toNatClampNeg) < (0 : Int64) → ((100 : Int64) < (ah_J h (a0 + 3) (((40 : Int32) * x5) + x6).toNatClampNeg) → Q (some (iv (5 : Int32))) h) ∧ (¬ (100 : Int64) < (ah_J h (a0 + 3) (((40 : Int32) * x5) + x6).toNatClampNeg) → MX G mi_X8_asksSend (d + 1) 205 [some (rv a0), some (iv x1), some (iv x2), some (iv x3), some (iv x4), some (iv x5), some (iv (x6 + (1 : Int32))), none, none] [] h Q E)))) : MX G mi_X8_asksSend (d + 1) 205 [some (rv a0), some (iv x1), some (iv x2), some (iv x3), some (iv x4), some (iv x5), some (iv x6), none, none] [] h Q E := by
  refine mx_iload dX8_asksSend_205 rfl ?_
  refine mx_iload_n dX8_asksSend_207 rfl rfl ?_
  refine mx_iload dX8_asksSend_208 rfl ?_
  refine mx_imul dX8_asksSend_210 ?_
  refine mx_icmp_ge (tgt := 240) dX8_asksSend_211 rfl (fun c1 => ?_) (fun c1 => ?_)
  · have H := H.1 c1
    refine mx_lconst dX8_asksSend_240 lc_0 ?_
    refine mx_lstore (al' := [some (rv a0), some (iv x1), some (iv x2), some (iv x3), some (iv x4), some (iv x5), some (jv (0 : Int64)), none, none]) dX8_asksSend_241 (Nat.le_of_ble_eq_true rfl) rfl ?_
    refine mx_iconst dX8_asksSend_243 ic_0 ?_
    refine mx_istore (al' := [some (rv a0), some (iv x1), some (iv x2), some (iv x3), some (iv x4), some (iv x5), some (jv (0 : Int64)), none, some (iv (0 : Int32))]) dX8_asksSend_244 (Nat.le_of_ble_eq_true rfl) rfl ?_
    exact mx_weak (al' := [some (rv a0), some (iv x1), some (iv x2), some (iv x3), some (iv x4), none, some (jv (0 : Int64)), none, some (iv (0 : Int32))]) ⟨rfl, ⟨rfl, ⟨rfl, ⟨rfl, ⟨rfl, ⟨rfl, ⟨rfl, trivial⟩⟩⟩⟩⟩⟩⟩ H
  · have H := H.2 c1
    refine mx_aload_n dX8_asksSend_214 rfl rfl ?_
    refine mx_iload dX8_asksSend_215 rfl ?_
    refine mx_iload dX8_asksSend_217 rfl ?_
    refine mx_callV 8 (y' := mi_X8_numberOf) (vs := [iv x5, iv x6]) (st := []) (al' := [some (rv a0), some (iv x5), some (iv x6)]) cl_8 V_X8_numberOf (Or.inl q2432) dX8_asksSend_219 rfl rfl (Nat.le_of_ble_eq_true rfl) (Nat.le_of_ble_eq_true rfl) (ly8_k La0_h) ?_
    refine mx_aload_n dX8_numberOf_0 rfl rfl ?_
    refine mx_get 8 4 (ref := "PrairiePoolModel") cl_8 (Nat.le_of_ble_eq_true rfl) (Or.inl q1631) (Or.inl rfl) dX8_numberOf_1 (fv_8_4 _ _) (ly8_k La0_h) ?_
    refine mx_tr (ly8_R_0_4 La0_h) ?_
    refine mx_bipush dX8_numberOf_4 ib_40 ?_
    refine mx_iload_n dX8_numberOf_6 rfl rfl ?_
    refine mx_imul dX8_numberOf_7 ?_
    refine mx_iload_n dX8_numberOf_8 rfl rfl ?_
    refine mx_iadd dX8_numberOf_9 ?_
    obtain ⟨k2, H⟩ := H
    refine my_lald dX8_numberOf_10 rfl (ly8_A_3 La0_h k2) ?_
    refine mx_lretK rfl dX8_numberOf_11 ?_
    refine mx_lconst dX8_asksSend_222 lc_0 ?_
    refine mx_ldc2 q2389 dX8_asksSend_223 ?_
    refine mx_callS (y' := mi_X8_isIn) (vs := [jv (ah_J h (a0 + 3) (((40 : Int32) * x5) + x6).toNatClampNeg), jv (0 : Int64), jv (100 : Int64)]) (st := []) (al' := [some (jv (ah_J h (a0 + 3) (((40 : Int32) * x5) + x6).toNatClampNeg)), none, some (jv (0 : Int64)), none, some (jv (100 : Int64)), none]) S_X8_isIn q1996 dX8_asksSend_226 rfl rfl (Nat.le_of_ble_eq_true rfl) (Nat.le_of_ble_eq_true rfl) ?_
    refine mx_lload_n dX8_isIn_0 rfl rfl ?_
    refine mx_lload_n dX8_isIn_1 rfl rfl ?_
    refine mx_lif_lt (tgt := 17) dX8_isIn_2 dX8_isIn_3 rfl (fun c3 => ?_) (fun c3 => ?_)
    · have H := H.1 c3
      refine mx_iconst dX8_isIn_17 ic_0 ?_
      refine mx_zretK rfl dX8_isIn_18 (Or.inl rfl) ?_
      refine mx_if_ne (tgt := 234) dX8_asksSend_229 rfl (fun _ => absurd ‹_› (by decide)) (fun _ => ?_)
      refine mx_iconst dX8_asksSend_232 ic_5 ?_
      exact mx_iret rfl dX8_asksSend_233 H
    · have H := H.2 c3
      refine mx_lload_n dX8_isIn_6 rfl rfl ?_
      refine mx_lload dX8_isIn_7 rfl ?_
      refine mx_lif_gt (tgt := 17) dX8_isIn_9 dX8_isIn_10 rfl (fun c4 => ?_) (fun c4 => ?_)
      · have H := H.1 c4
        refine mx_iconst dX8_isIn_17 ic_0 ?_
        refine mx_zretK rfl dX8_isIn_18 (Or.inl rfl) ?_
        refine mx_if_ne (tgt := 234) dX8_asksSend_229 rfl (fun _ => absurd ‹_› (by decide)) (fun _ => ?_)
        refine mx_iconst dX8_asksSend_232 ic_5 ?_
        exact mx_iret rfl dX8_asksSend_233 H
      · have H := H.2 c4
        refine mx_iconst dX8_isIn_13 ic_1 ?_
        refine mx_goto (tgt := 18) dX8_isIn_14 rfl ?_
        refine mx_zretK rfl dX8_isIn_18 (Or.inr rfl) ?_
        refine mx_if_ne (tgt := 234) dX8_asksSend_229 rfl (fun _ => ?_) (fun _ => absurd ‹_› (by decide))
        refine mx_iinc (al' := [some (rv a0), some (iv x1), some (iv x2), some (iv x3), some (iv x4), some (iv x5), some (iv (x6 + (1 : Int32))), none, none]) dX8_asksSend_234 rfl ic_1 rfl ?_
        refine mx_goto (tgt := 205) dX8_asksSend_237 rfl ?_
        exact mx_weak (al' := [some (rv a0), some (iv x1), some (iv x2), some (iv x3), some (iv x4), some (iv x5), some (iv (x6 + (1 : Int32))), none, none]) ⟨rfl, ⟨rfl, ⟨rfl, ⟨rfl, ⟨rfl, ⟨rfl, ⟨rfl, trivial⟩⟩⟩⟩⟩⟩⟩ H
theorem v_X8_asksSend_246 {G : ma_G} {d : Nat} {a0 : Nat} {x1 : Int32} {x2 : Int32} {x3 : Int32} {x4 : Int32} {x6 : Int64} {x8 : Int32} {h : ah_T} {Q : Option ma_V → ah_T → Prop} {E : Nat → ah_T → Prop} (La0_h : LY8 h a0) (H : (x2 ≤ x8 → MX G mi_X8_asksSend (d + 1) 273 [some (rv a0), none, none, some (iv x3), some (iv x4), none, some (jv x6), none, some (iv (0 : Int32))] [] h Q E) ∧ (¬ x2 ≤ x8 → vp_in (((40 : Int32) * x1) + x8) 160 ∧ MX G mi_X8_asksSend (d + 1) 246 [some (rv a0), some (iv x1), some (iv x2), some (iv x3), some (iv x4), none, some (jv (x6 + (ah_J h (a0 + 3) (((40 : Int32) * x1) + x8).toNatClampNeg))), none, some (iv (x8 + (1 : Int32)))] [] h Q E)) : MX G mi_X8_asksSend (d + 1) 246 [some (rv a0), some (iv x1), some (iv x2), some (iv x3), some (iv x4), none, some (jv x6), none, some (iv x8)] [] h Q E := by
  refine mx_iload dX8_asksSend_246 rfl ?_
  refine mx_iload_n dX8_asksSend_248 rfl rfl ?_
  refine mx_icmp_ge (tgt := 270) dX8_asksSend_249 rfl (fun c1 => ?_) (fun c1 => ?_)
  · have H := H.1 c1
    refine mx_iconst dX8_asksSend_270 ic_0 ?_
    refine mx_istore (al' := [some (rv a0), some (iv x1), some (iv x2), some (iv x3), some (iv x4), none, some (jv x6), none, some (iv (0 : Int32))]) dX8_asksSend_271 (Nat.le_of_ble_eq_true rfl) rfl ?_
    exact mx_weak (al' := [some (rv a0), none, none, some (iv x3), some (iv x4), none, some (jv x6), none, some (iv (0 : Int32))]) ⟨rfl, ⟨rfl, ⟨rfl, ⟨rfl, ⟨rfl, trivial⟩⟩⟩⟩⟩ H
  · have H := H.2 c1
    refine mx_lload dX8_asksSend_252 rfl ?_
    refine mx_aload_n dX8_asksSend_254 rfl rfl ?_
    refine mx_iload_n dX8_asksSend_255 rfl rfl ?_
    refine mx_iload dX8_asksSend_256 rfl ?_
    refine mx_callV 8 (y' := mi_X8_numberOf) (vs := [iv x1, iv x8]) (st := [jv x6]) (al' := [some (rv a0), some (iv x1), some (iv x8)]) cl_8 V_X8_numberOf (Or.inl q2432) dX8_asksSend_258 rfl rfl (Nat.le_of_ble_eq_true rfl) (Nat.le_of_ble_eq_true rfl) (ly8_k La0_h) ?_
    refine mx_aload_n dX8_numberOf_0 rfl rfl ?_
    refine mx_get 8 4 (ref := "PrairiePoolModel") cl_8 (Nat.le_of_ble_eq_true rfl) (Or.inl q1631) (Or.inl rfl) dX8_numberOf_1 (fv_8_4 _ _) (ly8_k La0_h) ?_
    refine mx_tr (ly8_R_0_4 La0_h) ?_
    refine mx_bipush dX8_numberOf_4 ib_40 ?_
    refine mx_iload_n dX8_numberOf_6 rfl rfl ?_
    refine mx_imul dX8_numberOf_7 ?_
    refine mx_iload_n dX8_numberOf_8 rfl rfl ?_
    refine mx_iadd dX8_numberOf_9 ?_
    obtain ⟨k2, H⟩ := H
    refine my_lald dX8_numberOf_10 rfl (ly8_A_3 La0_h k2) ?_
    refine mx_lretK rfl dX8_numberOf_11 ?_
    refine mx_ladd dX8_asksSend_261 ?_
    refine mx_lstore (al' := [some (rv a0), some (iv x1), some (iv x2), some (iv x3), some (iv x4), none, some (jv (x6 + (ah_J h (a0 + 3) (((40 : Int32) * x1) + x8).toNatClampNeg))), none, some (iv x8)]) dX8_asksSend_262 (Nat.le_of_ble_eq_true rfl) rfl ?_
    refine mx_iinc (al' := [some (rv a0), some (iv x1), some (iv x2), some (iv x3), some (iv x4), none, some (jv (x6 + (ah_J h (a0 + 3) (((40 : Int32) * x1) + x8).toNatClampNeg))), none, some (iv (x8 + (1 : Int32)))]) dX8_asksSend_264 rfl ic_1 rfl ?_
    refine mx_goto (tgt := 246) dX8_asksSend_267 rfl ?_
    exact mx_weak (al' := [some (rv a0), some (iv x1), some (iv x2), some (iv x3), some (iv x4), none, some (jv (x6 + (ah_J h (a0 + 3) (((40 : Int32) * x1) + x8).toNatClampNeg))), none, some (iv (x8 + (1 : Int32)))]) ⟨rfl, ⟨rfl, ⟨rfl, ⟨rfl, ⟨rfl, ⟨rfl, ⟨rfl, trivial⟩⟩⟩⟩⟩⟩⟩ H
theorem v_X8_asksSend_273 {G : ma_G} {d : Nat} {a0 : Nat} {x3 : Int32} {x4 : Int32} {x6 : Int64} {x8 : Int32} {h : ah_T} {Q : Option ma_V → ah_T → Prop} {E : Nat → ah_T → Prop} (La0_h : LY8 h a0) (H : (x4 ≤ x8 → ((0 : Int64) ≤ x6 → Q (some (iv (0 : Int32))) h) ∧ (¬ (0 : Int64) ≤ x6 → Q (some (iv (9 : Int32))) h)) ∧ (¬ x4 ≤ x8 → vp_in (((40 : Int32) * x3) + x8) 160 ∧ MX G mi_X8_asksSend (d + 1) 273 [some (rv a0), none, none, some (iv x3), some (iv x4), none, some (jv (x6 - (ah_J h (a0 + 3) (((40 : Int32) * x3) + x8).toNatClampNeg))), none, some (iv (x8 + (1 : Int32)))] [] h Q E)) : MX G mi_X8_asksSend (d + 1) 273 [some (rv a0), none, none, some (iv x3), some (iv x4), none, some (jv x6), none, some (iv x8)] [] h Q E := by
  refine mx_iload dX8_asksSend_273 rfl ?_
  refine mx_iload dX8_asksSend_275 rfl ?_
  refine mx_icmp_ge (tgt := 298) dX8_asksSend_277 rfl (fun c1 => ?_) (fun c1 => ?_)
  · have H := H.1 c1
    refine mx_lload dX8_asksSend_298 rfl ?_
    refine mx_lconst dX8_asksSend_300 lc_0 ?_
    refine mx_lif_ge (tgt := 310) dX8_asksSend_301 dX8_asksSend_302 rfl (fun c2 => ?_) (fun c2 => ?_)
    · have H := H.1 c2
      refine mx_iconst dX8_asksSend_310 ic_0 ?_
      exact mx_iret rfl dX8_asksSend_311 H
    · have H := H.2 c2
      refine mx_bipush dX8_asksSend_305 ib_9 ?_
      refine mx_goto (tgt := 311) dX8_asksSend_307 rfl ?_
      exact mx_iret rfl dX8_asksSend_311 H
  · have H := H.2 c1
    refine mx_lload dX8_asksSend_280 rfl ?_
    refine mx_aload_n dX8_asksSend_282 rfl rfl ?_
    refine mx_iload_n dX8_asksSend_283 rfl rfl ?_
    refine mx_iload dX8_asksSend_284 rfl ?_
    refine mx_callV 8 (y' := mi_X8_numberOf) (vs := [iv x3, iv x8]) (st := [jv x6]) (al' := [some (rv a0), some (iv x3), some (iv x8)]) cl_8 V_X8_numberOf (Or.inl q2432) dX8_asksSend_286 rfl rfl (Nat.le_of_ble_eq_true rfl) (Nat.le_of_ble_eq_true rfl) (ly8_k La0_h) ?_
    refine mx_aload_n dX8_numberOf_0 rfl rfl ?_
    refine mx_get 8 4 (ref := "PrairiePoolModel") cl_8 (Nat.le_of_ble_eq_true rfl) (Or.inl q1631) (Or.inl rfl) dX8_numberOf_1 (fv_8_4 _ _) (ly8_k La0_h) ?_
    refine mx_tr (ly8_R_0_4 La0_h) ?_
    refine mx_bipush dX8_numberOf_4 ib_40 ?_
    refine mx_iload_n dX8_numberOf_6 rfl rfl ?_
    refine mx_imul dX8_numberOf_7 ?_
    refine mx_iload_n dX8_numberOf_8 rfl rfl ?_
    refine mx_iadd dX8_numberOf_9 ?_
    obtain ⟨k3, H⟩ := H
    refine my_lald dX8_numberOf_10 rfl (ly8_A_3 La0_h k3) ?_
    refine mx_lretK rfl dX8_numberOf_11 ?_
    refine mx_lsub dX8_asksSend_289 ?_
    refine mx_lstore (al' := [some (rv a0), none, none, some (iv x3), some (iv x4), none, some (jv (x6 - (ah_J h (a0 + 3) (((40 : Int32) * x3) + x8).toNatClampNeg))), none, some (iv x8)]) dX8_asksSend_290 (Nat.le_of_ble_eq_true rfl) rfl ?_
    refine mx_iinc (al' := [some (rv a0), none, none, some (iv x3), some (iv x4), none, some (jv (x6 - (ah_J h (a0 + 3) (((40 : Int32) * x3) + x8).toNatClampNeg))), none, some (iv (x8 + (1 : Int32)))]) dX8_asksSend_292 rfl ic_1 rfl ?_
    refine mx_goto (tgt := 273) dX8_asksSend_295 rfl ?_
    exact mx_weak (al' := [some (rv a0), none, none, some (iv x3), some (iv x4), none, some (jv (x6 - (ah_J h (a0 + 3) (((40 : Int32) * x3) + x8).toNatClampNeg))), none, some (iv (x8 + (1 : Int32)))]) ⟨rfl, ⟨rfl, ⟨rfl, ⟨rfl, ⟨rfl, trivial⟩⟩⟩⟩⟩ H
theorem dX8_bushel_0 : decode mi_X8_bushel.2.1 0 = .ok (.iload_n 1, 1) := by decide +kernel
theorem dX8_bushel_1 : decode mi_X8_bushel.2.1 1 = .ok (.iload_n 2, 1) := by decide +kernel
theorem dX8_bushel_2 : decode mi_X8_bushel.2.1 2 = .ok (.iadd, 1) := by decide +kernel
theorem dX8_bushel_3 : decode mi_X8_bushel.2.1 3 = .ok (.istore_n 3, 1) := by decide +kernel
theorem dX8_bushel_4 : decode mi_X8_bushel.2.1 4 = .ok (.iconst 0, 1) := by decide +kernel
theorem dX8_bushel_5 : decode mi_X8_bushel.2.1 5 = .ok (.istore 4, 2) := by decide +kernel
theorem dX8_bushel_7 : decode mi_X8_bushel.2.1 7 = .ok (.iload 4, 2) := by decide +kernel
theorem dX8_bushel_9 : decode mi_X8_bushel.2.1 9 = .ok (.iload_n 3, 1) := by decide +kernel
theorem dX8_bushel_10 : decode mi_X8_bushel.2.1 10 = .ok (.if_icmp .ge 47, 3) := by decide +kernel
theorem dX8_bushel_13 : decode mi_X8_bushel.2.1 13 = .ok (.aload_n 0, 1) := by decide +kernel
theorem dX8_bushel_14 : decode mi_X8_bushel.2.1 14 = .ok (.getfield 248, 3) := by decide +kernel
theorem dX8_bushel_17 : decode mi_X8_bushel.2.1 17 = .ok (.iload 4, 2) := by decide +kernel
theorem dX8_bushel_19 : decode mi_X8_bushel.2.1 19 = .ok (.iload 4, 2) := by decide +kernel
theorem dX8_bushel_21 : decode mi_X8_bushel.2.1 21 = .ok (.iload_n 1, 1) := by decide +kernel
theorem dX8_bushel_22 : decode mi_X8_bushel.2.1 22 = .ok (.if_icmp .ge 17, 3) := by decide +kernel
theorem dX8_bushel_25 : decode mi_X8_bushel.2.1 25 = .ok (.aload_n 0, 1) := by decide +kernel
theorem dX8_bushel_26 : decode mi_X8_bushel.2.1 26 = .ok (.getfield 236, 3) := by decide +kernel
theorem dX8_bushel_29 : decode mi_X8_bushel.2.1 29 = .ok (.iload 4, 2) := by decide +kernel
theorem dX8_bushel_31 : decode mi_X8_bushel.2.1 31 = .ok (.iaload, 1) := by decide +kernel
theorem dX8_bushel_32 : decode mi_X8_bushel.2.1 32 = .ok (.ifCond .le 7, 3) := by decide +kernel
theorem dX8_bushel_35 : decode mi_X8_bushel.2.1 35 = .ok (.iconst 0, 1) := by decide +kernel
theorem dX8_bushel_36 : decode mi_X8_bushel.2.1 36 = .ok (.goto 6, 3) := by decide +kernel
theorem dX8_bushel_39 : decode mi_X8_bushel.2.1 39 = .ok (.ldc_w 680, 3) := by decide +kernel
theorem dX8_bushel_42 : decode mi_X8_bushel.2.1 42 = .ok (.iastore, 1) := by decide +kernel
theorem dX8_bushel_43 : decode mi_X8_bushel.2.1 43 = .ok (.aload_n 0, 1) := by decide +kernel
theorem dX8_bushel_44 : decode mi_X8_bushel.2.1 44 = .ok (.getfield 251, 3) := by decide +kernel
theorem dX8_bushel_47 : decode mi_X8_bushel.2.1 47 = .ok (.iload 4, 2) := by decide +kernel
theorem dX8_bushel_49 : decode mi_X8_bushel.2.1 49 = .ok (.iconst (-1), 1) := by decide +kernel
theorem dX8_bushel_50 : decode mi_X8_bushel.2.1 50 = .ok (.iastore, 1) := by decide +kernel
theorem dX8_bushel_51 : decode mi_X8_bushel.2.1 51 = .ok (.iinc 4 1, 3) := by decide +kernel
theorem dX8_bushel_54 : decode mi_X8_bushel.2.1 54 = .ok (.goto (-47), 3) := by decide +kernel
theorem dX8_bushel_57 : decode mi_X8_bushel.2.1 57 = .ok (.iconst 0, 1) := by decide +kernel
theorem dX8_bushel_58 : decode mi_X8_bushel.2.1 58 = .ok (.istore 4, 2) := by decide +kernel
theorem dX8_bushel_60 : decode mi_X8_bushel.2.1 60 = .ok (.iload 4, 2) := by decide +kernel
theorem dX8_bushel_62 : decode mi_X8_bushel.2.1 62 = .ok (.iload_n 3, 1) := by decide +kernel
theorem dX8_bushel_63 : decode mi_X8_bushel.2.1 63 = .ok (.if_icmp .ge 188, 3) := by decide +kernel
theorem dX8_bushel_66 : decode mi_X8_bushel.2.1 66 = .ok (.iconst 0, 1) := by decide +kernel
theorem dX8_bushel_67 : decode mi_X8_bushel.2.1 67 = .ok (.istore 5, 2) := by decide +kernel
theorem dX8_bushel_69 : decode mi_X8_bushel.2.1 69 = .ok (.iload 5, 2) := by decide +kernel
theorem dX8_bushel_71 : decode mi_X8_bushel.2.1 71 = .ok (.iload_n 1, 1) := by decide +kernel
theorem dX8_bushel_72 : decode mi_X8_bushel.2.1 72 = .ok (.iload_n 2, 1) := by decide +kernel
theorem dX8_bushel_73 : decode mi_X8_bushel.2.1 73 = .ok (.imul, 1) := by decide +kernel
theorem dX8_bushel_74 : decode mi_X8_bushel.2.1 74 = .ok (.if_icmp .ge 171, 3) := by decide +kernel
theorem dX8_bushel_77 : decode mi_X8_bushel.2.1 77 = .ok (.iload 5, 2) := by decide +kernel
theorem dX8_bushel_79 : decode mi_X8_bushel.2.1 79 = .ok (.iload_n 2, 1) := by decide +kernel
theorem dX8_bushel_80 : decode mi_X8_bushel.2.1 80 = .ok (.idiv, 1) := by decide +kernel
theorem dX8_bushel_81 : decode mi_X8_bushel.2.1 81 = .ok (.istore 6, 2) := by decide +kernel
theorem dX8_bushel_83 : decode mi_X8_bushel.2.1 83 = .ok (.iload_n 1, 1) := by decide +kernel
theorem dX8_bushel_84 : decode mi_X8_bushel.2.1 84 = .ok (.iload 5, 2) := by decide +kernel
theorem dX8_bushel_86 : decode mi_X8_bushel.2.1 86 = .ok (.iload_n 2, 1) := by decide +kernel
theorem dX8_bushel_87 : decode mi_X8_bushel.2.1 87 = .ok (.irem, 1) := by decide +kernel
theorem dX8_bushel_88 : decode mi_X8_bushel.2.1 88 = .ok (.iadd, 1) := by decide +kernel
theorem dX8_bushel_89 : decode mi_X8_bushel.2.1 89 = .ok (.istore 7, 2) := by decide +kernel
theorem dX8_bushel_91 : decode mi_X8_bushel.2.1 91 = .ok (.aload_n 0, 1) := by decide +kernel
theorem dX8_bushel_92 : decode mi_X8_bushel.2.1 92 = .ok (.getfield 248, 3) := by decide +kernel
theorem dX8_bushel_95 : decode mi_X8_bushel.2.1 95 = .ok (.iload 6, 2) := by decide +kernel
theorem dX8_bushel_97 : decode mi_X8_bushel.2.1 97 = .ok (.iaload, 1) := by decide +kernel
theorem dX8_bushel_98 : decode mi_X8_bushel.2.1 98 = .ok (.ldc_w 680, 3) := by decide +kernel
theorem dX8_bushel_101 : decode mi_X8_bushel.2.1 101 = .ok (.if_icmp .ge 59, 3) := by decide +kernel
theorem dX8_bushel_104 : decode mi_X8_bushel.2.1 104 = .ok (.aload_n 0, 1) := by decide +kernel
theorem dX8_bushel_105 : decode mi_X8_bushel.2.1 105 = .ok (.getfield 248, 3) := by decide +kernel
theorem dX8_bushel_108 : decode mi_X8_bushel.2.1 108 = .ok (.iload 6, 2) := by decide +kernel
theorem dX8_bushel_110 : decode mi_X8_bushel.2.1 110 = .ok (.iaload, 1) := by decide +kernel
theorem dX8_bushel_111 : decode mi_X8_bushel.2.1 111 = .ok (.aload_n 0, 1) := by decide +kernel
theorem dX8_bushel_112 : decode mi_X8_bushel.2.1 112 = .ok (.getfield 242, 3) := by decide +kernel
theorem dX8_bushel_115 : decode mi_X8_bushel.2.1 115 = .ok (.iload 5, 2) := by decide +kernel
theorem dX8_bushel_117 : decode mi_X8_bushel.2.1 117 = .ok (.iaload, 1) := by decide +kernel
theorem dX8_bushel_118 : decode mi_X8_bushel.2.1 118 = .ok (.iadd, 1) := by decide +kernel
theorem dX8_bushel_119 : decode mi_X8_bushel.2.1 119 = .ok (.aload_n 0, 1) := by decide +kernel
theorem dX8_bushel_120 : decode mi_X8_bushel.2.1 120 = .ok (.getfield 248, 3) := by decide +kernel
theorem dX8_bushel_123 : decode mi_X8_bushel.2.1 123 = .ok (.iload 7, 2) := by decide +kernel
theorem dX8_bushel_125 : decode mi_X8_bushel.2.1 125 = .ok (.iaload, 1) := by decide +kernel
theorem dX8_bushel_126 : decode mi_X8_bushel.2.1 126 = .ok (.if_icmp .ge 34, 3) := by decide +kernel
theorem dX8_bushel_129 : decode mi_X8_bushel.2.1 129 = .ok (.aload_n 0, 1) := by decide +kernel
theorem dX8_bushel_130 : decode mi_X8_bushel.2.1 130 = .ok (.getfield 248, 3) := by decide +kernel
theorem dX8_bushel_133 : decode mi_X8_bushel.2.1 133 = .ok (.iload 7, 2) := by decide +kernel
theorem dX8_bushel_135 : decode mi_X8_bushel.2.1 135 = .ok (.aload_n 0, 1) := by decide +kernel
theorem dX8_bushel_136 : decode mi_X8_bushel.2.1 136 = .ok (.getfield 248, 3) := by decide +kernel
theorem dX8_bushel_139 : decode mi_X8_bushel.2.1 139 = .ok (.iload 6, 2) := by decide +kernel
theorem dX8_bushel_141 : decode mi_X8_bushel.2.1 141 = .ok (.iaload, 1) := by decide +kernel
theorem dX8_bushel_142 : decode mi_X8_bushel.2.1 142 = .ok (.aload_n 0, 1) := by decide +kernel
theorem dX8_bushel_143 : decode mi_X8_bushel.2.1 143 = .ok (.getfield 242, 3) := by decide +kernel
theorem dX8_bushel_146 : decode mi_X8_bushel.2.1 146 = .ok (.iload 5, 2) := by decide +kernel
theorem dX8_bushel_148 : decode mi_X8_bushel.2.1 148 = .ok (.iaload, 1) := by decide +kernel
theorem dX8_bushel_149 : decode mi_X8_bushel.2.1 149 = .ok (.iadd, 1) := by decide +kernel
theorem dX8_bushel_150 : decode mi_X8_bushel.2.1 150 = .ok (.iastore, 1) := by decide +kernel
theorem dX8_bushel_151 : decode mi_X8_bushel.2.1 151 = .ok (.aload_n 0, 1) := by decide +kernel
theorem dX8_bushel_152 : decode mi_X8_bushel.2.1 152 = .ok (.getfield 251, 3) := by decide +kernel
theorem dX8_bushel_155 : decode mi_X8_bushel.2.1 155 = .ok (.iload 7, 2) := by decide +kernel
theorem dX8_bushel_157 : decode mi_X8_bushel.2.1 157 = .ok (.iload 6, 2) := by decide +kernel
theorem dX8_bushel_159 : decode mi_X8_bushel.2.1 159 = .ok (.iastore, 1) := by decide +kernel
theorem dX8_bushel_160 : decode mi_X8_bushel.2.1 160 = .ok (.aload_n 0, 1) := by decide +kernel
theorem dX8_bushel_161 : decode mi_X8_bushel.2.1 161 = .ok (.getfield 245, 3) := by decide +kernel
theorem dX8_bushel_164 : decode mi_X8_bushel.2.1 164 = .ok (.iload 5, 2) := by decide +kernel
theorem dX8_bushel_166 : decode mi_X8_bushel.2.1 166 = .ok (.iaload, 1) := by decide +kernel
theorem dX8_bushel_167 : decode mi_X8_bushel.2.1 167 = .ok (.ifCond .le 72, 3) := by decide +kernel
theorem dX8_bushel_170 : decode mi_X8_bushel.2.1 170 = .ok (.aload_n 0, 1) := by decide +kernel
theorem dX8_bushel_171 : decode mi_X8_bushel.2.1 171 = .ok (.getfield 248, 3) := by decide +kernel
theorem dX8_bushel_174 : decode mi_X8_bushel.2.1 174 = .ok (.iload 7, 2) := by decide +kernel
theorem dX8_bushel_176 : decode mi_X8_bushel.2.1 176 = .ok (.iaload, 1) := by decide +kernel
theorem dX8_bushel_177 : decode mi_X8_bushel.2.1 177 = .ok (.ldc_w 680, 3) := by decide +kernel
theorem dX8_bushel_180 : decode mi_X8_bushel.2.1 180 = .ok (.if_icmp .ge 59, 3) := by decide +kernel
theorem dX8_bushel_183 : decode mi_X8_bushel.2.1 183 = .ok (.aload_n 0, 1) := by decide +kernel
theorem dX8_bushel_184 : decode mi_X8_bushel.2.1 184 = .ok (.getfield 248, 3) := by decide +kernel
theorem dX8_bushel_187 : decode mi_X8_bushel.2.1 187 = .ok (.iload 7, 2) := by decide +kernel
theorem dX8_bushel_189 : decode mi_X8_bushel.2.1 189 = .ok (.iaload, 1) := by decide +kernel
theorem dX8_bushel_190 : decode mi_X8_bushel.2.1 190 = .ok (.aload_n 0, 1) := by decide +kernel
theorem dX8_bushel_191 : decode mi_X8_bushel.2.1 191 = .ok (.getfield 242, 3) := by decide +kernel
theorem dX8_bushel_194 : decode mi_X8_bushel.2.1 194 = .ok (.iload 5, 2) := by decide +kernel
theorem dX8_bushel_196 : decode mi_X8_bushel.2.1 196 = .ok (.iaload, 1) := by decide +kernel
theorem dX8_bushel_197 : decode mi_X8_bushel.2.1 197 = .ok (.isub, 1) := by decide +kernel
theorem dX8_bushel_198 : decode mi_X8_bushel.2.1 198 = .ok (.aload_n 0, 1) := by decide +kernel
theorem dX8_bushel_199 : decode mi_X8_bushel.2.1 199 = .ok (.getfield 248, 3) := by decide +kernel
theorem dX8_bushel_202 : decode mi_X8_bushel.2.1 202 = .ok (.iload 6, 2) := by decide +kernel
theorem dX8_bushel_204 : decode mi_X8_bushel.2.1 204 = .ok (.iaload, 1) := by decide +kernel
theorem dX8_bushel_205 : decode mi_X8_bushel.2.1 205 = .ok (.if_icmp .ge 34, 3) := by decide +kernel
theorem dX8_bushel_208 : decode mi_X8_bushel.2.1 208 = .ok (.aload_n 0, 1) := by decide +kernel
theorem dX8_bushel_209 : decode mi_X8_bushel.2.1 209 = .ok (.getfield 248, 3) := by decide +kernel
theorem dX8_bushel_212 : decode mi_X8_bushel.2.1 212 = .ok (.iload 6, 2) := by decide +kernel
theorem dX8_bushel_214 : decode mi_X8_bushel.2.1 214 = .ok (.aload_n 0, 1) := by decide +kernel
theorem dX8_bushel_215 : decode mi_X8_bushel.2.1 215 = .ok (.getfield 248, 3) := by decide +kernel
theorem dX8_bushel_218 : decode mi_X8_bushel.2.1 218 = .ok (.iload 7, 2) := by decide +kernel
theorem dX8_bushel_220 : decode mi_X8_bushel.2.1 220 = .ok (.iaload, 1) := by decide +kernel
theorem dX8_bushel_221 : decode mi_X8_bushel.2.1 221 = .ok (.aload_n 0, 1) := by decide +kernel
theorem dX8_bushel_222 : decode mi_X8_bushel.2.1 222 = .ok (.getfield 242, 3) := by decide +kernel
theorem dX8_bushel_225 : decode mi_X8_bushel.2.1 225 = .ok (.iload 5, 2) := by decide +kernel
theorem dX8_bushel_227 : decode mi_X8_bushel.2.1 227 = .ok (.iaload, 1) := by decide +kernel
theorem dX8_bushel_228 : decode mi_X8_bushel.2.1 228 = .ok (.isub, 1) := by decide +kernel
theorem dX8_bushel_229 : decode mi_X8_bushel.2.1 229 = .ok (.iastore, 1) := by decide +kernel
theorem dX8_bushel_230 : decode mi_X8_bushel.2.1 230 = .ok (.aload_n 0, 1) := by decide +kernel
theorem dX8_bushel_231 : decode mi_X8_bushel.2.1 231 = .ok (.getfield 251, 3) := by decide +kernel
theorem dX8_bushel_234 : decode mi_X8_bushel.2.1 234 = .ok (.iload 6, 2) := by decide +kernel
theorem dX8_bushel_236 : decode mi_X8_bushel.2.1 236 = .ok (.iload 7, 2) := by decide +kernel
theorem dX8_bushel_238 : decode mi_X8_bushel.2.1 238 = .ok (.iastore, 1) := by decide +kernel
theorem dX8_bushel_239 : decode mi_X8_bushel.2.1 239 = .ok (.iinc 5 1, 3) := by decide +kernel
theorem dX8_bushel_242 : decode mi_X8_bushel.2.1 242 = .ok (.goto (-173), 3) := by decide +kernel
theorem dX8_bushel_245 : decode mi_X8_bushel.2.1 245 = .ok (.iinc 4 1, 3) := by decide +kernel
theorem dX8_bushel_248 : decode mi_X8_bushel.2.1 248 = .ok (.goto (-188), 3) := by decide +kernel
theorem dX8_bushel_251 : decode mi_X8_bushel.2.1 251 = .ok (.iconst (-1), 1) := by decide +kernel
theorem dX8_bushel_252 : decode mi_X8_bushel.2.1 252 = .ok (.istore 4, 2) := by decide +kernel
theorem dX8_bushel_254 : decode mi_X8_bushel.2.1 254 = .ok (.iconst 0, 1) := by decide +kernel
theorem dX8_bushel_255 : decode mi_X8_bushel.2.1 255 = .ok (.istore 5, 2) := by decide +kernel
theorem dX8_bushel_257 : decode mi_X8_bushel.2.1 257 = .ok (.iload 5, 2) := by decide +kernel
theorem dX8_bushel_259 : decode mi_X8_bushel.2.1 259 = .ok (.iload_n 2, 1) := by decide +kernel
theorem dX8_bushel_260 : decode mi_X8_bushel.2.1 260 = .ok (.if_icmp .ge 49, 3) := by decide +kernel
theorem dX8_bushel_263 : decode mi_X8_bushel.2.1 263 = .ok (.aload_n 0, 1) := by decide +kernel
theorem dX8_bushel_264 : decode mi_X8_bushel.2.1 264 = .ok (.getfield 239, 3) := by decide +kernel
theorem dX8_bushel_267 : decode mi_X8_bushel.2.1 267 = .ok (.iload 5, 2) := by decide +kernel
theorem dX8_bushel_269 : decode mi_X8_bushel.2.1 269 = .ok (.iaload, 1) := by decide +kernel
theorem dX8_bushel_270 : decode mi_X8_bushel.2.1 270 = .ok (.ifCond .le 33, 3) := by decide +kernel
theorem dX8_bushel_273 : decode mi_X8_bushel.2.1 273 = .ok (.iload 4, 2) := by decide +kernel
theorem dX8_bushel_275 : decode mi_X8_bushel.2.1 275 = .ok (.ifCond .lt 24, 3) := by decide +kernel
theorem dX8_bushel_278 : decode mi_X8_bushel.2.1 278 = .ok (.aload_n 0, 1) := by decide +kernel
theorem dX8_bushel_279 : decode mi_X8_bushel.2.1 279 = .ok (.getfield 248, 3) := by decide +kernel
theorem dX8_bushel_282 : decode mi_X8_bushel.2.1 282 = .ok (.iload_n 1, 1) := by decide +kernel
theorem dX8_bushel_283 : decode mi_X8_bushel.2.1 283 = .ok (.iload 5, 2) := by decide +kernel
theorem dX8_bushel_285 : decode mi_X8_bushel.2.1 285 = .ok (.iadd, 1) := by decide +kernel
theorem dX8_bushel_286 : decode mi_X8_bushel.2.1 286 = .ok (.iaload, 1) := by decide +kernel
theorem dX8_bushel_287 : decode mi_X8_bushel.2.1 287 = .ok (.aload_n 0, 1) := by decide +kernel
theorem dX8_bushel_288 : decode mi_X8_bushel.2.1 288 = .ok (.getfield 248, 3) := by decide +kernel
theorem dX8_bushel_291 : decode mi_X8_bushel.2.1 291 = .ok (.iload_n 1, 1) := by decide +kernel
theorem dX8_bushel_292 : decode mi_X8_bushel.2.1 292 = .ok (.iload 4, 2) := by decide +kernel
theorem dX8_bushel_294 : decode mi_X8_bushel.2.1 294 = .ok (.iadd, 1) := by decide +kernel
theorem dX8_bushel_295 : decode mi_X8_bushel.2.1 295 = .ok (.iaload, 1) := by decide +kernel
theorem dX8_bushel_296 : decode mi_X8_bushel.2.1 296 = .ok (.if_icmp .ge 7, 3) := by decide +kernel
theorem dX8_bushel_299 : decode mi_X8_bushel.2.1 299 = .ok (.iload 5, 2) := by decide +kernel
theorem dX8_bushel_301 : decode mi_X8_bushel.2.1 301 = .ok (.istore 4, 2) := by decide +kernel
theorem dX8_bushel_303 : decode mi_X8_bushel.2.1 303 = .ok (.iinc 5 1, 3) := by decide +kernel
theorem dX8_bushel_306 : decode mi_X8_bushel.2.1 306 = .ok (.goto (-49), 3) := by decide +kernel
theorem dX8_bushel_309 : decode mi_X8_bushel.2.1 309 = .ok (.aload_n 0, 1) := by decide +kernel
theorem dX8_bushel_310 : decode mi_X8_bushel.2.1 310 = .ok (.getfield 239, 3) := by decide +kernel
theorem dX8_bushel_313 : decode mi_X8_bushel.2.1 313 = .ok (.iload 4, 2) := by decide +kernel
theorem dX8_bushel_315 : decode mi_X8_bushel.2.1 315 = .ok (.dup2, 1) := by decide +kernel
theorem dX8_bushel_316 : decode mi_X8_bushel.2.1 316 = .ok (.iaload, 1) := by decide +kernel
theorem dX8_bushel_317 : decode mi_X8_bushel.2.1 317 = .ok (.iconst 1, 1) := by decide +kernel
theorem dX8_bushel_318 : decode mi_X8_bushel.2.1 318 = .ok (.isub, 1) := by decide +kernel
theorem dX8_bushel_319 : decode mi_X8_bushel.2.1 319 = .ok (.iastore, 1) := by decide +kernel
theorem dX8_bushel_320 : decode mi_X8_bushel.2.1 320 = .ok (.iload_n 1, 1) := by decide +kernel
theorem dX8_bushel_321 : decode mi_X8_bushel.2.1 321 = .ok (.iload 4, 2) := by decide +kernel
theorem dX8_bushel_323 : decode mi_X8_bushel.2.1 323 = .ok (.iadd, 1) := by decide +kernel
theorem dX8_bushel_324 : decode mi_X8_bushel.2.1 324 = .ok (.istore 5, 2) := by decide +kernel
theorem dX8_bushel_326 : decode mi_X8_bushel.2.1 326 = .ok (.aload_n 0, 1) := by decide +kernel
theorem dX8_bushel_327 : decode mi_X8_bushel.2.1 327 = .ok (.getfield 251, 3) := by decide +kernel
theorem dX8_bushel_330 : decode mi_X8_bushel.2.1 330 = .ok (.iload 5, 2) := by decide +kernel
theorem dX8_bushel_332 : decode mi_X8_bushel.2.1 332 = .ok (.iaload, 1) := by decide +kernel
theorem dX8_bushel_333 : decode mi_X8_bushel.2.1 333 = .ok (.iconst (-1), 1) := by decide +kernel
theorem dX8_bushel_334 : decode mi_X8_bushel.2.1 334 = .ok (.if_icmp .eq 64, 3) := by decide +kernel
theorem dX8_bushel_337 : decode mi_X8_bushel.2.1 337 = .ok (.aload_n 0, 1) := by decide +kernel
theorem dX8_bushel_338 : decode mi_X8_bushel.2.1 338 = .ok (.getfield 251, 3) := by decide +kernel
theorem dX8_bushel_341 : decode mi_X8_bushel.2.1 341 = .ok (.iload 5, 2) := by decide +kernel
theorem dX8_bushel_343 : decode mi_X8_bushel.2.1 343 = .ok (.iaload, 1) := by decide +kernel
theorem dX8_bushel_344 : decode mi_X8_bushel.2.1 344 = .ok (.istore 6, 2) := by decide +kernel
theorem dX8_bushel_346 : decode mi_X8_bushel.2.1 346 = .ok (.iload 5, 2) := by decide +kernel
theorem dX8_bushel_348 : decode mi_X8_bushel.2.1 348 = .ok (.iload_n 1, 1) := by decide +kernel
theorem dX8_bushel_349 : decode mi_X8_bushel.2.1 349 = .ok (.if_icmp .lt 24, 3) := by decide +kernel
theorem dX8_bushel_352 : decode mi_X8_bushel.2.1 352 = .ok (.aload_n 0, 1) := by decide +kernel
theorem dX8_bushel_353 : decode mi_X8_bushel.2.1 353 = .ok (.getfield 245, 3) := by decide +kernel
theorem dX8_bushel_356 : decode mi_X8_bushel.2.1 356 = .ok (.iload_n 2, 1) := by decide +kernel
theorem dX8_bushel_357 : decode mi_X8_bushel.2.1 357 = .ok (.iload 6, 2) := by decide +kernel
theorem dX8_bushel_359 : decode mi_X8_bushel.2.1 359 = .ok (.imul, 1) := by decide +kernel
theorem dX8_bushel_360 : decode mi_X8_bushel.2.1 360 = .ok (.iload 5, 2) := by decide +kernel
theorem dX8_bushel_362 : decode mi_X8_bushel.2.1 362 = .ok (.iadd, 1) := by decide +kernel
theorem dX8_bushel_363 : decode mi_X8_bushel.2.1 363 = .ok (.iload_n 1, 1) := by decide +kernel
theorem dX8_bushel_364 : decode mi_X8_bushel.2.1 364 = .ok (.isub, 1) := by decide +kernel
theorem dX8_bushel_365 : decode mi_X8_bushel.2.1 365 = .ok (.dup2, 1) := by decide +kernel
theorem dX8_bushel_366 : decode mi_X8_bushel.2.1 366 = .ok (.iaload, 1) := by decide +kernel
theorem dX8_bushel_367 : decode mi_X8_bushel.2.1 367 = .ok (.iconst 1, 1) := by decide +kernel
theorem dX8_bushel_368 : decode mi_X8_bushel.2.1 368 = .ok (.iadd, 1) := by decide +kernel
theorem dX8_bushel_369 : decode mi_X8_bushel.2.1 369 = .ok (.iastore, 1) := by decide +kernel
theorem dX8_bushel_370 : decode mi_X8_bushel.2.1 370 = .ok (.goto 21, 3) := by decide +kernel
theorem dX8_bushel_373 : decode mi_X8_bushel.2.1 373 = .ok (.aload_n 0, 1) := by decide +kernel
theorem dX8_bushel_374 : decode mi_X8_bushel.2.1 374 = .ok (.getfield 245, 3) := by decide +kernel
theorem dX8_bushel_377 : decode mi_X8_bushel.2.1 377 = .ok (.iload_n 2, 1) := by decide +kernel
theorem dX8_bushel_378 : decode mi_X8_bushel.2.1 378 = .ok (.iload 5, 2) := by decide +kernel
theorem dX8_bushel_380 : decode mi_X8_bushel.2.1 380 = .ok (.imul, 1) := by decide +kernel
theorem dX8_bushel_381 : decode mi_X8_bushel.2.1 381 = .ok (.iload 6, 2) := by decide +kernel
theorem dX8_bushel_383 : decode mi_X8_bushel.2.1 383 = .ok (.iadd, 1) := by decide +kernel
theorem dX8_bushel_384 : decode mi_X8_bushel.2.1 384 = .ok (.iload_n 1, 1) := by decide +kernel
theorem dX8_bushel_385 : decode mi_X8_bushel.2.1 385 = .ok (.isub, 1) := by decide +kernel
theorem dX8_bushel_386 : decode mi_X8_bushel.2.1 386 = .ok (.dup2, 1) := by decide +kernel
theorem dX8_bushel_387 : decode mi_X8_bushel.2.1 387 = .ok (.iaload, 1) := by decide +kernel
theorem dX8_bushel_388 : decode mi_X8_bushel.2.1 388 = .ok (.iconst 1, 1) := by decide +kernel
theorem dX8_bushel_389 : decode mi_X8_bushel.2.1 389 = .ok (.isub, 1) := by decide +kernel
theorem dX8_bushel_390 : decode mi_X8_bushel.2.1 390 = .ok (.iastore, 1) := by decide +kernel
theorem dX8_bushel_391 : decode mi_X8_bushel.2.1 391 = .ok (.iload 6, 2) := by decide +kernel
theorem dX8_bushel_393 : decode mi_X8_bushel.2.1 393 = .ok (.istore 5, 2) := by decide +kernel
theorem dX8_bushel_395 : decode mi_X8_bushel.2.1 395 = .ok (.goto (-69), 3) := by decide +kernel
theorem dX8_bushel_398 : decode mi_X8_bushel.2.1 398 = .ok (.aload_n 0, 1) := by decide +kernel
theorem dX8_bushel_399 : decode mi_X8_bushel.2.1 399 = .ok (.getfield 236, 3) := by decide +kernel
theorem dX8_bushel_402 : decode mi_X8_bushel.2.1 402 = .ok (.iload 5, 2) := by decide +kernel
theorem dX8_bushel_404 : decode mi_X8_bushel.2.1 404 = .ok (.dup2, 1) := by decide +kernel
theorem dX8_bushel_405 : decode mi_X8_bushel.2.1 405 = .ok (.iaload, 1) := by decide +kernel
theorem dX8_bushel_406 : decode mi_X8_bushel.2.1 406 = .ok (.iconst 1, 1) := by decide +kernel
theorem dX8_bushel_407 : decode mi_X8_bushel.2.1 407 = .ok (.isub, 1) := by decide +kernel
theorem dX8_bushel_408 : decode mi_X8_bushel.2.1 408 = .ok (.iastore, 1) := by decide +kernel
theorem dX8_bushel_409 : decode mi_X8_bushel.2.1 409 = .ok (.aload_n 0, 1) := by decide +kernel
theorem dX8_bushel_410 : decode mi_X8_bushel.2.1 410 = .ok (.getfield 248, 3) := by decide +kernel
theorem dX8_bushel_413 : decode mi_X8_bushel.2.1 413 = .ok (.iload_n 1, 1) := by decide +kernel
theorem dX8_bushel_414 : decode mi_X8_bushel.2.1 414 = .ok (.iload 4, 2) := by decide +kernel
theorem dX8_bushel_416 : decode mi_X8_bushel.2.1 416 = .ok (.iadd, 1) := by decide +kernel
theorem dX8_bushel_417 : decode mi_X8_bushel.2.1 417 = .ok (.iaload, 1) := by decide +kernel
theorem dX8_bushel_418 : decode mi_X8_bushel.2.1 418 = .ok (.ireturn, 1) := by decide +kernel
theorem v_X8_bushel {G : ma_G} {d : Nat} {a0 : Nat} {x1 : Int32} {x2 : Int32} {h : ah_T} {Q : Option ma_V → ah_T → Prop} {E : Nat → ah_T → Prop} (La0_h : LY8 h a0) (H : MX G mi_X8_bushel d 7 [some (rv a0), some (iv x1), some (iv x2), some (iv (x1 + x2)), some (iv (0 : Int32)), none, none, none] [] h Q E) : MX G mi_X8_bushel d 0 [some (rv a0), some (iv x1), some (iv x2), none, none, none, none, none] [] h Q E := by
  refine mx_iload_n dX8_bushel_0 rfl rfl ?_
  refine mx_iload_n dX8_bushel_1 rfl rfl ?_
  refine mx_iadd dX8_bushel_2 ?_
  refine mx_istore_n (al' := [some (rv a0), some (iv x1), some (iv x2), some (iv (x1 + x2)), none, none, none, none]) dX8_bushel_3 rfl (Nat.le_of_ble_eq_true rfl) rfl ?_
  refine mx_iconst dX8_bushel_4 ic_0 ?_
  refine mx_istore (al' := [some (rv a0), some (iv x1), some (iv x2), some (iv (x1 + x2)), some (iv (0 : Int32)), none, none, none]) dX8_bushel_5 (Nat.le_of_ble_eq_true rfl) rfl ?_
  exact mx_weak (al' := [some (rv a0), some (iv x1), some (iv x2), some (iv (x1 + x2)), some (iv (0 : Int32)), none, none, none]) ⟨rfl, ⟨rfl, ⟨rfl, ⟨rfl, ⟨rfl, trivial⟩⟩⟩⟩⟩ H
theorem v_X8_bushel_7 {G : ma_G} {d : Nat} {a0 : Nat} {x1 : Int32} {x2 : Int32} {x3 : Int32} {x4 : Int32} {h : ah_T} {Q : Option ma_V → ah_T → Prop} {E : Nat → ah_T → Prop} (La0_h : LY8 h a0) (H : (x3 ≤ x4 → MX G mi_X8_bushel d 60 [some (rv a0), some (iv x1), some (iv x2), some (iv x3), some (iv (0 : Int32)), none, none, none] [] h Q E) ∧ (¬ x3 ≤ x4 → (x1 ≤ x4 → vp_in x4 11 ∧ ∀ h4 : ah_T, h4 = ah_wI h (a0 + 75) x4.toNatClampNeg (100000 : Int32) → ah_ext h h4 → ∀ h5 : ah_T, h5 = ah_wI h4 (a0 + 76) x4.toNatClampNeg (-1 : Int32) → ah_ext h4 h5 → MX G mi_X8_bushel d 7 [some (rv a0), some (iv x1), some (iv x2), some (iv x3), some (iv (x4 + (1 : Int32))), none, none, none] [] h5 Q E) ∧ (¬ x1 ≤ x4 → vp_in x4 5 ∧ ((ah_I h (a0 + 71) x4.toNatClampNeg) ≤ 0 → vp_in x4 11 ∧ ∀ h9 : ah_T, h9 = ah_wI h (a0 + 75) x4.toNatClampNeg (100000 : Int32) → ah_ext h h9 → ∀ h10 : ah_T, h10 = ah_wI h9 (a0 + 76) x4.toNatClampNeg (-1 : Int32) → ah_ext h9 h10 → MX G mi_X8_bushel d 7 [some (rv a0), some (iv x1), some (iv x2), some (iv x3), some (iv (x4 + (1 : Int32))), none, none, none] [] h10 Q E) ∧ (¬ (ah_I h (a0 + 71) x4.toNatClampNeg) ≤ 0 → vp_in x4 11 ∧ ∀ h12 : ah_T, h12 = ah_wI h (a0 + 75) x4.toNatClampNeg (0 : Int32) → ah_ext h h12 → ∀ h13 : ah_T, h13 = ah_wI h12 (a0 + 76) x4.toNatClampNeg (-1 : Int32) → ah_ext h12 h13 → MX G mi_X8_bushel d 7 [some (rv a0), some (iv x1), some (iv x2), some (iv x3), some (iv (x4 + (1 : Int32))), none, none, none] [] h13 Q E)))) : MX G mi_X8_bushel d 7 [some (rv a0), some (iv x1), some (iv x2), some (iv x3), some (iv x4), none, none, none] [] h Q E := by
  refine mx_iload dX8_bushel_7 rfl ?_
  refine mx_iload_n dX8_bushel_9 rfl rfl ?_
  refine mx_icmp_ge (tgt := 57) dX8_bushel_10 rfl (fun c1 => ?_) (fun c1 => ?_)
  · have H := H.1 c1
    refine mx_iconst dX8_bushel_57 ic_0 ?_
    refine mx_istore (al' := [some (rv a0), some (iv x1), some (iv x2), some (iv x3), some (iv (0 : Int32)), none, none, none]) dX8_bushel_58 (Nat.le_of_ble_eq_true rfl) rfl ?_
    exact mx_weak (al' := [some (rv a0), some (iv x1), some (iv x2), some (iv x3), some (iv (0 : Int32)), none, none, none]) ⟨rfl, ⟨rfl, ⟨rfl, ⟨rfl, ⟨rfl, trivial⟩⟩⟩⟩⟩ H
  · have H := H.2 c1
    refine mx_aload_n dX8_bushel_13 rfl rfl ?_
    refine mx_get 8 104 (ref := "PrairiePoolModel") cl_8 (Nat.le_of_ble_eq_true rfl) (Or.inl q1731) (Or.inl rfl) dX8_bushel_14 (fv_8_104 _ _) (ly8_k La0_h) ?_
    refine mx_tr (ly8_R_0_104 La0_h) ?_
    refine mx_iload dX8_bushel_17 rfl ?_
    refine mx_iload dX8_bushel_19 rfl ?_
    refine mx_iload_n dX8_bushel_21 rfl rfl ?_
    refine mx_icmp_ge (tgt := 39) dX8_bushel_22 rfl (fun c2 => ?_) (fun c2 => ?_)
    · have H := H.1 c2
      refine mx_ldcw q2458 dX8_bushel_39 ?_
      obtain ⟨k3, H⟩ := H
      refine my_iast dX8_bushel_42 rfl (ly8_A_75 La0_h k3) ?_
      refine mx_nmI  (fun h4 eh4 Xh4 Kh4 Lh4 => ?_)
      have H := H h4 eh4 Xh4
      have La0_h4 := La0_h.ext Xh4
      refine mx_aload_n dX8_bushel_43 rfl rfl ?_
      refine mx_get 8 105 (ref := "PrairiePoolModel") cl_8 (Nat.le_of_ble_eq_true rfl) (Or.inl q1732) (Or.inl rfl) dX8_bushel_44 (fv_8_105 _ _) (ly8_k La0_h4) ?_
      refine mx_tr (ly8_R_0_105 La0_h4) ?_
      refine mx_iload dX8_bushel_47 rfl ?_
      refine mx_iconst dX8_bushel_49 ic_m1 ?_
      refine my_iast dX8_bushel_50 rfl (ly8_A_76 La0_h4 k3) ?_
      refine mx_nmI  (fun h5 eh5 Xh5 Kh5 Lh5 => ?_)
      have H := H h5 eh5 Xh5
      have Kh5 := Kh5.trans Kh4
      have Lh5 := Lh5.trans Lh4
      have La0_h5 := La0_h4.ext Xh5
      refine mx_iinc (al' := [some (rv a0), some (iv x1), some (iv x2), some (iv x3), some (iv (x4 + (1 : Int32))), none, none, none]) dX8_bushel_51 rfl ic_1 rfl ?_
      refine mx_goto (tgt := 7) dX8_bushel_54 rfl ?_
      exact mx_weak (al' := [some (rv a0), some (iv x1), some (iv x2), some (iv x3), some (iv (x4 + (1 : Int32))), none, none, none]) ⟨rfl, ⟨rfl, ⟨rfl, ⟨rfl, ⟨rfl, trivial⟩⟩⟩⟩⟩ H
    · have H := H.2 c2
      refine mx_aload_n dX8_bushel_25 rfl rfl ?_
      refine mx_get 8 100 (ref := "PrairiePoolModel") cl_8 (Nat.le_of_ble_eq_true rfl) (Or.inl q1727) (Or.inl rfl) dX8_bushel_26 (fv_8_100 _ _) (ly8_k La0_h) ?_
      refine mx_tr (ly8_R_0_100 La0_h) ?_
      refine mx_iload dX8_bushel_29 rfl ?_
      obtain ⟨k6, H⟩ := H
      refine my_iald dX8_bushel_31 rfl (ly8_A_71 La0_h k6) ?_
      refine mx_if_le (tgt := 39) dX8_bushel_32 rfl (fun c7 => ?_) (fun c7 => ?_)
      · have H := H.1 c7
        refine mx_ldcw q2458 dX8_bushel_39 ?_
        obtain ⟨k8, H⟩ := H
        refine my_iast dX8_bushel_42 rfl (ly8_A_75 La0_h k8) ?_
        refine mx_nmI  (fun h9 eh9 Xh9 Kh9 Lh9 => ?_)
        have H := H h9 eh9 Xh9
        have La0_h9 := La0_h.ext Xh9
        refine mx_aload_n dX8_bushel_43 rfl rfl ?_
        refine mx_get 8 105 (ref := "PrairiePoolModel") cl_8 (Nat.le_of_ble_eq_true rfl) (Or.inl q1732) (Or.inl rfl) dX8_bushel_44 (fv_8_105 _ _) (ly8_k La0_h9) ?_
        refine mx_tr (ly8_R_0_105 La0_h9) ?_
        refine mx_iload dX8_bushel_47 rfl ?_
        refine mx_iconst dX8_bushel_49 ic_m1 ?_
        refine my_iast dX8_bushel_50 rfl (ly8_A_76 La0_h9 k8) ?_
        refine mx_nmI  (fun h10 eh10 Xh10 Kh10 Lh10 => ?_)
        have H := H h10 eh10 Xh10
        have Kh10 := Kh10.trans Kh9
        have Lh10 := Lh10.trans Lh9
        have La0_h10 := La0_h9.ext Xh10
        refine mx_iinc (al' := [some (rv a0), some (iv x1), some (iv x2), some (iv x3), some (iv (x4 + (1 : Int32))), none, none, none]) dX8_bushel_51 rfl ic_1 rfl ?_
        refine mx_goto (tgt := 7) dX8_bushel_54 rfl ?_
        exact mx_weak (al' := [some (rv a0), some (iv x1), some (iv x2), some (iv x3), some (iv (x4 + (1 : Int32))), none, none, none]) ⟨rfl, ⟨rfl, ⟨rfl, ⟨rfl, ⟨rfl, trivial⟩⟩⟩⟩⟩ H
      · have H := H.2 c7
        refine mx_iconst dX8_bushel_35 ic_0 ?_
        refine mx_goto (tgt := 42) dX8_bushel_36 rfl ?_
        obtain ⟨k11, H⟩ := H
        refine my_iast dX8_bushel_42 rfl (ly8_A_75 La0_h k11) ?_
        refine mx_nmI  (fun h12 eh12 Xh12 Kh12 Lh12 => ?_)
        have H := H h12 eh12 Xh12
        have La0_h12 := La0_h.ext Xh12
        refine mx_aload_n dX8_bushel_43 rfl rfl ?_
        refine mx_get 8 105 (ref := "PrairiePoolModel") cl_8 (Nat.le_of_ble_eq_true rfl) (Or.inl q1732) (Or.inl rfl) dX8_bushel_44 (fv_8_105 _ _) (ly8_k La0_h12) ?_
        refine mx_tr (ly8_R_0_105 La0_h12) ?_
        refine mx_iload dX8_bushel_47 rfl ?_
        refine mx_iconst dX8_bushel_49 ic_m1 ?_
        refine my_iast dX8_bushel_50 rfl (ly8_A_76 La0_h12 k11) ?_
        refine mx_nmI  (fun h13 eh13 Xh13 Kh13 Lh13 => ?_)
        have H := H h13 eh13 Xh13
        have Kh13 := Kh13.trans Kh12
        have Lh13 := Lh13.trans Lh12
        have La0_h13 := La0_h12.ext Xh13
        refine mx_iinc (al' := [some (rv a0), some (iv x1), some (iv x2), some (iv x3), some (iv (x4 + (1 : Int32))), none, none, none]) dX8_bushel_51 rfl ic_1 rfl ?_
        refine mx_goto (tgt := 7) dX8_bushel_54 rfl ?_
        exact mx_weak (al' := [some (rv a0), some (iv x1), some (iv x2), some (iv x3), some (iv (x4 + (1 : Int32))), none, none, none]) ⟨rfl, ⟨rfl, ⟨rfl, ⟨rfl, ⟨rfl, trivial⟩⟩⟩⟩⟩ H
theorem v_X8_bushel_60 {G : ma_G} {d : Nat} {a0 : Nat} {x1 : Int32} {x2 : Int32} {x3 : Int32} {x4 : Int32} {h : ah_T} {Q : Option ma_V → ah_T → Prop} {E : Nat → ah_T → Prop} (La0_h : LY8 h a0) (H : (x3 ≤ x4 → MX G mi_X8_bushel d 257 [some (rv a0), some (iv x1), some (iv x2), none, some (iv (-1 : Int32)), some (iv (0 : Int32)), none, none] [] h Q E) ∧ (¬ x3 ≤ x4 → MX G mi_X8_bushel d 69 [some (rv a0), some (iv x1), some (iv x2), some (iv x3), some (iv x4), some (iv (0 : Int32)), none, none] [] h Q E)) : MX G mi_X8_bushel d 60 [some (rv a0), some (iv x1), some (iv x2), some (iv x3), some (iv x4), none, none, none] [] h Q E := by
  refine mx_iload dX8_bushel_60 rfl ?_
  refine mx_iload_n dX8_bushel_62 rfl rfl ?_
  refine mx_icmp_ge (tgt := 251) dX8_bushel_63 rfl (fun c1 => ?_) (fun c1 => ?_)
  · have H := H.1 c1
    refine mx_iconst dX8_bushel_251 ic_m1 ?_
    refine mx_istore (al' := [some (rv a0), some (iv x1), some (iv x2), some (iv x3), some (iv (-1 : Int32)), none, none, none]) dX8_bushel_252 (Nat.le_of_ble_eq_true rfl) rfl ?_
    refine mx_iconst dX8_bushel_254 ic_0 ?_
    refine mx_istore (al' := [some (rv a0), some (iv x1), some (iv x2), some (iv x3), some (iv (-1 : Int32)), some (iv (0 : Int32)), none, none]) dX8_bushel_255 (Nat.le_of_ble_eq_true rfl) rfl ?_
    exact mx_weak (al' := [some (rv a0), some (iv x1), some (iv x2), none, some (iv (-1 : Int32)), some (iv (0 : Int32)), none, none]) ⟨rfl, ⟨rfl, ⟨rfl, ⟨rfl, ⟨rfl, trivial⟩⟩⟩⟩⟩ H
  · have H := H.2 c1
    refine mx_iconst dX8_bushel_66 ic_0 ?_
    refine mx_istore (al' := [some (rv a0), some (iv x1), some (iv x2), some (iv x3), some (iv x4), some (iv (0 : Int32)), none, none]) dX8_bushel_67 (Nat.le_of_ble_eq_true rfl) rfl ?_
    exact mx_weak (al' := [some (rv a0), some (iv x1), some (iv x2), some (iv x3), some (iv x4), some (iv (0 : Int32)), none, none]) ⟨rfl, ⟨rfl, ⟨rfl, ⟨rfl, ⟨rfl, ⟨rfl, trivial⟩⟩⟩⟩⟩⟩ H
theorem v_X8_bushel_257 {G : ma_G} {d : Nat} {a0 : Nat} {x1 : Int32} {x2 : Int32} {x4 : Int32} {x5 : Int32} {h : ah_T} {Q : Option ma_V → ah_T → Prop} {E : Nat → ah_T → Prop} (La0_h : LY8 h a0) (H : (x2 ≤ x5 → vp_in x4 4 ∧ ∀ h3 : ah_T, h3 = ah_wI h (a0 + 72) x4.toNatClampNeg ((ah_I h (a0 + 72) x4.toNatClampNeg) - (1 : Int32)) → ah_ext h h3 → MX G mi_X8_bushel d 326 [some (rv a0), some (iv x1), some (iv x2), none, some (iv x4), some (iv (x1 + x4)), none, none] [] h3 Q E) ∧ (¬ x2 ≤ x5 → vp_in x5 4 ∧ ((ah_I h (a0 + 72) x5.toNatClampNeg) ≤ 0 → MX G mi_X8_bushel d 257 [some (rv a0), some (iv x1), some (iv x2), none, some (iv x4), some (iv (x5 + (1 : Int32))), none, none] [] h Q E) ∧ (¬ (ah_I h (a0 + 72) x5.toNatClampNeg) ≤ 0 → (x4 < 0 → MX G mi_X8_bushel d 257 [some (rv a0), some (iv x1), some (iv x2), none, some (iv x5), some (iv (x5 + (1 : Int32))), none, none] [] h Q E) ∧ (¬ x4 < 0 → vp_in (x1 + x5) 11 ∧ vp_in (x1 + x4) 11 ∧ ((ah_I h (a0 + 75) (x1 + x4).toNatClampNeg) ≤ (ah_I h (a0 + 75) (x1 + x5).toNatClampNeg) → MX G mi_X8_bushel d 257 [some (rv a0), some (iv x1), some (iv x2), none, some (iv x4), some (iv (x5 + (1 : Int32))), none, none] [] h Q E) ∧ (¬ (ah_I h (a0 + 75) (x1 + x4).toNatClampNeg) ≤ (ah_I h (a0 + 75) (x1 + x5).toNatClampNeg) → MX G mi_X8_bushel d 257 [some (rv a0), some (iv x1), some (iv x2), none, some (iv x5), some (iv (x5 + (1 : Int32))), none, none] [] h Q E))))) : MX G mi_X8_bushel d 257 [some (rv a0), some (iv x1), some (iv x2), none, some (iv x4), some (iv x5), none, none] [] h Q E := by
  refine mx_iload dX8_bushel_257 rfl ?_
  refine mx_iload_n dX8_bushel_259 rfl rfl ?_
  refine mx_icmp_ge (tgt := 309) dX8_bushel_260 rfl (fun c1 => ?_) (fun c1 => ?_)
  · have H := H.1 c1
    refine mx_aload_n dX8_bushel_309 rfl rfl ?_
    refine mx_get 8 101 (ref := "PrairiePoolModel") cl_8 (Nat.le_of_ble_eq_true rfl) (Or.inl q1728) (Or.inl rfl) dX8_bushel_310 (fv_8_101 _ _) (ly8_k La0_h) ?_
    refine mx_tr (ly8_R_0_101 La0_h) ?_
    refine mx_iload dX8_bushel_313 rfl ?_
    refine mx_dup2_ir dX8_bushel_315 ?_
    obtain ⟨k2, H⟩ := H
    refine my_iald dX8_bushel_316 rfl (ly8_A_72 La0_h k2) ?_
    refine mx_iconst dX8_bushel_317 ic_1 ?_
    refine mx_isub dX8_bushel_318 ?_
    refine my_iast dX8_bushel_319 rfl (ly8_A_72 La0_h k2) ?_
    refine mx_nmI  (fun h3 eh3 Xh3 Kh3 Lh3 => ?_)
    have H := H h3 eh3 Xh3
    have La0_h3 := La0_h.ext Xh3
    refine mx_iload_n dX8_bushel_320 rfl rfl ?_
    refine mx_iload dX8_bushel_321 rfl ?_
    refine mx_iadd dX8_bushel_323 ?_
    refine mx_istore (al' := [some (rv a0), some (iv x1), some (iv x2), none, some (iv x4), some (iv (x1 + x4)), none, none]) dX8_bushel_324 (Nat.le_of_ble_eq_true rfl) rfl ?_
    exact mx_weak (al' := [some (rv a0), some (iv x1), some (iv x2), none, some (iv x4), some (iv (x1 + x4)), none, none]) ⟨rfl, ⟨rfl, ⟨rfl, ⟨rfl, ⟨rfl, trivial⟩⟩⟩⟩⟩ H
  · have H := H.2 c1
    refine mx_aload_n dX8_bushel_263 rfl rfl ?_
    refine mx_get 8 101 (ref := "PrairiePoolModel") cl_8 (Nat.le_of_ble_eq_true rfl) (Or.inl q1728) (Or.inl rfl) dX8_bushel_264 (fv_8_101 _ _) (ly8_k La0_h) ?_
    refine mx_tr (ly8_R_0_101 La0_h) ?_
    refine mx_iload dX8_bushel_267 rfl ?_
    obtain ⟨k4, H⟩ := H
    refine my_iald dX8_bushel_269 rfl (ly8_A_72 La0_h k4) ?_
    refine mx_if_le (tgt := 303) dX8_bushel_270 rfl (fun c5 => ?_) (fun c5 => ?_)
    · have H := H.1 c5
      refine mx_iinc (al' := [some (rv a0), some (iv x1), some (iv x2), none, some (iv x4), some (iv (x5 + (1 : Int32))), none, none]) dX8_bushel_303 rfl ic_1 rfl ?_
      refine mx_goto (tgt := 257) dX8_bushel_306 rfl ?_
      exact mx_weak (al' := [some (rv a0), some (iv x1), some (iv x2), none, some (iv x4), some (iv (x5 + (1 : Int32))), none, none]) ⟨rfl, ⟨rfl, ⟨rfl, ⟨rfl, ⟨rfl, trivial⟩⟩⟩⟩⟩ H
    · have H := H.2 c5
      refine mx_iload dX8_bushel_273 rfl ?_
      refine mx_if_lt (tgt := 299) dX8_bushel_275 rfl (fun c6 => ?_) (fun c6 => ?_)
      · have H := H.1 c6
        refine mx_iload dX8_bushel_299 rfl ?_
        refine mx_istore (al' := [some (rv a0), some (iv x1), some (iv x2), none, some (iv x5), some (iv x5), none, none]) dX8_bushel_301 (Nat.le_of_ble_eq_true rfl) rfl ?_
        refine mx_iinc (al' := [some (rv a0), some (iv x1), some (iv x2), none, some (iv x5), some (iv (x5 + (1 : Int32))), none, none]) dX8_bushel_303 rfl ic_1 rfl ?_
        refine mx_goto (tgt := 257) dX8_bushel_306 rfl ?_
        exact mx_weak (al' := [some (rv a0), some (iv x1), some (iv x2), none, some (iv x5), some (iv (x5 + (1 : Int32))), none, none]) ⟨rfl, ⟨rfl, ⟨rfl, ⟨rfl, ⟨rfl, trivial⟩⟩⟩⟩⟩ H
      · have H := H.2 c6
        refine mx_aload_n dX8_bushel_278 rfl rfl ?_
        refine mx_get 8 104 (ref := "PrairiePoolModel") cl_8 (Nat.le_of_ble_eq_true rfl) (Or.inl q1731) (Or.inl rfl) dX8_bushel_279 (fv_8_104 _ _) (ly8_k La0_h) ?_
        refine mx_tr (ly8_R_0_104 La0_h) ?_
        refine mx_iload_n dX8_bushel_282 rfl rfl ?_
        refine mx_iload dX8_bushel_283 rfl ?_
        refine mx_iadd dX8_bushel_285 ?_
        obtain ⟨k7, H⟩ := H
        refine my_iald dX8_bushel_286 rfl (ly8_A_75 La0_h k7) ?_
        refine mx_aload_n dX8_bushel_287 rfl rfl ?_
        refine mx_get 8 104 (ref := "PrairiePoolModel") cl_8 (Nat.le_of_ble_eq_true rfl) (Or.inl q1731) (Or.inl rfl) dX8_bushel_288 (fv_8_104 _ _) (ly8_k La0_h) ?_
        refine mx_tr (ly8_R_0_104 La0_h) ?_
        refine mx_iload_n dX8_bushel_291 rfl rfl ?_
        refine mx_iload dX8_bushel_292 rfl ?_
        refine mx_iadd dX8_bushel_294 ?_
        obtain ⟨k8, H⟩ := H
        refine my_iald dX8_bushel_295 rfl (ly8_A_75 La0_h k8) ?_
        refine mx_icmp_ge (tgt := 303) dX8_bushel_296 rfl (fun c9 => ?_) (fun c9 => ?_)
        · have H := H.1 c9
          refine mx_iinc (al' := [some (rv a0), some (iv x1), some (iv x2), none, some (iv x4), some (iv (x5 + (1 : Int32))), none, none]) dX8_bushel_303 rfl ic_1 rfl ?_
          refine mx_goto (tgt := 257) dX8_bushel_306 rfl ?_
          exact mx_weak (al' := [some (rv a0), some (iv x1), some (iv x2), none, some (iv x4), some (iv (x5 + (1 : Int32))), none, none]) ⟨rfl, ⟨rfl, ⟨rfl, ⟨rfl, ⟨rfl, trivial⟩⟩⟩⟩⟩ H
        · have H := H.2 c9
          refine mx_iload dX8_bushel_299 rfl ?_
          refine mx_istore (al' := [some (rv a0), some (iv x1), some (iv x2), none, some (iv x5), some (iv x5), none, none]) dX8_bushel_301 (Nat.le_of_ble_eq_true rfl) rfl ?_
          refine mx_iinc (al' := [some (rv a0), some (iv x1), some (iv x2), none, some (iv x5), some (iv (x5 + (1 : Int32))), none, none]) dX8_bushel_303 rfl ic_1 rfl ?_
          refine mx_goto (tgt := 257) dX8_bushel_306 rfl ?_
          exact mx_weak (al' := [some (rv a0), some (iv x1), some (iv x2), none, some (iv x5), some (iv (x5 + (1 : Int32))), none, none]) ⟨rfl, ⟨rfl, ⟨rfl, ⟨rfl, ⟨rfl, trivial⟩⟩⟩⟩⟩ H
theorem v_X8_bushel_69 {G : ma_G} {d : Nat} {a0 : Nat} {x1 : Int32} {x2 : Int32} {x3 : Int32} {x4 : Int32} {x5 : Int32} {h : ah_T} {Q : Option ma_V → ah_T → Prop} {E : Nat → ah_T → Prop} (La0_h : LY8 h a0) (H : ((x1 * x2) ≤ x5 → MX G mi_X8_bushel d 60 [some (rv a0), some (iv x1), some (iv x2), some (iv x3), some (iv (x4 + (1 : Int32))), none, none, none] [] h Q E) ∧ (¬ (x1 * x2) ≤ x5 → ¬ x2 = 0 ∧ ¬ x2 = 0 ∧ vp_in (x5 / x2) 11 ∧ ((100000 : Int32) ≤ (ah_I h (a0 + 75) (x5 / x2).toNatClampNeg) → MX G mi_X8_bushel d 160 [some (rv a0), some (iv x1), some (iv x2), some (iv x3), some (iv x4), some (iv x5), some (iv (x5 / x2)), some (iv (x1 + (x5 - x5 / x2 * x2)))] [] h Q E) ∧ (¬ (100000 : Int32) ≤ (ah_I h (a0 + 75) (x5 / x2).toNatClampNeg) → vp_in x5 20 ∧ vp_in (x1 + (x5 - x5 / x2 * x2)) 11 ∧ ((ah_I h (a0 + 75) (x1 + (x5 - x5 / x2 * x2)).toNatClampNeg) ≤ ((ah_I h (a0 + 75) (x5 / x2).toNatClampNeg) + (ah_I h (a0 + 73) x5.toNatClampNeg)) → MX G mi_X8_bushel d 160 [some (rv a0), some (iv x1), some (iv x2), some (iv x3), some (iv x4), some (iv x5), some (iv (x5 / x2)), some (iv (x1 + (x5 - x5 / x2 * x2)))] [] h Q E) ∧ (¬ (ah_I h (a0 + 75) (x1 + (x5 - x5 / x2 * x2)).toNatClampNeg) ≤ ((ah_I h (a0 + 75) (x5 / x2).toNatClampNeg) + (ah_I h (a0 + 73) x5.toNatClampNeg)) → ∀ h9 : ah_T, h9 = ah_wI h (a0 + 75) (x1 + (x5 - x5 / x2 * x2)).toNatClampNeg ((ah_I h (a0 + 75) (x5 / x2).toNatClampNeg) + (ah_I h (a0 + 73) x5.toNatClampNeg)) → ah_ext h h9 → ∀ h10 : ah_T, h10 = ah_wI h9 (a0 + 76) (x1 + (x5 - x5 / x2 * x2)).toNatClampNeg (x5 / x2) → ah_ext h9 h10 → MX G mi_X8_bushel d 160 [some (rv a0), some (iv x1), some (iv x2), some (iv x3), some (iv x4), some (iv x5), some (iv (x5 / x2)), some (iv (x1 + (x5 - x5 / x2 * x2)))] [] h10 Q E)))) : MX G mi_X8_bushel d 69 [some (rv a0), some (iv x1), some (iv x2), some (iv x3), some (iv x4), some (iv x5), none, none] [] h Q E := by
  refine mx_iload dX8_bushel_69 rfl ?_
  refine mx_iload_n dX8_bushel_71 rfl rfl ?_
  refine mx_iload_n dX8_bushel_72 rfl rfl ?_
  refine mx_imul dX8_bushel_73 ?_
  refine mx_icmp_ge (tgt := 245) dX8_bushel_74 rfl (fun c1 => ?_) (fun c1 => ?_)
  · have H := H.1 c1
    refine mx_iinc (al' := [some (rv a0), some (iv x1), some (iv x2), some (iv x3), some (iv (x4 + (1 : Int32))), some (iv x5), none, none]) dX8_bushel_245 rfl ic_1 rfl ?_
    refine mx_goto (tgt := 60) dX8_bushel_248 rfl ?_
    exact mx_weak (al' := [some (rv a0), some (iv x1), some (iv x2), some (iv x3), some (iv (x4 + (1 : Int32))), none, none, none]) ⟨rfl, ⟨rfl, ⟨rfl, ⟨rfl, ⟨rfl, trivial⟩⟩⟩⟩⟩ H
  · have H := H.2 c1
    refine mx_iload dX8_bushel_77 rfl ?_
    refine mx_iload_n dX8_bushel_79 rfl rfl ?_
    obtain ⟨k2, H⟩ := H
    refine mx_idiv dX8_bushel_80 k2 ?_
    refine mx_istore (al' := [some (rv a0), some (iv x1), some (iv x2), some (iv x3), some (iv x4), some (iv x5), some (iv (x5 / x2)), none]) dX8_bushel_81 (Nat.le_of_ble_eq_true rfl) rfl ?_
    refine mx_iload_n dX8_bushel_83 rfl rfl ?_
    refine mx_iload dX8_bushel_84 rfl ?_
    refine mx_iload_n dX8_bushel_86 rfl rfl ?_
    obtain ⟨k3, H⟩ := H
    refine mx_irem dX8_bushel_87 k3 ?_
    refine mx_iadd dX8_bushel_88 ?_
    refine mx_istore (al' := [some (rv a0), some (iv x1), some (iv x2), some (iv x3), some (iv x4), some (iv x5), some (iv (x5 / x2)), some (iv (x1 + (x5 - x5 / x2 * x2)))]) dX8_bushel_89 (Nat.le_of_ble_eq_true rfl) rfl ?_
    refine mx_aload_n dX8_bushel_91 rfl rfl ?_
    refine mx_get 8 104 (ref := "PrairiePoolModel") cl_8 (Nat.le_of_ble_eq_true rfl) (Or.inl q1731) (Or.inl rfl) dX8_bushel_92 (fv_8_104 _ _) (ly8_k La0_h) ?_
    refine mx_tr (ly8_R_0_104 La0_h) ?_
    refine mx_iload dX8_bushel_95 rfl ?_
    obtain ⟨k4, H⟩ := H
    refine my_iald dX8_bushel_97 rfl (ly8_A_75 La0_h k4) ?_
    refine mx_ldcw q2458 dX8_bushel_98 ?_
    refine mx_icmp_ge (tgt := 160) dX8_bushel_101 rfl (fun c5 => ?_) (fun c5 => ?_)
    · have H := H.1 c5
      exact mx_weak (al' := [some (rv a0), some (iv x1), some (iv x2), some (iv x3), some (iv x4), some (iv x5), some (iv (x5 / x2)), some (iv (x1 + (x5 - x5 / x2 * x2)))]) ⟨rfl, ⟨rfl, ⟨rfl, ⟨rfl, ⟨rfl, ⟨rfl, ⟨rfl, ⟨rfl, trivial⟩⟩⟩⟩⟩⟩⟩⟩ H
    · have H := H.2 c5
      refine mx_aload_n dX8_bushel_104 rfl rfl ?_
      refine mx_get 8 104 (ref := "PrairiePoolModel") cl_8 (Nat.le_of_ble_eq_true rfl) (Or.inl q1731) (Or.inl rfl) dX8_bushel_105 (fv_8_104 _ _) (ly8_k La0_h) ?_
      refine mx_tr (ly8_R_0_104 La0_h) ?_
      refine mx_iload dX8_bushel_108 rfl ?_
      refine my_iald dX8_bushel_110 rfl (ly8_A_75 La0_h k4) ?_
      refine mx_aload_n dX8_bushel_111 rfl rfl ?_
      refine mx_get 8 102 (ref := "PrairiePoolModel") cl_8 (Nat.le_of_ble_eq_true rfl) (Or.inl q1729) (Or.inl rfl) dX8_bushel_112 (fv_8_102 _ _) (ly8_k La0_h) ?_
      refine mx_tr (ly8_R_0_102 La0_h) ?_
      refine mx_iload dX8_bushel_115 rfl ?_
      obtain ⟨k6, H⟩ := H
      refine my_iald dX8_bushel_117 rfl (ly8_A_73 La0_h k6) ?_
      refine mx_iadd dX8_bushel_118 ?_
      refine mx_aload_n dX8_bushel_119 rfl rfl ?_
      refine mx_get 8 104 (ref := "PrairiePoolModel") cl_8 (Nat.le_of_ble_eq_true rfl) (Or.inl q1731) (Or.inl rfl) dX8_bushel_120 (fv_8_104 _ _) (ly8_k La0_h) ?_
      refine mx_tr (ly8_R_0_104 La0_h) ?_
      refine mx_iload dX8_bushel_123 rfl ?_
      obtain ⟨k7, H⟩ := H
      refine my_iald dX8_bushel_125 rfl (ly8_A_75 La0_h k7) ?_
      refine mx_icmp_ge (tgt := 160) dX8_bushel_126 rfl (fun c8 => ?_) (fun c8 => ?_)
      · have H := H.1 c8
        exact mx_weak (al' := [some (rv a0), some (iv x1), some (iv x2), some (iv x3), some (iv x4), some (iv x5), some (iv (x5 / x2)), some (iv (x1 + (x5 - x5 / x2 * x2)))]) ⟨rfl, ⟨rfl, ⟨rfl, ⟨rfl, ⟨rfl, ⟨rfl, ⟨rfl, ⟨rfl, trivial⟩⟩⟩⟩⟩⟩⟩⟩ H
      · have H := H.2 c8
        refine mx_aload_n dX8_bushel_129 rfl rfl ?_
        refine mx_get 8 104 (ref := "PrairiePoolModel") cl_8 (Nat.le_of_ble_eq_true rfl) (Or.inl q1731) (Or.inl rfl) dX8_bushel_130 (fv_8_104 _ _) (ly8_k La0_h) ?_
        refine mx_tr (ly8_R_0_104 La0_h) ?_
        refine mx_iload dX8_bushel_133 rfl ?_
        refine mx_aload_n dX8_bushel_135 rfl rfl ?_
        refine mx_get 8 104 (ref := "PrairiePoolModel") cl_8 (Nat.le_of_ble_eq_true rfl) (Or.inl q1731) (Or.inl rfl) dX8_bushel_136 (fv_8_104 _ _) (ly8_k La0_h) ?_
        refine mx_tr (ly8_R_0_104 La0_h) ?_
        refine mx_iload dX8_bushel_139 rfl ?_
        refine my_iald dX8_bushel_141 rfl (ly8_A_75 La0_h k4) ?_
        refine mx_aload_n dX8_bushel_142 rfl rfl ?_
        refine mx_get 8 102 (ref := "PrairiePoolModel") cl_8 (Nat.le_of_ble_eq_true rfl) (Or.inl q1729) (Or.inl rfl) dX8_bushel_143 (fv_8_102 _ _) (ly8_k La0_h) ?_
        refine mx_tr (ly8_R_0_102 La0_h) ?_
        refine mx_iload dX8_bushel_146 rfl ?_
        refine my_iald dX8_bushel_148 rfl (ly8_A_73 La0_h k6) ?_
        refine mx_iadd dX8_bushel_149 ?_
        refine my_iast dX8_bushel_150 rfl (ly8_A_75 La0_h k7) ?_
        refine mx_nmI  (fun h9 eh9 Xh9 Kh9 Lh9 => ?_)
        have H := H h9 eh9 Xh9
        have La0_h9 := La0_h.ext Xh9
        refine mx_aload_n dX8_bushel_151 rfl rfl ?_
        refine mx_get 8 105 (ref := "PrairiePoolModel") cl_8 (Nat.le_of_ble_eq_true rfl) (Or.inl q1732) (Or.inl rfl) dX8_bushel_152 (fv_8_105 _ _) (ly8_k La0_h9) ?_
        refine mx_tr (ly8_R_0_105 La0_h9) ?_
        refine mx_iload dX8_bushel_155 rfl ?_
        refine mx_iload dX8_bushel_157 rfl ?_
        refine my_iast dX8_bushel_159 rfl (ly8_A_76 La0_h9 k7) ?_
        refine mx_nmI  (fun h10 eh10 Xh10 Kh10 Lh10 => ?_)
        have H := H h10 eh10 Xh10
        have Kh10 := Kh10.trans Kh9
        have Lh10 := Lh10.trans Lh9
        have La0_h10 := La0_h9.ext Xh10
        exact mx_weak (al' := [some (rv a0), some (iv x1), some (iv x2), some (iv x3), some (iv x4), some (iv x5), some (iv (x5 / x2)), some (iv (x1 + (x5 - x5 / x2 * x2)))]) ⟨rfl, ⟨rfl, ⟨rfl, ⟨rfl, ⟨rfl, ⟨rfl, ⟨rfl, ⟨rfl, trivial⟩⟩⟩⟩⟩⟩⟩⟩ H
theorem v_X8_bushel_326 {G : ma_G} {d : Nat} {a0 : Nat} {x1 : Int32} {x2 : Int32} {x4 : Int32} {x5 : Int32} {h : ah_T} {Q : Option ma_V → ah_T → Prop} {E : Nat → ah_T → Prop} (La0_h : LY8 h a0) (H : vp_in x5 11 ∧ ((ah_I h (a0 + 76) x5.toNatClampNeg) = (-1 : Int32) → vp_in x5 5 ∧ ∀ h4 : ah_T, h4 = ah_wI h (a0 + 71) x5.toNatClampNeg ((ah_I h (a0 + 71) x5.toNatClampNeg) - (1 : Int32)) → ah_ext h h4 → vp_in (x1 + x4) 11 ∧ Q (some (iv (ah_I h (a0 + 75) (x1 + x4).toNatClampNeg))) h4) ∧ (¬ (ah_I h (a0 + 76) x5.toNatClampNeg) = (-1 : Int32) → (x5 < x1 → vp_in (((x2 * x5) + (ah_I h (a0 + 76) x5.toNatClampNeg)) - x1) 20 ∧ ∀ h8 : ah_T, h8 = ah_wI h (a0 + 74) (((x2 * x5) + (ah_I h (a0 + 76) x5.toNatClampNeg)) - x1).toNatClampNeg ((ah_I h (a0 + 74) (((x2 * x5) + (ah_I h (a0 + 76) x5.toNatClampNeg)) - x1).toNatClampNeg) - (1 : Int32)) → ah_ext h h8 → MX G mi_X8_bushel d 326 [some (rv a0), some (iv x1), some (iv x2), none, some (iv x4), some (iv (ah_I h (a0 + 76) x5.toNatClampNeg)), none, none] [] h8 Q E) ∧ (¬ x5 < x1 → vp_in (((x2 * (ah_I h (a0 + 76) x5.toNatClampNeg)) + x5) - x1) 20 ∧ ∀ h10 : ah_T, h10 = ah_wI h (a0 + 74) (((x2 * (ah_I h (a0 + 76) x5.toNatClampNeg)) + x5) - x1).toNatClampNeg ((ah_I h (a0 + 74) (((x2 * (ah_I h (a0 + 76) x5.toNatClampNeg)) + x5) - x1).toNatClampNeg) + (1 : Int32)) → ah_ext h h10 → MX G mi_X8_bushel d 326 [some (rv a0), some (iv x1), some (iv x2), none, some (iv x4), some (iv (ah_I h (a0 + 76) x5.toNatClampNeg)), none, none] [] h10 Q E))) : MX G mi_X8_bushel d 326 [some (rv a0), some (iv x1), some (iv x2), none, some (iv x4), some (iv x5), none, none] [] h Q E := by
  refine mx_aload_n dX8_bushel_326 rfl rfl ?_
  refine mx_get 8 105 (ref := "PrairiePoolModel") cl_8 (Nat.le_of_ble_eq_true rfl) (Or.inl q1732) (Or.inl rfl) dX8_bushel_327 (fv_8_105 _ _) (ly8_k La0_h) ?_
  refine mx_tr (ly8_R_0_105 La0_h) ?_
  refine mx_iload dX8_bushel_330 rfl ?_
  obtain ⟨k1, H⟩ := H
  refine my_iald dX8_bushel_332 rfl (ly8_A_76 La0_h k1) ?_
  refine mx_iconst dX8_bushel_333 ic_m1 ?_
  refine mx_icmp_eq (tgt := 398) dX8_bushel_334 rfl (fun c2 => ?_) (fun c2 => ?_)
  · have H := H.1 c2
    refine mx_aload_n dX8_bushel_398 rfl rfl ?_
    refine mx_get 8 100 (ref := "PrairiePoolModel") cl_8 (Nat.le_of_ble_eq_true rfl) (Or.inl q1727) (Or.inl rfl) dX8_bushel_399 (fv_8_100 _ _) (ly8_k La0_h) ?_
    refine mx_tr (ly8_R_0_100 La0_h) ?_
    refine mx_iload dX8_bushel_402 rfl ?_
    refine mx_dup2_ir dX8_bushel_404 ?_
    obtain ⟨k3, H⟩ := H
    refine my_iald dX8_bushel_405 rfl (ly8_A_71 La0_h k3) ?_
    refine mx_iconst dX8_bushel_406 ic_1 ?_
    refine mx_isub dX8_bushel_407 ?_
    refine my_iast dX8_bushel_408 rfl (ly8_A_71 La0_h k3) ?_
    refine mx_nmI  (fun h4 eh4 Xh4 Kh4 Lh4 => ?_)
    have H := H h4 eh4 Xh4
    have La0_h4 := La0_h.ext Xh4
    refine mx_aload_n dX8_bushel_409 rfl rfl ?_
    refine mx_get 8 104 (ref := "PrairiePoolModel") cl_8 (Nat.le_of_ble_eq_true rfl) (Or.inl q1731) (Or.inl rfl) dX8_bushel_410 (fv_8_104 _ _) (ly8_k La0_h4) ?_
    refine mx_tr (ly8_R_0_104 La0_h4) ?_
    refine mx_iload_n dX8_bushel_413 rfl rfl ?_
    refine mx_iload dX8_bushel_414 rfl ?_
    refine mx_iadd dX8_bushel_416 ?_
    obtain ⟨k5, H⟩ := H
    refine my_iald dX8_bushel_417 rfl (ly8_A_75 La0_h4 k5) ?_
    refine mx_ti (ah_skIA eh4 (by omega)) ?_
    exact mx_iret rfl dX8_bushel_418 H
  · have H := H.2 c2
    refine mx_aload_n dX8_bushel_337 rfl rfl ?_
    refine mx_get 8 105 (ref := "PrairiePoolModel") cl_8 (Nat.le_of_ble_eq_true rfl) (Or.inl q1732) (Or.inl rfl) dX8_bushel_338 (fv_8_105 _ _) (ly8_k La0_h) ?_
    refine mx_tr (ly8_R_0_105 La0_h) ?_
    refine mx_iload dX8_bushel_341 rfl ?_
    refine my_iald dX8_bushel_343 rfl (ly8_A_76 La0_h k1) ?_
    refine mx_istore (al' := [some (rv a0), some (iv x1), some (iv x2), none, some (iv x4), some (iv x5), some (iv (ah_I h (a0 + 76) x5.toNatClampNeg)), none]) dX8_bushel_344 (Nat.le_of_ble_eq_true rfl) rfl ?_
    refine mx_iload dX8_bushel_346 rfl ?_
    refine mx_iload_n dX8_bushel_348 rfl rfl ?_
    refine mx_icmp_lt (tgt := 373) dX8_bushel_349 rfl (fun c6 => ?_) (fun c6 => ?_)
    · have H := H.1 c6
      refine mx_aload_n dX8_bushel_373 rfl rfl ?_
      refine mx_get 8 103 (ref := "PrairiePoolModel") cl_8 (Nat.le_of_ble_eq_true rfl) (Or.inl q1730) (Or.inl rfl) dX8_bushel_374 (fv_8_103 _ _) (ly8_k La0_h) ?_
      refine mx_tr (ly8_R_0_103 La0_h) ?_
      refine mx_iload_n dX8_bushel_377 rfl rfl ?_
      refine mx_iload dX8_bushel_378 rfl ?_
      refine mx_imul dX8_bushel_380 ?_
      refine mx_iload dX8_bushel_381 rfl ?_
      refine mx_iadd dX8_bushel_383 ?_
      refine mx_iload_n dX8_bushel_384 rfl rfl ?_
      refine mx_isub dX8_bushel_385 ?_
      refine mx_dup2_ir dX8_bushel_386 ?_
      obtain ⟨k7, H⟩ := H
      refine my_iald dX8_bushel_387 rfl (ly8_A_74 La0_h k7) ?_
      refine mx_iconst dX8_bushel_388 ic_1 ?_
      refine mx_isub dX8_bushel_389 ?_
      refine my_iast dX8_bushel_390 rfl (ly8_A_74 La0_h k7) ?_
      refine mx_nmI  (fun h8 eh8 Xh8 Kh8 Lh8 => ?_)
      have H := H h8 eh8 Xh8
      have La0_h8 := La0_h.ext Xh8
      refine mx_iload dX8_bushel_391 rfl ?_
      refine mx_istore (al' := [some (rv a0), some (iv x1), some (iv x2), none, some (iv x4), some (iv (ah_I h (a0 + 76) x5.toNatClampNeg)), some (iv (ah_I h (a0 + 76) x5.toNatClampNeg)), none]) dX8_bushel_393 (Nat.le_of_ble_eq_true rfl) rfl ?_
      refine mx_goto (tgt := 326) dX8_bushel_395 rfl ?_
      exact mx_weak (al' := [some (rv a0), some (iv x1), some (iv x2), none, some (iv x4), some (iv (ah_I h (a0 + 76) x5.toNatClampNeg)), none, none]) ⟨rfl, ⟨rfl, ⟨rfl, ⟨rfl, ⟨rfl, trivial⟩⟩⟩⟩⟩ H
    · have H := H.2 c6
      refine mx_aload_n dX8_bushel_352 rfl rfl ?_
      refine mx_get 8 103 (ref := "PrairiePoolModel") cl_8 (Nat.le_of_ble_eq_true rfl) (Or.inl q1730) (Or.inl rfl) dX8_bushel_353 (fv_8_103 _ _) (ly8_k La0_h) ?_
      refine mx_tr (ly8_R_0_103 La0_h) ?_
      refine mx_iload_n dX8_bushel_356 rfl rfl ?_
      refine mx_iload dX8_bushel_357 rfl ?_
      refine mx_imul dX8_bushel_359 ?_
      refine mx_iload dX8_bushel_360 rfl ?_
      refine mx_iadd dX8_bushel_362 ?_
      refine mx_iload_n dX8_bushel_363 rfl rfl ?_
      refine mx_isub dX8_bushel_364 ?_
      refine mx_dup2_ir dX8_bushel_365 ?_
      obtain ⟨k9, H⟩ := H
      refine my_iald dX8_bushel_366 rfl (ly8_A_74 La0_h k9) ?_
      refine mx_iconst dX8_bushel_367 ic_1 ?_
      refine mx_iadd dX8_bushel_368 ?_
      refine my_iast dX8_bushel_369 rfl (ly8_A_74 La0_h k9) ?_
      refine mx_nmI  (fun h10 eh10 Xh10 Kh10 Lh10 => ?_)
      have H := H h10 eh10 Xh10
      have La0_h10 := La0_h.ext Xh10
      refine mx_goto (tgt := 391) dX8_bushel_370 rfl ?_
      refine mx_iload dX8_bushel_391 rfl ?_
      refine mx_istore (al' := [some (rv a0), some (iv x1), some (iv x2), none, some (iv x4), some (iv (ah_I h (a0 + 76) x5.toNatClampNeg)), some (iv (ah_I h (a0 + 76) x5.toNatClampNeg)), none]) dX8_bushel_393 (Nat.le_of_ble_eq_true rfl) rfl ?_
      refine mx_goto (tgt := 326) dX8_bushel_395 rfl ?_
      exact mx_weak (al' := [some (rv a0), some (iv x1), some (iv x2), none, some (iv x4), some (iv (ah_I h (a0 + 76) x5.toNatClampNeg)), none, none]) ⟨rfl, ⟨rfl, ⟨rfl, ⟨rfl, ⟨rfl, trivial⟩⟩⟩⟩⟩ H
theorem v_X8_bushel_160 {G : ma_G} {d : Nat} {a0 : Nat} {x1 : Int32} {x2 : Int32} {x3 : Int32} {x4 : Int32} {x5 : Int32} {x6 : Int32} {x7 : Int32} {h : ah_T} {Q : Option ma_V → ah_T → Prop} {E : Nat → ah_T → Prop} (La0_h : LY8 h a0) (H : vp_in x5 20 ∧ ((ah_I h (a0 + 74) x5.toNatClampNeg) ≤ 0 → MX G mi_X8_bushel d 69 [some (rv a0), some (iv x1), some (iv x2), some (iv x3), some (iv x4), some (iv (x5 + (1 : Int32))), none, none] [] h Q E) ∧ (¬ (ah_I h (a0 + 74) x5.toNatClampNeg) ≤ 0 → vp_in x7 11 ∧ ((100000 : Int32) ≤ (ah_I h (a0 + 75) x7.toNatClampNeg) → MX G mi_X8_bushel d 69 [some (rv a0), some (iv x1), some (iv x2), some (iv x3), some (iv x4), some (iv (x5 + (1 : Int32))), none, none] [] h Q E) ∧ (¬ (100000 : Int32) ≤ (ah_I h (a0 + 75) x7.toNatClampNeg) → vp_in x6 11 ∧ ((ah_I h (a0 + 75) x6.toNatClampNeg) ≤ ((ah_I h (a0 + 75) x7.toNatClampNeg) - (ah_I h (a0 + 73) x5.toNatClampNeg)) → MX G mi_X8_bushel d 69 [some (rv a0), some (iv x1), some (iv x2), some (iv x3), some (iv x4), some (iv (x5 + (1 : Int32))), none, none] [] h Q E) ∧ (¬ (ah_I h (a0 + 75) x6.toNatClampNeg) ≤ ((ah_I h (a0 + 75) x7.toNatClampNeg) - (ah_I h (a0 + 73) x5.toNatClampNeg)) → ∀ h7 : ah_T, h7 = ah_wI h (a0 + 75) x6.toNatClampNeg ((ah_I h (a0 + 75) x7.toNatClampNeg) - (ah_I h (a0 + 73) x5.toNatClampNeg)) → ah_ext h h7 → ∀ h8 : ah_T, h8 = ah_wI h7 (a0 + 76) x6.toNatClampNeg x7 → ah_ext h7 h8 → MX G mi_X8_bushel d 69 [some (rv a0), some (iv x1), some (iv x2), some (iv x3), some (iv x4), some (iv (x5 + (1 : Int32))), none, none] [] h8 Q E)))) : MX G mi_X8_bushel d 160 [some (rv a0), some (iv x1), some (iv x2), some (iv x3), some (iv x4), some (iv x5), some (iv x6), some (iv x7)] [] h Q E := by
  refine mx_aload_n dX8_bushel_160 rfl rfl ?_
  refine mx_get 8 103 (ref := "PrairiePoolModel") cl_8 (Nat.le_of_ble_eq_true rfl) (Or.inl q1730) (Or.inl rfl) dX8_bushel_161 (fv_8_103 _ _) (ly8_k La0_h) ?_
  refine mx_tr (ly8_R_0_103 La0_h) ?_
  refine mx_iload dX8_bushel_164 rfl ?_
  obtain ⟨k1, H⟩ := H
  refine my_iald dX8_bushel_166 rfl (ly8_A_74 La0_h k1) ?_
  refine mx_if_le (tgt := 239) dX8_bushel_167 rfl (fun c2 => ?_) (fun c2 => ?_)
  · have H := H.1 c2
    refine mx_iinc (al' := [some (rv a0), some (iv x1), some (iv x2), some (iv x3), some (iv x4), some (iv (x5 + (1 : Int32))), some (iv x6), some (iv x7)]) dX8_bushel_239 rfl ic_1 rfl ?_
    refine mx_goto (tgt := 69) dX8_bushel_242 rfl ?_
    exact mx_weak (al' := [some (rv a0), some (iv x1), some (iv x2), some (iv x3), some (iv x4), some (iv (x5 + (1 : Int32))), none, none]) ⟨rfl, ⟨rfl, ⟨rfl, ⟨rfl, ⟨rfl, ⟨rfl, trivial⟩⟩⟩⟩⟩⟩ H
  · have H := H.2 c2
    refine mx_aload_n dX8_bushel_170 rfl rfl ?_
    refine mx_get 8 104 (ref := "PrairiePoolModel") cl_8 (Nat.le_of_ble_eq_true rfl) (Or.inl q1731) (Or.inl rfl) dX8_bushel_171 (fv_8_104 _ _) (ly8_k La0_h) ?_
    refine mx_tr (ly8_R_0_104 La0_h) ?_
    refine mx_iload dX8_bushel_174 rfl ?_
    obtain ⟨k3, H⟩ := H
    refine my_iald dX8_bushel_176 rfl (ly8_A_75 La0_h k3) ?_
    refine mx_ldcw q2458 dX8_bushel_177 ?_
    refine mx_icmp_ge (tgt := 239) dX8_bushel_180 rfl (fun c4 => ?_) (fun c4 => ?_)
    · have H := H.1 c4
      refine mx_iinc (al' := [some (rv a0), some (iv x1), some (iv x2), some (iv x3), some (iv x4), some (iv (x5 + (1 : Int32))), some (iv x6), some (iv x7)]) dX8_bushel_239 rfl ic_1 rfl ?_
      refine mx_goto (tgt := 69) dX8_bushel_242 rfl ?_
      exact mx_weak (al' := [some (rv a0), some (iv x1), some (iv x2), some (iv x3), some (iv x4), some (iv (x5 + (1 : Int32))), none, none]) ⟨rfl, ⟨rfl, ⟨rfl, ⟨rfl, ⟨rfl, ⟨rfl, trivial⟩⟩⟩⟩⟩⟩ H
    · have H := H.2 c4
      refine mx_aload_n dX8_bushel_183 rfl rfl ?_
      refine mx_get 8 104 (ref := "PrairiePoolModel") cl_8 (Nat.le_of_ble_eq_true rfl) (Or.inl q1731) (Or.inl rfl) dX8_bushel_184 (fv_8_104 _ _) (ly8_k La0_h) ?_
      refine mx_tr (ly8_R_0_104 La0_h) ?_
      refine mx_iload dX8_bushel_187 rfl ?_
      refine my_iald dX8_bushel_189 rfl (ly8_A_75 La0_h k3) ?_
      refine mx_aload_n dX8_bushel_190 rfl rfl ?_
      refine mx_get 8 102 (ref := "PrairiePoolModel") cl_8 (Nat.le_of_ble_eq_true rfl) (Or.inl q1729) (Or.inl rfl) dX8_bushel_191 (fv_8_102 _ _) (ly8_k La0_h) ?_
      refine mx_tr (ly8_R_0_102 La0_h) ?_
      refine mx_iload dX8_bushel_194 rfl ?_
      refine my_iald dX8_bushel_196 rfl (ly8_A_73 La0_h k1) ?_
      refine mx_isub dX8_bushel_197 ?_
      refine mx_aload_n dX8_bushel_198 rfl rfl ?_
      refine mx_get 8 104 (ref := "PrairiePoolModel") cl_8 (Nat.le_of_ble_eq_true rfl) (Or.inl q1731) (Or.inl rfl) dX8_bushel_199 (fv_8_104 _ _) (ly8_k La0_h) ?_
      refine mx_tr (ly8_R_0_104 La0_h) ?_
      refine mx_iload dX8_bushel_202 rfl ?_
      obtain ⟨k5, H⟩ := H
      refine my_iald dX8_bushel_204 rfl (ly8_A_75 La0_h k5) ?_
      refine mx_icmp_ge (tgt := 239) dX8_bushel_205 rfl (fun c6 => ?_) (fun c6 => ?_)
      · have H := H.1 c6
        refine mx_iinc (al' := [some (rv a0), some (iv x1), some (iv x2), some (iv x3), some (iv x4), some (iv (x5 + (1 : Int32))), some (iv x6), some (iv x7)]) dX8_bushel_239 rfl ic_1 rfl ?_
        refine mx_goto (tgt := 69) dX8_bushel_242 rfl ?_
        exact mx_weak (al' := [some (rv a0), some (iv x1), some (iv x2), some (iv x3), some (iv x4), some (iv (x5 + (1 : Int32))), none, none]) ⟨rfl, ⟨rfl, ⟨rfl, ⟨rfl, ⟨rfl, ⟨rfl, trivial⟩⟩⟩⟩⟩⟩ H
      · have H := H.2 c6
        refine mx_aload_n dX8_bushel_208 rfl rfl ?_
        refine mx_get 8 104 (ref := "PrairiePoolModel") cl_8 (Nat.le_of_ble_eq_true rfl) (Or.inl q1731) (Or.inl rfl) dX8_bushel_209 (fv_8_104 _ _) (ly8_k La0_h) ?_
        refine mx_tr (ly8_R_0_104 La0_h) ?_
        refine mx_iload dX8_bushel_212 rfl ?_
        refine mx_aload_n dX8_bushel_214 rfl rfl ?_
        refine mx_get 8 104 (ref := "PrairiePoolModel") cl_8 (Nat.le_of_ble_eq_true rfl) (Or.inl q1731) (Or.inl rfl) dX8_bushel_215 (fv_8_104 _ _) (ly8_k La0_h) ?_
        refine mx_tr (ly8_R_0_104 La0_h) ?_
        refine mx_iload dX8_bushel_218 rfl ?_
        refine my_iald dX8_bushel_220 rfl (ly8_A_75 La0_h k3) ?_
        refine mx_aload_n dX8_bushel_221 rfl rfl ?_
        refine mx_get 8 102 (ref := "PrairiePoolModel") cl_8 (Nat.le_of_ble_eq_true rfl) (Or.inl q1729) (Or.inl rfl) dX8_bushel_222 (fv_8_102 _ _) (ly8_k La0_h) ?_
        refine mx_tr (ly8_R_0_102 La0_h) ?_
        refine mx_iload dX8_bushel_225 rfl ?_
        refine my_iald dX8_bushel_227 rfl (ly8_A_73 La0_h k1) ?_
        refine mx_isub dX8_bushel_228 ?_
        refine my_iast dX8_bushel_229 rfl (ly8_A_75 La0_h k5) ?_
        refine mx_nmI  (fun h7 eh7 Xh7 Kh7 Lh7 => ?_)
        have H := H h7 eh7 Xh7
        have La0_h7 := La0_h.ext Xh7
        refine mx_aload_n dX8_bushel_230 rfl rfl ?_
        refine mx_get 8 105 (ref := "PrairiePoolModel") cl_8 (Nat.le_of_ble_eq_true rfl) (Or.inl q1732) (Or.inl rfl) dX8_bushel_231 (fv_8_105 _ _) (ly8_k La0_h7) ?_
        refine mx_tr (ly8_R_0_105 La0_h7) ?_
        refine mx_iload dX8_bushel_234 rfl ?_
        refine mx_iload dX8_bushel_236 rfl ?_
        refine my_iast dX8_bushel_238 rfl (ly8_A_76 La0_h7 k5) ?_
        refine mx_nmI  (fun h8 eh8 Xh8 Kh8 Lh8 => ?_)
        have H := H h8 eh8 Xh8
        have Kh8 := Kh8.trans Kh7
        have Lh8 := Lh8.trans Lh7
        have La0_h8 := La0_h7.ext Xh8
        refine mx_iinc (al' := [some (rv a0), some (iv x1), some (iv x2), some (iv x3), some (iv x4), some (iv (x5 + (1 : Int32))), some (iv x6), some (iv x7)]) dX8_bushel_239 rfl ic_1 rfl ?_
        refine mx_goto (tgt := 69) dX8_bushel_242 rfl ?_
        exact mx_weak (al' := [some (rv a0), some (iv x1), some (iv x2), some (iv x3), some (iv x4), some (iv (x5 + (1 : Int32))), none, none]) ⟨rfl, ⟨rfl, ⟨rfl, ⟨rfl, ⟨rfl, ⟨rfl, trivial⟩⟩⟩⟩⟩⟩ H

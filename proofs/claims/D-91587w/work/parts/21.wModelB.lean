/-! walks -/
set_option maxRecDepth 100000
theorem v_X8_spelled {G : ma_G} {d : Nat} {x0 : Int32} {x1 : Int32} {x2 : Int32} {x3 : Int32} {x4 : Int32} {x5 : Int32} {h : ah_T} {Q : Option ma_V → ah_T → Prop} {E : Nat → ah_T → Prop}  (H : (x2 ≤ 0 → MX G mi_X8_spelled d 45 [none, none, none, some (iv x3), some (iv x4), some (iv x5), none, none] [jv ((((x0.toInt64 - (96 : Int64)) * (32 : Int64)) + x1.toInt64) - (96 : Int64))] h Q E) ∧ (¬ x2 ≤ 0 → MX G mi_X8_spelled d 45 [none, none, none, some (iv x3), some (iv x4), some (iv x5), none, none] [jv (((((((x0.toInt64 - (96 : Int64)) * (32 : Int64)) + x1.toInt64) - (96 : Int64)) * (32 : Int64)) + x2.toInt64) - (96 : Int64))] h Q E)) : MX G mi_X8_spelled d 0 [some (iv x0), some (iv x1), some (iv x2), some (iv x3), some (iv x4), some (iv x5), none, none] [] h Q E := by
  refine mx_iload_n dX8_spelled_0 rfl rfl ?_
  refine mx_i2l dX8_spelled_1 ?_
  refine mx_ldc2 q2078 dX8_spelled_2 ?_
  refine mx_lsub dX8_spelled_5 ?_
  refine mx_lstore (al' := [some (iv x0), some (iv x1), some (iv x2), some (iv x3), some (iv x4), some (iv x5), some (jv (x0.toInt64 - (96 : Int64))), none]) dX8_spelled_6 (Nat.le_of_ble_eq_true rfl) rfl ?_
  refine mx_lload dX8_spelled_8 rfl ?_
  refine mx_ldc2 q2079 dX8_spelled_10 ?_
  refine mx_lmul dX8_spelled_13 ?_
  refine mx_iload_n dX8_spelled_14 rfl rfl ?_
  refine mx_i2l dX8_spelled_15 ?_
  refine mx_ladd dX8_spelled_16 ?_
  refine mx_ldc2 q2078 dX8_spelled_17 ?_
  refine mx_lsub dX8_spelled_20 ?_
  refine mx_lstore (al' := [some (iv x0), some (iv x1), some (iv x2), some (iv x3), some (iv x4), some (iv x5), some (jv ((((x0.toInt64 - (96 : Int64)) * (32 : Int64)) + x1.toInt64) - (96 : Int64))), none]) dX8_spelled_21 (Nat.le_of_ble_eq_true rfl) rfl ?_
  refine mx_iload_n dX8_spelled_23 rfl rfl ?_
  refine mx_if_le (tgt := 43) dX8_spelled_24 rfl (fun c1 => ?_) (fun c1 => ?_)
  · have H := H.1 c1
    refine mx_lload dX8_spelled_43 rfl ?_
    exact mx_weak (al' := [none, none, none, some (iv x3), some (iv x4), some (iv x5), none, none]) ⟨rfl, ⟨rfl, ⟨rfl, trivial⟩⟩⟩ H
  · have H := H.2 c1
    refine mx_lload dX8_spelled_27 rfl ?_
    refine mx_ldc2 q2079 dX8_spelled_29 ?_
    refine mx_lmul dX8_spelled_32 ?_
    refine mx_iload_n dX8_spelled_33 rfl rfl ?_
    refine mx_i2l dX8_spelled_34 ?_
    refine mx_ladd dX8_spelled_35 ?_
    refine mx_ldc2 q2078 dX8_spelled_36 ?_
    refine mx_lsub dX8_spelled_39 ?_
    refine mx_goto (tgt := 45) dX8_spelled_40 rfl ?_
    exact mx_weak (al' := [none, none, none, some (iv x3), some (iv x4), some (iv x5), none, none]) ⟨rfl, ⟨rfl, ⟨rfl, trivial⟩⟩⟩ H
theorem v_X8_spelled_45 {G : ma_G} {d : Nat} {x3 : Int32} {x4 : Int32} {x5 : Int32} {z0 : Int64} {h : ah_T} {Q : Option ma_V → ah_T → Prop} {E : Nat → ah_T → Prop}  (H : (x3 ≤ 0 → (x4 ≤ 0 → MX G mi_X8_spelled d 95 [none, none, none, none, none, some (iv x5), none, none] [jv z0] h Q E) ∧ (¬ x4 ≤ 0 → MX G mi_X8_spelled d 95 [none, none, none, none, none, some (iv x5), none, none] [jv (((z0 * (32 : Int64)) + x4.toInt64) - (96 : Int64))] h Q E)) ∧ (¬ x3 ≤ 0 → (x4 ≤ 0 → MX G mi_X8_spelled d 95 [none, none, none, none, none, some (iv x5), none, none] [jv (((z0 * (32 : Int64)) + x3.toInt64) - (96 : Int64))] h Q E) ∧ (¬ x4 ≤ 0 → MX G mi_X8_spelled d 95 [none, none, none, none, none, some (iv x5), none, none] [jv ((((((z0 * (32 : Int64)) + x3.toInt64) - (96 : Int64)) * (32 : Int64)) + x4.toInt64) - (96 : Int64))] h Q E))) : MX G mi_X8_spelled d 45 [none, none, none, some (iv x3), some (iv x4), some (iv x5), none, none] [jv z0] h Q E := by
  refine mx_lstore (al' := [none, none, none, some (iv x3), some (iv x4), some (iv x5), some (jv z0), none]) dX8_spelled_45 (Nat.le_of_ble_eq_true rfl) rfl ?_
  refine mx_iload_n dX8_spelled_47 rfl rfl ?_
  refine mx_if_le (tgt := 67) dX8_spelled_48 rfl (fun c1 => ?_) (fun c1 => ?_)
  · have H := H.1 c1
    refine mx_lload dX8_spelled_67 rfl ?_
    refine mx_lstore (al' := [none, none, none, some (iv x3), some (iv x4), some (iv x5), some (jv z0), none]) dX8_spelled_69 (Nat.le_of_ble_eq_true rfl) rfl ?_
    refine mx_iload dX8_spelled_71 rfl ?_
    refine mx_if_le (tgt := 93) dX8_spelled_73 rfl (fun c2 => ?_) (fun c2 => ?_)
    · have H := H.1 c2
      refine mx_lload dX8_spelled_93 rfl ?_
      exact mx_weak (al' := [none, none, none, none, none, some (iv x5), none, none]) ⟨rfl, trivial⟩ H
    · have H := H.2 c2
      refine mx_lload dX8_spelled_76 rfl ?_
      refine mx_ldc2 q2079 dX8_spelled_78 ?_
      refine mx_lmul dX8_spelled_81 ?_
      refine mx_iload dX8_spelled_82 rfl ?_
      refine mx_i2l dX8_spelled_84 ?_
      refine mx_ladd dX8_spelled_85 ?_
      refine mx_ldc2 q2078 dX8_spelled_86 ?_
      refine mx_lsub dX8_spelled_89 ?_
      refine mx_goto (tgt := 95) dX8_spelled_90 rfl ?_
      exact mx_weak (al' := [none, none, none, none, none, some (iv x5), none, none]) ⟨rfl, trivial⟩ H
  · have H := H.2 c1
    refine mx_lload dX8_spelled_51 rfl ?_
    refine mx_ldc2 q2079 dX8_spelled_53 ?_
    refine mx_lmul dX8_spelled_56 ?_
    refine mx_iload_n dX8_spelled_57 rfl rfl ?_
    refine mx_i2l dX8_spelled_58 ?_
    refine mx_ladd dX8_spelled_59 ?_
    refine mx_ldc2 q2078 dX8_spelled_60 ?_
    refine mx_lsub dX8_spelled_63 ?_
    refine mx_goto (tgt := 69) dX8_spelled_64 rfl ?_
    refine mx_lstore (al' := [none, none, none, some (iv x3), some (iv x4), some (iv x5), some (jv (((z0 * (32 : Int64)) + x3.toInt64) - (96 : Int64))), none]) dX8_spelled_69 (Nat.le_of_ble_eq_true rfl) rfl ?_
    refine mx_iload dX8_spelled_71 rfl ?_
    refine mx_if_le (tgt := 93) dX8_spelled_73 rfl (fun c3 => ?_) (fun c3 => ?_)
    · have H := H.1 c3
      refine mx_lload dX8_spelled_93 rfl ?_
      exact mx_weak (al' := [none, none, none, none, none, some (iv x5), none, none]) ⟨rfl, trivial⟩ H
    · have H := H.2 c3
      refine mx_lload dX8_spelled_76 rfl ?_
      refine mx_ldc2 q2079 dX8_spelled_78 ?_
      refine mx_lmul dX8_spelled_81 ?_
      refine mx_iload dX8_spelled_82 rfl ?_
      refine mx_i2l dX8_spelled_84 ?_
      refine mx_ladd dX8_spelled_85 ?_
      refine mx_ldc2 q2078 dX8_spelled_86 ?_
      refine mx_lsub dX8_spelled_89 ?_
      refine mx_goto (tgt := 95) dX8_spelled_90 rfl ?_
      exact mx_weak (al' := [none, none, none, none, none, some (iv x5), none, none]) ⟨rfl, trivial⟩ H
theorem v_X8_spelled_95 {G : ma_G} {d : Nat} {x5 : Int32} {z0 : Int64} {h : ah_T} {Q : Option ma_V → ah_T → Prop} {E : Nat → ah_T → Prop}  (H : (x5 ≤ 0 → Q (some (jv z0)) h) ∧ (¬ x5 ≤ 0 → Q (some (jv (((z0 * (32 : Int64)) + x5.toInt64) - (96 : Int64)))) h)) : MX G mi_X8_spelled d 95 [none, none, none, none, none, some (iv x5), none, none] [jv z0] h Q E := by
  refine mx_lstore (al' := [none, none, none, none, none, some (iv x5), some (jv z0), none]) dX8_spelled_95 (Nat.le_of_ble_eq_true rfl) rfl ?_
  refine mx_iload dX8_spelled_97 rfl ?_
  refine mx_if_le (tgt := 119) dX8_spelled_99 rfl (fun c1 => ?_) (fun c1 => ?_)
  · have H := H.1 c1
    refine mx_lload dX8_spelled_119 rfl ?_
    exact mx_lret rfl dX8_spelled_121 H
  · have H := H.2 c1
    refine mx_lload dX8_spelled_102 rfl ?_
    refine mx_ldc2 q2079 dX8_spelled_104 ?_
    refine mx_lmul dX8_spelled_107 ?_
    refine mx_iload dX8_spelled_108 rfl ?_
    refine mx_i2l dX8_spelled_110 ?_
    refine mx_ladd dX8_spelled_111 ?_
    refine mx_ldc2 q2078 dX8_spelled_112 ?_
    refine mx_lsub dX8_spelled_115 ?_
    refine mx_goto (tgt := 121) dX8_spelled_116 rfl ?_
    exact mx_lret rfl dX8_spelled_121 H
theorem dX8_told_0 : decode mi_X8_told.2.1 0 = .ok (.aload_n 0, 1) := by decide +kernel
theorem dX8_told_1 : decode mi_X8_told.2.1 1 = .ok (.iconst 0, 1) := by decide +kernel
theorem dX8_told_2 : decode mi_X8_told.2.1 2 = .ok (.putfield 568, 3) := by decide +kernel
theorem dX8_told_5 : decode mi_X8_told.2.1 5 = .ok (.aload_n 0, 1) := by decide +kernel
theorem dX8_told_6 : decode mi_X8_told.2.1 6 = .ok (.iload_n 3, 1) := by decide +kernel
theorem dX8_told_7 : decode mi_X8_told.2.1 7 = .ok (.invokevirtual 572, 3) := by decide +kernel
theorem dX8_told_10 : decode mi_X8_told.2.1 10 = .ok (.istore 6, 2) := by decide +kernel
theorem dX8_told_12 : decode mi_X8_told.2.1 12 = .ok (.iconst (-1), 1) := by decide +kernel
theorem dX8_told_13 : decode mi_X8_told.2.1 13 = .ok (.istore 7, 2) := by decide +kernel
theorem dX8_told_15 : decode mi_X8_told.2.1 15 = .ok (.iconst 0, 1) := by decide +kernel
theorem dX8_told_16 : decode mi_X8_told.2.1 16 = .ok (.istore 8, 2) := by decide +kernel
theorem dX8_told_18 : decode mi_X8_told.2.1 18 = .ok (.iload 6, 2) := by decide +kernel
theorem dX8_told_20 : decode mi_X8_told.2.1 20 = .ok (.ifCond .lt 43, 3) := by decide +kernel
theorem dX8_told_23 : decode mi_X8_told.2.1 23 = .ok (.iload 8, 2) := by decide +kernel
theorem dX8_told_25 : decode mi_X8_told.2.1 25 = .ok (.aload_n 0, 1) := by decide +kernel
theorem dX8_told_26 : decode mi_X8_told.2.1 26 = .ok (.getfield 127, 3) := by decide +kernel
theorem dX8_told_29 : decode mi_X8_told.2.1 29 = .ok (.iload 6, 2) := by decide +kernel
theorem dX8_told_31 : decode mi_X8_told.2.1 31 = .ok (.iaload, 1) := by decide +kernel
theorem dX8_told_32 : decode mi_X8_told.2.1 32 = .ok (.if_icmp .ge 31, 3) := by decide +kernel
theorem dX8_told_35 : decode mi_X8_told.2.1 35 = .ok (.aload_n 0, 1) := by decide +kernel
theorem dX8_told_36 : decode mi_X8_told.2.1 36 = .ok (.getfield 142, 3) := by decide +kernel
theorem dX8_told_39 : decode mi_X8_told.2.1 39 = .ok (.bipush 10, 2) := by decide +kernel
theorem dX8_told_41 : decode mi_X8_told.2.1 41 = .ok (.iload 6, 2) := by decide +kernel
theorem dX8_told_43 : decode mi_X8_told.2.1 43 = .ok (.imul, 1) := by decide +kernel
theorem dX8_told_44 : decode mi_X8_told.2.1 44 = .ok (.iload 8, 2) := by decide +kernel
theorem dX8_told_46 : decode mi_X8_told.2.1 46 = .ok (.iadd, 1) := by decide +kernel
theorem dX8_told_47 : decode mi_X8_told.2.1 47 = .ok (.laload, 1) := by decide +kernel
theorem dX8_told_48 : decode mi_X8_told.2.1 48 = .ok (.lload_n 1, 1) := by decide +kernel
theorem dX8_told_49 : decode mi_X8_told.2.1 49 = .ok (.lcmp, 1) := by decide +kernel
theorem dX8_told_50 : decode mi_X8_told.2.1 50 = .ok (.ifCond .ne 7, 3) := by decide +kernel
theorem dX8_told_53 : decode mi_X8_told.2.1 53 = .ok (.iload 8, 2) := by decide +kernel
theorem dX8_told_55 : decode mi_X8_told.2.1 55 = .ok (.istore 7, 2) := by decide +kernel
theorem dX8_told_57 : decode mi_X8_told.2.1 57 = .ok (.iinc 8 1, 3) := by decide +kernel
theorem dX8_told_60 : decode mi_X8_told.2.1 60 = .ok (.goto (-42), 3) := by decide +kernel
theorem dX8_told_63 : decode mi_X8_told.2.1 63 = .ok (.iload 7, 2) := by decide +kernel
theorem dX8_told_65 : decode mi_X8_told.2.1 65 = .ok (.ifCond .ge 6, 3) := by decide +kernel
theorem dX8_told_68 : decode mi_X8_told.2.1 68 = .ok (.lload 4, 2) := by decide +kernel
theorem dX8_told_70 : decode mi_X8_told.2.1 70 = .ok (.lreturn, 1) := by decide +kernel
theorem dX8_told_71 : decode mi_X8_told.2.1 71 = .ok (.aload_n 0, 1) := by decide +kernel
theorem dX8_told_72 : decode mi_X8_told.2.1 72 = .ok (.iload 6, 2) := by decide +kernel
theorem dX8_told_74 : decode mi_X8_told.2.1 74 = .ok (.iload 7, 2) := by decide +kernel
theorem dX8_told_76 : decode mi_X8_told.2.1 76 = .ok (.invokevirtual 575, 3) := by decide +kernel
theorem dX8_told_79 : decode mi_X8_told.2.1 79 = .ok (.aload_n 0, 1) := by decide +kernel
theorem dX8_told_80 : decode mi_X8_told.2.1 80 = .ok (.aload_n 0, 1) := by decide +kernel
theorem dX8_told_81 : decode mi_X8_told.2.1 81 = .ok (.getfield 161, 3) := by decide +kernel
theorem dX8_told_84 : decode mi_X8_told.2.1 84 = .ok (.iload 7, 2) := by decide +kernel
theorem dX8_told_86 : decode mi_X8_told.2.1 86 = .ok (.baload, 1) := by decide +kernel
theorem dX8_told_87 : decode mi_X8_told.2.1 87 = .ok (.putfield 568, 3) := by decide +kernel
theorem dX8_told_90 : decode mi_X8_told.2.1 90 = .ok (.aload_n 0, 1) := by decide +kernel
theorem dX8_told_91 : decode mi_X8_told.2.1 91 = .ok (.getfield 568, 3) := by decide +kernel
theorem dX8_told_94 : decode mi_X8_told.2.1 94 = .ok (.ifCond .eq 8, 3) := by decide +kernel
theorem dX8_told_97 : decode mi_X8_told.2.1 97 = .ok (.lload 4, 2) := by decide +kernel
theorem dX8_told_99 : decode mi_X8_told.2.1 99 = .ok (.goto 10, 3) := by decide +kernel
theorem dX8_told_102 : decode mi_X8_told.2.1 102 = .ok (.aload_n 0, 1) := by decide +kernel
theorem dX8_told_103 : decode mi_X8_told.2.1 103 = .ok (.getfield 154, 3) := by decide +kernel
theorem dX8_told_106 : decode mi_X8_told.2.1 106 = .ok (.iload 7, 2) := by decide +kernel
theorem dX8_told_108 : decode mi_X8_told.2.1 108 = .ok (.laload, 1) := by decide +kernel
theorem dX8_told_109 : decode mi_X8_told.2.1 109 = .ok (.lreturn, 1) := by decide +kernel
theorem v_X8_told {G : ma_G} {d : Nat} {a0 : Nat} {x1 : Int64} {x3 : Int32} {x4 : Int64} {h : ah_T} {Q : Option ma_V → ah_T → Prop} {E : Nat → ah_T → Prop} (La0_h : LY8 h a0) (H : ∀ h1 : ah_T, h1 = ah_wI h a0 108 (0 : Int32) → ah_ext h h1 → MX G mi_X8_force d 0 [some (rv a0), some (iv x3), none, none] [] h1 (Qi fun r3 h2 => ah_ext h1 h2 → MX G mi_X8_told (d + 1) 18 [some (rv a0), some (jv x1), none, none, some (jv x4), none, some (iv r3), some (iv (-1 : Int32)), some (iv (0 : Int32))] [] h2 Q E) E) : MX G mi_X8_told (d + 1) 0 [some (rv a0), some (jv x1), none, some (iv x3), some (jv x4), none, none, none, none] [] h Q E := by
  refine mx_aload_n dX8_told_0 rfl rfl ?_
  refine mx_iconst dX8_told_1 ic_0 ?_
  refine mx_putZ 8 108 (ref := "PrairiePoolModel") cl_8 (Nat.le_of_ble_eq_true rfl) (Or.inl q1735) (Or.inl rfl) dX8_told_2 (Or.inl rfl) rfl (Or.inl rfl) (ly8_k La0_h) ?_
  refine mx_nmI  (fun h1 eh1 Xh1 Kh1 Lh1 => ?_)
  have H := H h1 eh1 Xh1
  have La0_h1 := La0_h.ext Xh1
  refine mx_aload_n dX8_told_5 rfl rfl ?_
  refine mx_iload_n dX8_told_6 rfl rfl ?_
  refine mx_callV 8 (y' := mi_X8_force) (vs := [iv x3]) (st := []) (al' := [some (rv a0), some (iv x3), none, none]) cl_8 V_X8_force (Or.inl q2084) dX8_told_7 rfl rfl (Nat.le_of_ble_eq_true rfl) (Nat.le_of_ble_eq_true rfl) (ly8_k La0_h1) ?_
  refine ma_ki H (fun r3 h2 Xh2 H => ?_) (fun x1 h1 X1 H => mt_out rfl H)
  have H := H Xh2
  have La0_h2 := La0_h1.ext Xh2
  refine mx_istore (al' := [some (rv a0), some (jv x1), none, some (iv x3), some (jv x4), none, some (iv r3), none, none]) dX8_told_10 (Nat.le_of_ble_eq_true rfl) rfl ?_
  refine mx_iconst dX8_told_12 ic_m1 ?_
  refine mx_istore (al' := [some (rv a0), some (jv x1), none, some (iv x3), some (jv x4), none, some (iv r3), some (iv (-1 : Int32)), none]) dX8_told_13 (Nat.le_of_ble_eq_true rfl) rfl ?_
  refine mx_iconst dX8_told_15 ic_0 ?_
  refine mx_istore (al' := [some (rv a0), some (jv x1), none, some (iv x3), some (jv x4), none, some (iv r3), some (iv (-1 : Int32)), some (iv (0 : Int32))]) dX8_told_16 (Nat.le_of_ble_eq_true rfl) rfl ?_
  exact mx_weak (al' := [some (rv a0), some (jv x1), none, none, some (jv x4), none, some (iv r3), some (iv (-1 : Int32)), some (iv (0 : Int32))]) ⟨rfl, ⟨rfl, ⟨rfl, ⟨rfl, ⟨rfl, ⟨rfl, trivial⟩⟩⟩⟩⟩⟩ H
theorem v_X8_told_18 {G : ma_G} {d : Nat} {a0 : Nat} {x1 : Int64} {x4 : Int64} {x6 : Int32} {x7 : Int32} {x8 : Int32} {h : ah_T} {Q : Option ma_V → ah_T → Prop} {E : Nat → ah_T → Prop} (La0_h : LY8 h a0) (H : (x6 < 0 → MX G mi_X8_told (d + 1) 63 [some (rv a0), none, none, none, some (jv x4), none, some (iv x6), some (iv x7), none] [] h Q E) ∧ (¬ x6 < 0 → vp_in x6 4 ∧ ((ah_I h (a0 + 37) x6.toNatClampNeg) ≤ x8 → MX G mi_X8_told (d + 1) 63 [some (rv a0), none, none, none, some (jv x4), none, some (iv x6), some (iv x7), none] [] h Q E) ∧ (¬ (ah_I h (a0 + 37) x6.toNatClampNeg) ≤ x8 → vp_in (((10 : Int32) * x6) + x8) 40 ∧ (¬ (ah_J h (a0 + 42) (((10 : Int32) * x6) + x8).toNatClampNeg) = x1 → MX G mi_X8_told (d + 1) 18 [some (rv a0), some (jv x1), none, none, some (jv x4), none, some (iv x6), some (iv x7), some (iv (x8 + (1 : Int32)))] [] h Q E) ∧ ((ah_J h (a0 + 42) (((10 : Int32) * x6) + x8).toNatClampNeg) = x1 → MX G mi_X8_told (d + 1) 18 [some (rv a0), some (jv x1), none, none, some (jv x4), none, some (iv x6), some (iv x8), some (iv (x8 + (1 : Int32)))] [] h Q E)))) : MX G mi_X8_told (d + 1) 18 [some (rv a0), some (jv x1), none, none, some (jv x4), none, some (iv x6), some (iv x7), some (iv x8)] [] h Q E := by
  refine mx_iload dX8_told_18 rfl ?_
  refine mx_if_lt (tgt := 63) dX8_told_20 rfl (fun c1 => ?_) (fun c1 => ?_)
  · have H := H.1 c1
    exact mx_weak (al' := [some (rv a0), none, none, none, some (jv x4), none, some (iv x6), some (iv x7), none]) ⟨rfl, ⟨rfl, ⟨rfl, ⟨rfl, trivial⟩⟩⟩⟩ H
  · have H := H.2 c1
    refine mx_iload dX8_told_23 rfl ?_
    refine mx_aload_n dX8_told_25 rfl rfl ?_
    refine mx_get 8 60 (ref := "PrairiePoolModel") cl_8 (Nat.le_of_ble_eq_true rfl) (Or.inl q1687) (Or.inl rfl) dX8_told_26 (fv_8_60 _ _) (ly8_k La0_h) ?_
    refine mx_tr (ly8_R_0_60 La0_h) ?_
    refine mx_iload dX8_told_29 rfl ?_
    obtain ⟨k2, H⟩ := H
    refine my_iald dX8_told_31 rfl (ly8_A_37 La0_h k2) ?_
    refine mx_icmp_ge (tgt := 63) dX8_told_32 rfl (fun c3 => ?_) (fun c3 => ?_)
    · have H := H.1 c3
      exact mx_weak (al' := [some (rv a0), none, none, none, some (jv x4), none, some (iv x6), some (iv x7), none]) ⟨rfl, ⟨rfl, ⟨rfl, ⟨rfl, trivial⟩⟩⟩⟩ H
    · have H := H.2 c3
      refine mx_aload_n dX8_told_35 rfl rfl ?_
      refine mx_get 8 65 (ref := "PrairiePoolModel") cl_8 (Nat.le_of_ble_eq_true rfl) (Or.inl q1692) (Or.inl rfl) dX8_told_36 (fv_8_65 _ _) (ly8_k La0_h) ?_
      refine mx_tr (ly8_R_0_65 La0_h) ?_
      refine mx_bipush dX8_told_39 ib_10 ?_
      refine mx_iload dX8_told_41 rfl ?_
      refine mx_imul dX8_told_43 ?_
      refine mx_iload dX8_told_44 rfl ?_
      refine mx_iadd dX8_told_46 ?_
      obtain ⟨k4, H⟩ := H
      refine my_lald dX8_told_47 rfl (ly8_A_42 La0_h k4) ?_
      refine mx_lload_n dX8_told_48 rfl rfl ?_
      refine mx_lif_ne (tgt := 57) dX8_told_49 dX8_told_50 rfl (fun c5 => ?_) (fun c5 => ?_)
      · have H := H.1 c5
        refine mx_iinc (al' := [some (rv a0), some (jv x1), none, none, some (jv x4), none, some (iv x6), some (iv x7), some (iv (x8 + (1 : Int32)))]) dX8_told_57 rfl ic_1 rfl ?_
        refine mx_goto (tgt := 18) dX8_told_60 rfl ?_
        exact mx_weak (al' := [some (rv a0), some (jv x1), none, none, some (jv x4), none, some (iv x6), some (iv x7), some (iv (x8 + (1 : Int32)))]) ⟨rfl, ⟨rfl, ⟨rfl, ⟨rfl, ⟨rfl, ⟨rfl, trivial⟩⟩⟩⟩⟩⟩ H
      · have H := H.2 c5
        refine mx_iload dX8_told_53 rfl ?_
        refine mx_istore (al' := [some (rv a0), some (jv x1), none, none, some (jv x4), none, some (iv x6), some (iv x8), some (iv x8)]) dX8_told_55 (Nat.le_of_ble_eq_true rfl) rfl ?_
        refine mx_iinc (al' := [some (rv a0), some (jv x1), none, none, some (jv x4), none, some (iv x6), some (iv x8), some (iv (x8 + (1 : Int32)))]) dX8_told_57 rfl ic_1 rfl ?_
        refine mx_goto (tgt := 18) dX8_told_60 rfl ?_
        exact mx_weak (al' := [some (rv a0), some (jv x1), none, none, some (jv x4), none, some (iv x6), some (iv x8), some (iv (x8 + (1 : Int32)))]) ⟨rfl, ⟨rfl, ⟨rfl, ⟨rfl, ⟨rfl, ⟨rfl, trivial⟩⟩⟩⟩⟩⟩ H
theorem v_X8_told_63 {G : ma_G} {d : Nat} {a0 : Nat} {x4 : Int64} {x6 : Int32} {x7 : Int32} {h : ah_T} {Q : Option ma_V → ah_T → Prop} {E : Nat → ah_T → Prop} (La0_h : LY8 h a0) (H : (0 ≤ x7 → MX G mi_X8_work d 0 [some (rv a0), some (iv x6), some (iv x7), none, none, none] [] h (Qv fun h2 => ah_ext h h2 → vp_in x7 10 ∧ ((ah_I h2 (a0 + 48) x7.toNatClampNeg) = 0 ∨ (ah_I h2 (a0 + 48) x7.toNatClampNeg) = 1) ∧ ∀ h6 : ah_T, h6 = ah_wI h2 a0 108 (ah_I h2 (a0 + 48) x7.toNatClampNeg) → ah_ext h2 h6 → ((ah_I h2 (a0 + 48) x7.toNatClampNeg) = 0 → Q (some (jv (ah_J h2 (a0 + 46) x7.toNatClampNeg))) h6) ∧ (¬ (ah_I h2 (a0 + 48) x7.toNatClampNeg) = 0 → Q (some (jv x4)) h6)) E) ∧ (¬ 0 ≤ x7 → Q (some (jv x4)) h)) : MX G mi_X8_told (d + 1) 63 [some (rv a0), none, none, none, some (jv x4), none, some (iv x6), some (iv x7), none] [] h Q E := by
  refine mx_iload dX8_told_63 rfl ?_
  refine mx_if_ge (tgt := 71) dX8_told_65 rfl (fun c1 => ?_) (fun c1 => ?_)
  · have H := H.1 c1
    refine mx_aload_n dX8_told_71 rfl rfl ?_
    refine mx_iload dX8_told_72 rfl ?_
    refine mx_iload dX8_told_74 rfl ?_
    refine mx_callV 8 (y' := mi_X8_work) (vs := [iv x6, iv x7]) (st := []) (al' := [some (rv a0), some (iv x6), some (iv x7), none, none, none]) cl_8 V_X8_work (Or.inl q2088) dX8_told_76 rfl rfl (Nat.le_of_ble_eq_true rfl) (Nat.le_of_ble_eq_true rfl) (ly8_k La0_h) ?_
    refine ma_kv H (fun h2 Xh2 H => ?_) (fun x1 h1 X1 H => mt_out rfl H)
    have H := H Xh2
    have La0_h2 := La0_h.ext Xh2
    refine mx_aload_n dX8_told_79 rfl rfl ?_
    refine mx_aload_n dX8_told_80 rfl rfl ?_
    refine mx_get 8 71 (ref := "PrairiePoolModel") cl_8 (Nat.le_of_ble_eq_true rfl) (Or.inl q1698) (Or.inl rfl) dX8_told_81 (fv_8_71 _ _) (ly8_k La0_h2) ?_
    refine mx_tr (ly8_R_0_71 La0_h2) ?_
    refine mx_iload dX8_told_84 rfl ?_
    obtain ⟨k4, H⟩ := H
    refine my_zald dX8_told_86 rfl (ly8_A_48 La0_h2 k4) ?_
    obtain ⟨k5, H⟩ := H
    refine mx_putZ 8 108 (ref := "PrairiePoolModel") cl_8 (Nat.le_of_ble_eq_true rfl) (Or.inl q1735) (Or.inl rfl) dX8_told_87 (Or.inl rfl) rfl k5 (ly8_k La0_h2) ?_
    refine mx_nmI  (fun h6 eh6 Xh6 Kh6 Lh6 => ?_)
    have H := H h6 eh6 Xh6
    have La0_h6 := La0_h2.ext Xh6
    refine mx_aload_n dX8_told_90 rfl rfl ?_
    refine mx_get 8 108 (ref := "PrairiePoolModel") cl_8 (Nat.le_of_ble_eq_true rfl) (Or.inl q1735) (Or.inl rfl) dX8_told_91 (fv_8_108 _ _) (ly8_k La0_h6) ?_
    refine mx_ti (ah_hitI eh6) ?_
    refine mx_if_eq (tgt := 102) dX8_told_94 rfl (fun c7 => ?_) (fun c7 => ?_)
    · have H := H.1 c7
      refine mx_aload_n dX8_told_102 rfl rfl ?_
      refine mx_get 8 69 (ref := "PrairiePoolModel") cl_8 (Nat.le_of_ble_eq_true rfl) (Or.inl q1696) (Or.inl rfl) dX8_told_103 (fv_8_69 _ _) (ly8_k La0_h6) ?_
      refine mx_tr (ly8_R_0_69 La0_h6) ?_
      refine mx_iload dX8_told_106 rfl ?_
      refine my_lald dX8_told_108 rfl (ly8_A_46 La0_h6 k4) ?_
      refine mx_tj (ah_JI eh6) ?_
      exact mx_lret rfl dX8_told_109 H
    · have H := H.2 c7
      refine mx_lload dX8_told_97 rfl ?_
      refine mx_goto (tgt := 109) dX8_told_99 rfl ?_
      exact mx_lret rfl dX8_told_109 H
  · have H := H.2 c1
    refine mx_lload dX8_told_68 rfl ?_
    exact mx_lret rfl dX8_told_70 H
theorem dX8_force_0 : decode mi_X8_force.2.1 0 = .ok (.iconst (-1), 1) := by decide +kernel
theorem dX8_force_1 : decode mi_X8_force.2.1 1 = .ok (.istore_n 2, 1) := by decide +kernel
theorem dX8_force_2 : decode mi_X8_force.2.1 2 = .ok (.iconst 0, 1) := by decide +kernel
theorem dX8_force_3 : decode mi_X8_force.2.1 3 = .ok (.istore_n 3, 1) := by decide +kernel
theorem dX8_force_4 : decode mi_X8_force.2.1 4 = .ok (.iload_n 3, 1) := by decide +kernel
theorem dX8_force_5 : decode mi_X8_force.2.1 5 = .ok (.aload_n 0, 1) := by decide +kernel
theorem dX8_force_6 : decode mi_X8_force.2.1 6 = .ok (.getfield 562, 3) := by decide +kernel
theorem dX8_force_9 : decode mi_X8_force.2.1 9 = .ok (.if_icmp .ge 40, 3) := by decide +kernel
theorem dX8_force_12 : decode mi_X8_force.2.1 12 = .ok (.aload_n 0, 1) := by decide +kernel
theorem dX8_force_13 : decode mi_X8_force.2.1 13 = .ok (.getfield 124, 3) := by decide +kernel
theorem dX8_force_16 : decode mi_X8_force.2.1 16 = .ok (.iload_n 3, 1) := by decide +kernel
theorem dX8_force_17 : decode mi_X8_force.2.1 17 = .ok (.iaload, 1) := by decide +kernel
theorem dX8_force_18 : decode mi_X8_force.2.1 18 = .ok (.iload_n 1, 1) := by decide +kernel
theorem dX8_force_19 : decode mi_X8_force.2.1 19 = .ok (.if_icmp .gt 24, 3) := by decide +kernel
theorem dX8_force_22 : decode mi_X8_force.2.1 22 = .ok (.iload_n 2, 1) := by decide +kernel
theorem dX8_force_23 : decode mi_X8_force.2.1 23 = .ok (.ifCond .lt 18, 3) := by decide +kernel
theorem dX8_force_26 : decode mi_X8_force.2.1 26 = .ok (.aload_n 0, 1) := by decide +kernel
theorem dX8_force_27 : decode mi_X8_force.2.1 27 = .ok (.getfield 124, 3) := by decide +kernel
theorem dX8_force_30 : decode mi_X8_force.2.1 30 = .ok (.iload_n 3, 1) := by decide +kernel
theorem dX8_force_31 : decode mi_X8_force.2.1 31 = .ok (.iaload, 1) := by decide +kernel
theorem dX8_force_32 : decode mi_X8_force.2.1 32 = .ok (.aload_n 0, 1) := by decide +kernel
theorem dX8_force_33 : decode mi_X8_force.2.1 33 = .ok (.getfield 124, 3) := by decide +kernel
theorem dX8_force_36 : decode mi_X8_force.2.1 36 = .ok (.iload_n 2, 1) := by decide +kernel
theorem dX8_force_37 : decode mi_X8_force.2.1 37 = .ok (.iaload, 1) := by decide +kernel
theorem dX8_force_38 : decode mi_X8_force.2.1 38 = .ok (.if_icmp .lt 5, 3) := by decide +kernel
theorem dX8_force_41 : decode mi_X8_force.2.1 41 = .ok (.iload_n 3, 1) := by decide +kernel
theorem dX8_force_42 : decode mi_X8_force.2.1 42 = .ok (.istore_n 2, 1) := by decide +kernel
theorem dX8_force_43 : decode mi_X8_force.2.1 43 = .ok (.iinc 3 1, 3) := by decide +kernel
theorem dX8_force_46 : decode mi_X8_force.2.1 46 = .ok (.goto (-42), 3) := by decide +kernel
theorem dX8_force_49 : decode mi_X8_force.2.1 49 = .ok (.iload_n 2, 1) := by decide +kernel
theorem dX8_force_50 : decode mi_X8_force.2.1 50 = .ok (.ireturn, 1) := by decide +kernel
theorem v_X8_force {G : ma_G} {d : Nat} {a0 : Nat} {x1 : Int32} {h : ah_T} {Q : Option ma_V → ah_T → Prop} {E : Nat → ah_T → Prop} (La0_h : LY8 h a0) (H : MX G mi_X8_force d 4 [some (rv a0), some (iv x1), some (iv (-1 : Int32)), some (iv (0 : Int32))] [] h Q E) : MX G mi_X8_force d 0 [some (rv a0), some (iv x1), none, none] [] h Q E := by
  refine mx_iconst dX8_force_0 ic_m1 ?_
  refine mx_istore_n (al' := [some (rv a0), some (iv x1), some (iv (-1 : Int32)), none]) dX8_force_1 rfl (Nat.le_of_ble_eq_true rfl) rfl ?_
  refine mx_iconst dX8_force_2 ic_0 ?_
  refine mx_istore_n (al' := [some (rv a0), some (iv x1), some (iv (-1 : Int32)), some (iv (0 : Int32))]) dX8_force_3 rfl (Nat.le_of_ble_eq_true rfl) rfl ?_
  exact mx_weak (al' := [some (rv a0), some (iv x1), some (iv (-1 : Int32)), some (iv (0 : Int32))]) ⟨rfl, ⟨rfl, ⟨rfl, ⟨rfl, trivial⟩⟩⟩⟩ H
theorem v_X8_force_4 {G : ma_G} {d : Nat} {a0 : Nat} {x1 : Int32} {x2 : Int32} {x3 : Int32} {h : ah_T} {Q : Option ma_V → ah_T → Prop} {E : Nat → ah_T → Prop} (La0_h : LY8 h a0) (H : ((ah_I h a0 56) ≤ x3 → Q (some (iv x2)) h) ∧ (¬ (ah_I h a0 56) ≤ x3 → vp_in x3 4 ∧ (x1 < (ah_I h (a0 + 36) x3.toNatClampNeg) → MX G mi_X8_force d 4 [some (rv a0), some (iv x1), some (iv x2), some (iv (x3 + (1 : Int32)))] [] h Q E) ∧ (¬ x1 < (ah_I h (a0 + 36) x3.toNatClampNeg) → (x2 < 0 → MX G mi_X8_force d 4 [some (rv a0), some (iv x1), some (iv x3), some (iv (x3 + (1 : Int32)))] [] h Q E) ∧ (¬ x2 < 0 → vp_in x2 4 ∧ ((ah_I h (a0 + 36) x3.toNatClampNeg) < (ah_I h (a0 + 36) x2.toNatClampNeg) → MX G mi_X8_force d 4 [some (rv a0), some (iv x1), some (iv x2), some (iv (x3 + (1 : Int32)))] [] h Q E) ∧ (¬ (ah_I h (a0 + 36) x3.toNatClampNeg) < (ah_I h (a0 + 36) x2.toNatClampNeg) → MX G mi_X8_force d 4 [some (rv a0), some (iv x1), some (iv x3), some (iv (x3 + (1 : Int32)))] [] h Q E))))) : MX G mi_X8_force d 4 [some (rv a0), some (iv x1), some (iv x2), some (iv x3)] [] h Q E := by
  refine mx_iload_n dX8_force_4 rfl rfl ?_
  refine mx_aload_n dX8_force_5 rfl rfl ?_
  refine mx_get 8 56 (ref := "PrairiePoolModel") cl_8 (Nat.le_of_ble_eq_true rfl) (Or.inl q1683) (Or.inl rfl) dX8_force_6 (fv_8_56 _ _) (ly8_k La0_h) ?_
  refine mx_icmp_ge (tgt := 49) dX8_force_9 rfl (fun c1 => ?_) (fun c1 => ?_)
  · have H := H.1 c1
    refine mx_iload_n dX8_force_49 rfl rfl ?_
    exact mx_iret rfl dX8_force_50 H
  · have H := H.2 c1
    refine mx_aload_n dX8_force_12 rfl rfl ?_
    refine mx_get 8 59 (ref := "PrairiePoolModel") cl_8 (Nat.le_of_ble_eq_true rfl) (Or.inl q1686) (Or.inl rfl) dX8_force_13 (fv_8_59 _ _) (ly8_k La0_h) ?_
    refine mx_tr (ly8_R_0_59 La0_h) ?_
    refine mx_iload_n dX8_force_16 rfl rfl ?_
    obtain ⟨k2, H⟩ := H
    refine my_iald dX8_force_17 rfl (ly8_A_36 La0_h k2) ?_
    refine mx_iload_n dX8_force_18 rfl rfl ?_
    refine mx_icmp_gt (tgt := 43) dX8_force_19 rfl (fun c3 => ?_) (fun c3 => ?_)
    · have H := H.1 c3
      refine mx_iinc (al' := [some (rv a0), some (iv x1), some (iv x2), some (iv (x3 + (1 : Int32)))]) dX8_force_43 rfl ic_1 rfl ?_
      refine mx_goto (tgt := 4) dX8_force_46 rfl ?_
      exact mx_weak (al' := [some (rv a0), some (iv x1), some (iv x2), some (iv (x3 + (1 : Int32)))]) ⟨rfl, ⟨rfl, ⟨rfl, ⟨rfl, trivial⟩⟩⟩⟩ H
    · have H := H.2 c3
      refine mx_iload_n dX8_force_22 rfl rfl ?_
      refine mx_if_lt (tgt := 41) dX8_force_23 rfl (fun c4 => ?_) (fun c4 => ?_)
      · have H := H.1 c4
        refine mx_iload_n dX8_force_41 rfl rfl ?_
        refine mx_istore_n (al' := [some (rv a0), some (iv x1), some (iv x3), some (iv x3)]) dX8_force_42 rfl (Nat.le_of_ble_eq_true rfl) rfl ?_
        refine mx_iinc (al' := [some (rv a0), some (iv x1), some (iv x3), some (iv (x3 + (1 : Int32)))]) dX8_force_43 rfl ic_1 rfl ?_
        refine mx_goto (tgt := 4) dX8_force_46 rfl ?_
        exact mx_weak (al' := [some (rv a0), some (iv x1), some (iv x3), some (iv (x3 + (1 : Int32)))]) ⟨rfl, ⟨rfl, ⟨rfl, ⟨rfl, trivial⟩⟩⟩⟩ H
      · have H := H.2 c4
        refine mx_aload_n dX8_force_26 rfl rfl ?_
        refine mx_get 8 59 (ref := "PrairiePoolModel") cl_8 (Nat.le_of_ble_eq_true rfl) (Or.inl q1686) (Or.inl rfl) dX8_force_27 (fv_8_59 _ _) (ly8_k La0_h) ?_
        refine mx_tr (ly8_R_0_59 La0_h) ?_
        refine mx_iload_n dX8_force_30 rfl rfl ?_
        refine my_iald dX8_force_31 rfl (ly8_A_36 La0_h k2) ?_
        refine mx_aload_n dX8_force_32 rfl rfl ?_
        refine mx_get 8 59 (ref := "PrairiePoolModel") cl_8 (Nat.le_of_ble_eq_true rfl) (Or.inl q1686) (Or.inl rfl) dX8_force_33 (fv_8_59 _ _) (ly8_k La0_h) ?_
        refine mx_tr (ly8_R_0_59 La0_h) ?_
        refine mx_iload_n dX8_force_36 rfl rfl ?_
        obtain ⟨k5, H⟩ := H
        refine my_iald dX8_force_37 rfl (ly8_A_36 La0_h k5) ?_
        refine mx_icmp_lt (tgt := 43) dX8_force_38 rfl (fun c6 => ?_) (fun c6 => ?_)
        · have H := H.1 c6
          refine mx_iinc (al' := [some (rv a0), some (iv x1), some (iv x2), some (iv (x3 + (1 : Int32)))]) dX8_force_43 rfl ic_1 rfl ?_
          refine mx_goto (tgt := 4) dX8_force_46 rfl ?_
          exact mx_weak (al' := [some (rv a0), some (iv x1), some (iv x2), some (iv (x3 + (1 : Int32)))]) ⟨rfl, ⟨rfl, ⟨rfl, ⟨rfl, trivial⟩⟩⟩⟩ H
        · have H := H.2 c6
          refine mx_iload_n dX8_force_41 rfl rfl ?_
          refine mx_istore_n (al' := [some (rv a0), some (iv x1), some (iv x3), some (iv x3)]) dX8_force_42 rfl (Nat.le_of_ble_eq_true rfl) rfl ?_
          refine mx_iinc (al' := [some (rv a0), some (iv x1), some (iv x3), some (iv (x3 + (1 : Int32)))]) dX8_force_43 rfl ic_1 rfl ?_
          refine mx_goto (tgt := 4) dX8_force_46 rfl ?_
          exact mx_weak (al' := [some (rv a0), some (iv x1), some (iv x3), some (iv (x3 + (1 : Int32)))]) ⟨rfl, ⟨rfl, ⟨rfl, ⟨rfl, trivial⟩⟩⟩⟩ H
theorem dX8_work_0 : decode mi_X8_work.2.1 0 = .ok (.iconst 0, 1) := by decide +kernel
theorem dX8_work_1 : decode mi_X8_work.2.1 1 = .ok (.istore_n 3, 1) := by decide +kernel
theorem dX8_work_2 : decode mi_X8_work.2.1 2 = .ok (.iload_n 3, 1) := by decide +kernel
theorem dX8_work_3 : decode mi_X8_work.2.1 3 = .ok (.iload_n 2, 1) := by decide +kernel
theorem dX8_work_4 : decode mi_X8_work.2.1 4 = .ok (.if_icmp .gt 97, 3) := by decide +kernel
theorem dX8_work_7 : decode mi_X8_work.2.1 7 = .ok (.aload_n 0, 1) := by decide +kernel
theorem dX8_work_8 : decode mi_X8_work.2.1 8 = .ok (.iconst 0, 1) := by decide +kernel
theorem dX8_work_9 : decode mi_X8_work.2.1 9 = .ok (.putfield 578, 3) := by decide +kernel
theorem dX8_work_12 : decode mi_X8_work.2.1 12 = .ok (.aload_n 0, 1) := by decide +kernel
theorem dX8_work_13 : decode mi_X8_work.2.1 13 = .ok (.getfield 130, 3) := by decide +kernel
theorem dX8_work_16 : decode mi_X8_work.2.1 16 = .ok (.bipush 11, 2) := by decide +kernel
theorem dX8_work_18 : decode mi_X8_work.2.1 18 = .ok (.iload_n 1, 1) := by decide +kernel
theorem dX8_work_19 : decode mi_X8_work.2.1 19 = .ok (.imul, 1) := by decide +kernel
theorem dX8_work_20 : decode mi_X8_work.2.1 20 = .ok (.iload_n 3, 1) := by decide +kernel
theorem dX8_work_21 : decode mi_X8_work.2.1 21 = .ok (.iadd, 1) := by decide +kernel
theorem dX8_work_22 : decode mi_X8_work.2.1 22 = .ok (.iaload, 1) := by decide +kernel
theorem dX8_work_23 : decode mi_X8_work.2.1 23 = .ok (.istore 4, 2) := by decide +kernel
theorem dX8_work_25 : decode mi_X8_work.2.1 25 = .ok (.aload_n 0, 1) := by decide +kernel
theorem dX8_work_26 : decode mi_X8_work.2.1 26 = .ok (.getfield 130, 3) := by decide +kernel
theorem dX8_work_29 : decode mi_X8_work.2.1 29 = .ok (.bipush 11, 2) := by decide +kernel
theorem dX8_work_31 : decode mi_X8_work.2.1 31 = .ok (.iload_n 1, 1) := by decide +kernel
theorem dX8_work_32 : decode mi_X8_work.2.1 32 = .ok (.imul, 1) := by decide +kernel
theorem dX8_work_33 : decode mi_X8_work.2.1 33 = .ok (.iload_n 3, 1) := by decide +kernel
theorem dX8_work_34 : decode mi_X8_work.2.1 34 = .ok (.iadd, 1) := by decide +kernel
theorem dX8_work_35 : decode mi_X8_work.2.1 35 = .ok (.iconst 1, 1) := by decide +kernel
theorem dX8_work_36 : decode mi_X8_work.2.1 36 = .ok (.iadd, 1) := by decide +kernel
theorem dX8_work_37 : decode mi_X8_work.2.1 37 = .ok (.iaload, 1) := by decide +kernel
theorem dX8_work_38 : decode mi_X8_work.2.1 38 = .ok (.istore 5, 2) := by decide +kernel
theorem dX8_work_40 : decode mi_X8_work.2.1 40 = .ok (.iload 4, 2) := by decide +kernel
theorem dX8_work_42 : decode mi_X8_work.2.1 42 = .ok (.iload 5, 2) := by decide +kernel
theorem dX8_work_44 : decode mi_X8_work.2.1 44 = .ok (.if_icmp .ge 27, 3) := by decide +kernel
theorem dX8_work_47 : decode mi_X8_work.2.1 47 = .ok (.aload_n 0, 1) := by decide +kernel
theorem dX8_work_48 : decode mi_X8_work.2.1 48 = .ok (.aload_n 0, 1) := by decide +kernel
theorem dX8_work_49 : decode mi_X8_work.2.1 49 = .ok (.getfield 133, 3) := by decide +kernel
theorem dX8_work_52 : decode mi_X8_work.2.1 52 = .ok (.sipush 1100, 3) := by decide +kernel
theorem dX8_work_55 : decode mi_X8_work.2.1 55 = .ok (.iload_n 1, 1) := by decide +kernel
theorem dX8_work_56 : decode mi_X8_work.2.1 56 = .ok (.imul, 1) := by decide +kernel
theorem dX8_work_57 : decode mi_X8_work.2.1 57 = .ok (.iload 4, 2) := by decide +kernel
theorem dX8_work_59 : decode mi_X8_work.2.1 59 = .ok (.iadd, 1) := by decide +kernel
theorem dX8_work_60 : decode mi_X8_work.2.1 60 = .ok (.iaload, 1) := by decide +kernel
theorem dX8_work_61 : decode mi_X8_work.2.1 61 = .ok (.iload 4, 2) := by decide +kernel
theorem dX8_work_63 : decode mi_X8_work.2.1 63 = .ok (.invokevirtual 581, 3) := by decide +kernel
theorem dX8_work_66 : decode mi_X8_work.2.1 66 = .ok (.istore 4, 2) := by decide +kernel
theorem dX8_work_68 : decode mi_X8_work.2.1 68 = .ok (.goto (-28), 3) := by decide +kernel
theorem dX8_work_71 : decode mi_X8_work.2.1 71 = .ok (.aload_n 0, 1) := by decide +kernel
theorem dX8_work_72 : decode mi_X8_work.2.1 72 = .ok (.getfield 154, 3) := by decide +kernel
theorem dX8_work_75 : decode mi_X8_work.2.1 75 = .ok (.iload_n 3, 1) := by decide +kernel
theorem dX8_work_76 : decode mi_X8_work.2.1 76 = .ok (.aload_n 0, 1) := by decide +kernel
theorem dX8_work_77 : decode mi_X8_work.2.1 77 = .ok (.getfield 148, 3) := by decide +kernel
theorem dX8_work_80 : decode mi_X8_work.2.1 80 = .ok (.iconst 0, 1) := by decide +kernel
theorem dX8_work_81 : decode mi_X8_work.2.1 81 = .ok (.laload, 1) := by decide +kernel
theorem dX8_work_82 : decode mi_X8_work.2.1 82 = .ok (.lastore, 1) := by decide +kernel
theorem dX8_work_83 : decode mi_X8_work.2.1 83 = .ok (.aload_n 0, 1) := by decide +kernel
theorem dX8_work_84 : decode mi_X8_work.2.1 84 = .ok (.getfield 161, 3) := by decide +kernel
theorem dX8_work_87 : decode mi_X8_work.2.1 87 = .ok (.iload_n 3, 1) := by decide +kernel
theorem dX8_work_88 : decode mi_X8_work.2.1 88 = .ok (.aload_n 0, 1) := by decide +kernel
theorem dX8_work_89 : decode mi_X8_work.2.1 89 = .ok (.getfield 157, 3) := by decide +kernel
theorem dX8_work_92 : decode mi_X8_work.2.1 92 = .ok (.iconst 0, 1) := by decide +kernel
theorem dX8_work_93 : decode mi_X8_work.2.1 93 = .ok (.baload, 1) := by decide +kernel
theorem dX8_work_94 : decode mi_X8_work.2.1 94 = .ok (.bastore, 1) := by decide +kernel
theorem dX8_work_95 : decode mi_X8_work.2.1 95 = .ok (.iinc 3 1, 3) := by decide +kernel
theorem dX8_work_98 : decode mi_X8_work.2.1 98 = .ok (.goto (-96), 3) := by decide +kernel
theorem dX8_work_101 : decode mi_X8_work.2.1 101 = .ok (.return_, 1) := by decide +kernel
theorem v_X8_work {G : ma_G} {d : Nat} {a0 : Nat} {x1 : Int32} {x2 : Int32} {h : ah_T} {Q : Option ma_V → ah_T → Prop} {E : Nat → ah_T → Prop} (La0_h : LY8 h a0) (H : MX G mi_X8_work (d + 1) 2 [some (rv a0), some (iv x1), some (iv x2), some (iv (0 : Int32)), none, none] [] h Q E) : MX G mi_X8_work (d + 1) 0 [some (rv a0), some (iv x1), some (iv x2), none, none, none] [] h Q E := by
  refine mx_iconst dX8_work_0 ic_0 ?_
  refine mx_istore_n (al' := [some (rv a0), some (iv x1), some (iv x2), some (iv (0 : Int32)), none, none]) dX8_work_1 rfl (Nat.le_of_ble_eq_true rfl) rfl ?_
  exact mx_weak (al' := [some (rv a0), some (iv x1), some (iv x2), some (iv (0 : Int32)), none, none]) ⟨rfl, ⟨rfl, ⟨rfl, ⟨rfl, trivial⟩⟩⟩⟩ H
theorem v_X8_work_2 {G : ma_G} {d : Nat} {a0 : Nat} {x1 : Int32} {x2 : Int32} {x3 : Int32} {h : ah_T} {Q : Option ma_V → ah_T → Prop} {E : Nat → ah_T → Prop} (La0_h : LY8 h a0) (H : (x2 < x3 → Q none h) ∧ (¬ x2 < x3 → ∀ h2 : ah_T, h2 = ah_wI h a0 72 (0 : Int32) → ah_ext h h2 → vp_in (((11 : Int32) * x1) + x3) 44 ∧ vp_in ((((11 : Int32) * x1) + x3) + (1 : Int32)) 44 ∧ MX G mi_X8_work (d + 1) 40 [some (rv a0), some (iv x1), some (iv x2), some (iv x3), some (iv (ah_I h (a0 + 38) (((11 : Int32) * x1) + x3).toNatClampNeg)), some (iv (ah_I h (a0 + 38) ((((11 : Int32) * x1) + x3) + (1 : Int32)).toNatClampNeg))] [] h2 Q E)) : MX G mi_X8_work (d + 1) 2 [some (rv a0), some (iv x1), some (iv x2), some (iv x3), none, none] [] h Q E := by
  refine mx_iload_n dX8_work_2 rfl rfl ?_
  refine mx_iload_n dX8_work_3 rfl rfl ?_
  refine mx_icmp_gt (tgt := 101) dX8_work_4 rfl (fun c1 => ?_) (fun c1 => ?_)
  · have H := H.1 c1
    exact mx_vret rfl dX8_work_101 H
  · have H := H.2 c1
    refine mx_aload_n dX8_work_7 rfl rfl ?_
    refine mx_iconst dX8_work_8 ic_0 ?_
    refine mx_putI 8 72 (ref := "PrairiePoolModel") cl_8 (Nat.le_of_ble_eq_true rfl) (Or.inl q1699) (Or.inl rfl) dX8_work_9 (Or.inl rfl) rfl (ly8_k La0_h) ?_
    refine mx_nmI  (fun h2 eh2 Xh2 Kh2 Lh2 => ?_)
    have H := H h2 eh2 Xh2
    have La0_h2 := La0_h.ext Xh2
    refine mx_aload_n dX8_work_12 rfl rfl ?_
    refine mx_get 8 61 (ref := "PrairiePoolModel") cl_8 (Nat.le_of_ble_eq_true rfl) (Or.inl q1688) (Or.inl rfl) dX8_work_13 (fv_8_61 _ _) (ly8_k La0_h2) ?_
    refine mx_tr (ly8_R_0_61 La0_h2) ?_
    refine mx_bipush dX8_work_16 ib_11 ?_
    refine mx_iload_n dX8_work_18 rfl rfl ?_
    refine mx_imul dX8_work_19 ?_
    refine mx_iload_n dX8_work_20 rfl rfl ?_
    refine mx_iadd dX8_work_21 ?_
    obtain ⟨k3, H⟩ := H
    refine my_iald dX8_work_22 rfl (ly8_A_38 La0_h2 k3) ?_
    refine mx_ti (ah_skIA eh2 (by omega)) ?_
    refine mx_istore (al' := [some (rv a0), some (iv x1), some (iv x2), some (iv x3), some (iv (ah_I h (a0 + 38) (((11 : Int32) * x1) + x3).toNatClampNeg)), none]) dX8_work_23 (Nat.le_of_ble_eq_true rfl) rfl ?_
    refine mx_aload_n dX8_work_25 rfl rfl ?_
    refine mx_get 8 61 (ref := "PrairiePoolModel") cl_8 (Nat.le_of_ble_eq_true rfl) (Or.inl q1688) (Or.inl rfl) dX8_work_26 (fv_8_61 _ _) (ly8_k La0_h2) ?_
    refine mx_tr (ly8_R_0_61 La0_h2) ?_
    refine mx_bipush dX8_work_29 ib_11 ?_
    refine mx_iload_n dX8_work_31 rfl rfl ?_
    refine mx_imul dX8_work_32 ?_
    refine mx_iload_n dX8_work_33 rfl rfl ?_
    refine mx_iadd dX8_work_34 ?_
    refine mx_iconst dX8_work_35 ic_1 ?_
    refine mx_iadd dX8_work_36 ?_
    obtain ⟨k4, H⟩ := H
    refine my_iald dX8_work_37 rfl (ly8_A_38 La0_h2 k4) ?_
    refine mx_ti (ah_skIA eh2 (by omega)) ?_
    refine mx_istore (al' := [some (rv a0), some (iv x1), some (iv x2), some (iv x3), some (iv (ah_I h (a0 + 38) (((11 : Int32) * x1) + x3).toNatClampNeg)), some (iv (ah_I h (a0 + 38) ((((11 : Int32) * x1) + x3) + (1 : Int32)).toNatClampNeg))]) dX8_work_38 (Nat.le_of_ble_eq_true rfl) rfl ?_
    exact mx_weak (al' := [some (rv a0), some (iv x1), some (iv x2), some (iv x3), some (iv (ah_I h (a0 + 38) (((11 : Int32) * x1) + x3).toNatClampNeg)), some (iv (ah_I h (a0 + 38) ((((11 : Int32) * x1) + x3) + (1 : Int32)).toNatClampNeg))]) ⟨rfl, ⟨rfl, ⟨rfl, ⟨rfl, ⟨rfl, ⟨rfl, trivial⟩⟩⟩⟩⟩⟩ H
theorem v_X8_work_40 {G : ma_G} {d : Nat} {a0 : Nat} {x1 : Int32} {x2 : Int32} {x3 : Int32} {x4 : Int32} {x5 : Int32} {h : ah_T} {Q : Option ma_V → ah_T → Prop} {E : Nat → ah_T → Prop} (La0_h : LY8 h a0) (H : (x5 ≤ x4 → vp_in x3 10 ∧ ∀ h3 : ah_T, h3 = ah_wJ h (a0 + 46) x3.toNatClampNeg (ah_J h (a0 + 44) 0) → ah_ext h h3 → ∀ h4 : ah_T, h4 = ah_wI h3 (a0 + 48) x3.toNatClampNeg (vp_nar .boolean (ah_I h (a0 + 47) 0)) → ah_ext h3 h4 → MX G mi_X8_work (d + 1) 2 [some (rv a0), some (iv x1), some (iv x2), some (iv (x3 + (1 : Int32))), none, none] [] h4 Q E) ∧ (¬ x5 ≤ x4 → vp_in (((1100 : Int32) * x1) + x4) 4400 ∧ MX G mi_X8_does d 0 [some (rv a0), some (iv (ah_I h (a0 + 39) (((1100 : Int32) * x1) + x4).toNatClampNeg)), some (iv x4), none, none] [] h (Qi fun r7 h6 => ah_ext h h6 → MX G mi_X8_work (d + 1) 40 [some (rv a0), some (iv x1), some (iv x2), some (iv x3), some (iv r7), some (iv x5)] [] h6 Q E) E)) : MX G mi_X8_work (d + 1) 40 [some (rv a0), some (iv x1), some (iv x2), some (iv x3), some (iv x4), some (iv x5)] [] h Q E := by
  refine mx_iload dX8_work_40 rfl ?_
  refine mx_iload dX8_work_42 rfl ?_
  refine mx_icmp_ge (tgt := 71) dX8_work_44 rfl (fun c1 => ?_) (fun c1 => ?_)
  · have H := H.1 c1
    refine mx_aload_n dX8_work_71 rfl rfl ?_
    refine mx_get 8 69 (ref := "PrairiePoolModel") cl_8 (Nat.le_of_ble_eq_true rfl) (Or.inl q1696) (Or.inl rfl) dX8_work_72 (fv_8_69 _ _) (ly8_k La0_h) ?_
    refine mx_tr (ly8_R_0_69 La0_h) ?_
    refine mx_iload_n dX8_work_75 rfl rfl ?_
    refine mx_aload_n dX8_work_76 rfl rfl ?_
    refine mx_get 8 67 (ref := "PrairiePoolModel") cl_8 (Nat.le_of_ble_eq_true rfl) (Or.inl q1694) (Or.inl rfl) dX8_work_77 (fv_8_67 _ _) (ly8_k La0_h) ?_
    refine mx_tr (ly8_R_0_67 La0_h) ?_
    refine mx_iconst dX8_work_80 ic_0 ?_
    refine my_lald dX8_work_81 cn_0 (ly8_A_44 La0_h (vp_c (by decide))) ?_
    obtain ⟨k2, H⟩ := H
    refine my_last dX8_work_82 rfl (ly8_A_46 La0_h k2) ?_
    refine mx_nmJ  (fun h3 eh3 Xh3 Kh3 Lh3 => ?_)
    have H := H h3 eh3 Xh3
    have La0_h3 := La0_h.ext Xh3
    refine mx_aload_n dX8_work_83 rfl rfl ?_
    refine mx_get 8 71 (ref := "PrairiePoolModel") cl_8 (Nat.le_of_ble_eq_true rfl) (Or.inl q1698) (Or.inl rfl) dX8_work_84 (fv_8_71 _ _) (ly8_k La0_h3) ?_
    refine mx_tr (ly8_R_0_71 La0_h3) ?_
    refine mx_iload_n dX8_work_87 rfl rfl ?_
    refine mx_aload_n dX8_work_88 rfl rfl ?_
    refine mx_get 8 70 (ref := "PrairiePoolModel") cl_8 (Nat.le_of_ble_eq_true rfl) (Or.inl q1697) (Or.inl rfl) dX8_work_89 (fv_8_70 _ _) (ly8_k La0_h3) ?_
    refine mx_tr (ly8_R_0_70 La0_h3) ?_
    refine mx_iconst dX8_work_92 ic_0 ?_
    refine my_zald dX8_work_93 cn_0 (ly8_A_47 La0_h3 (vp_c (by decide))) ?_
    refine mx_ti (ah_IJ eh3) ?_
    refine my_zast dX8_work_94 rfl (ly8_A_48 La0_h3 k2) ?_
    refine mx_nmI  (fun h4 eh4 Xh4 Kh4 Lh4 => ?_)
    have H := H h4 eh4 Xh4
    have Kh4 := Kh4.trans Kh3
    have Lh4 := Lh4.trans Lh3
    have La0_h4 := La0_h3.ext Xh4
    refine mx_iinc (al' := [some (rv a0), some (iv x1), some (iv x2), some (iv (x3 + (1 : Int32))), some (iv x4), some (iv x5)]) dX8_work_95 rfl ic_1 rfl ?_
    refine mx_goto (tgt := 2) dX8_work_98 rfl ?_
    exact mx_weak (al' := [some (rv a0), some (iv x1), some (iv x2), some (iv (x3 + (1 : Int32))), none, none]) ⟨rfl, ⟨rfl, ⟨rfl, ⟨rfl, trivial⟩⟩⟩⟩ H
  · have H := H.2 c1
    refine mx_aload_n dX8_work_47 rfl rfl ?_
    refine mx_aload_n dX8_work_48 rfl rfl ?_
    refine mx_get 8 62 (ref := "PrairiePoolModel") cl_8 (Nat.le_of_ble_eq_true rfl) (Or.inl q1689) (Or.inl rfl) dX8_work_49 (fv_8_62 _ _) (ly8_k La0_h) ?_
    refine mx_tr (ly8_R_0_62 La0_h) ?_
    refine mx_sipush dX8_work_52 is_1100 ?_
    refine mx_iload_n dX8_work_55 rfl rfl ?_
    refine mx_imul dX8_work_56 ?_
    refine mx_iload dX8_work_57 rfl ?_
    refine mx_iadd dX8_work_59 ?_
    obtain ⟨k5, H⟩ := H
    refine my_iald dX8_work_60 rfl (ly8_A_39 La0_h k5) ?_
    refine mx_iload dX8_work_61 rfl ?_
    refine mx_callV 8 (y' := mi_X8_does) (vs := [iv (ah_I h (a0 + 39) (((1100 : Int32) * x1) + x4).toNatClampNeg), iv x4]) (st := []) (al' := [some (rv a0), some (iv (ah_I h (a0 + 39) (((1100 : Int32) * x1) + x4).toNatClampNeg)), some (iv x4), none, none]) cl_8 V_X8_does (Or.inl q2092) dX8_work_63 rfl rfl (Nat.le_of_ble_eq_true rfl) (Nat.le_of_ble_eq_true rfl) (ly8_k La0_h) ?_
    refine ma_ki H (fun r7 h6 Xh6 H => ?_) (fun x1 h1 X1 H => mt_out rfl H)
    have H := H Xh6
    have La0_h6 := La0_h.ext Xh6
    refine mx_istore (al' := [some (rv a0), some (iv x1), some (iv x2), some (iv x3), some (iv r7), some (iv x5)]) dX8_work_66 (Nat.le_of_ble_eq_true rfl) rfl ?_
    refine mx_goto (tgt := 40) dX8_work_68 rfl ?_
    exact mx_weak (al' := [some (rv a0), some (iv x1), some (iv x2), some (iv x3), some (iv r7), some (iv x5)]) ⟨rfl, ⟨rfl, ⟨rfl, ⟨rfl, ⟨rfl, ⟨rfl, trivial⟩⟩⟩⟩⟩⟩ H
theorem dX8_does_0 : decode mi_X8_does.2.1 0 = .ok (.iload_n 1, 1) := by decide +kernel
theorem dX8_does_1 : decode mi_X8_does.2.1 1 = .ok (.ldc_w 503, 3) := by decide +kernel
theorem dX8_does_4 : decode mi_X8_does.2.1 4 = .ok (.idiv, 1) := by decide +kernel
theorem dX8_does_5 : decode mi_X8_does.2.1 5 = .ok (.istore_n 3, 1) := by decide +kernel
theorem dX8_does_6 : decode mi_X8_does.2.1 6 = .ok (.iload_n 1, 1) := by decide +kernel
theorem dX8_does_7 : decode mi_X8_does.2.1 7 = .ok (.ldc_w 503, 3) := by decide +kernel
theorem dX8_does_10 : decode mi_X8_does.2.1 10 = .ok (.irem, 1) := by decide +kernel
theorem dX8_does_11 : decode mi_X8_does.2.1 11 = .ok (.istore 4, 2) := by decide +kernel
theorem dX8_does_13 : decode mi_X8_does.2.1 13 = .ok (.iload_n 3, 1) := by decide +kernel
theorem dX8_does_14 : decode mi_X8_does.2.1 14 = .ok (.lookupswitch 136 #[(0, 50), (1, 62), (2, 78), (15, 103), (16, 100)], 50) := by decide +kernel
theorem dX8_does_64 : decode mi_X8_does.2.1 64 = .ok (.aload_n 0, 1) := by decide +kernel
theorem dX8_does_65 : decode mi_X8_does.2.1 65 = .ok (.iload 4, 2) := by decide +kernel
theorem dX8_does_67 : decode mi_X8_does.2.1 67 = .ok (.i2l, 1) := by decide +kernel
theorem dX8_does_68 : decode mi_X8_does.2.1 68 = .ok (.iconst 0, 1) := by decide +kernel
theorem dX8_does_69 : decode mi_X8_does.2.1 69 = .ok (.invokevirtual 584, 3) := by decide +kernel
theorem dX8_does_72 : decode mi_X8_does.2.1 72 = .ok (.iload_n 2, 1) := by decide +kernel
theorem dX8_does_73 : decode mi_X8_does.2.1 73 = .ok (.iconst 1, 1) := by decide +kernel
theorem dX8_does_74 : decode mi_X8_does.2.1 74 = .ok (.iadd, 1) := by decide +kernel
theorem dX8_does_75 : decode mi_X8_does.2.1 75 = .ok (.ireturn, 1) := by decide +kernel
theorem dX8_does_76 : decode mi_X8_does.2.1 76 = .ok (.aload_n 0, 1) := by decide +kernel
theorem dX8_does_77 : decode mi_X8_does.2.1 77 = .ok (.aload_n 0, 1) := by decide +kernel
theorem dX8_does_78 : decode mi_X8_does.2.1 78 = .ok (.getfield 151, 3) := by decide +kernel
theorem dX8_does_81 : decode mi_X8_does.2.1 81 = .ok (.iload 4, 2) := by decide +kernel
theorem dX8_does_83 : decode mi_X8_does.2.1 83 = .ok (.laload, 1) := by decide +kernel
theorem dX8_does_84 : decode mi_X8_does.2.1 84 = .ok (.iconst 0, 1) := by decide +kernel
theorem dX8_does_85 : decode mi_X8_does.2.1 85 = .ok (.invokevirtual 584, 3) := by decide +kernel
theorem dX8_does_88 : decode mi_X8_does.2.1 88 = .ok (.iload_n 2, 1) := by decide +kernel
theorem dX8_does_89 : decode mi_X8_does.2.1 89 = .ok (.iconst 1, 1) := by decide +kernel
theorem dX8_does_90 : decode mi_X8_does.2.1 90 = .ok (.iadd, 1) := by decide +kernel
theorem dX8_does_91 : decode mi_X8_does.2.1 91 = .ok (.ireturn, 1) := by decide +kernel
theorem dX8_does_92 : decode mi_X8_does.2.1 92 = .ok (.aload_n 0, 1) := by decide +kernel
theorem dX8_does_93 : decode mi_X8_does.2.1 93 = .ok (.aload_n 0, 1) := by decide +kernel
theorem dX8_does_94 : decode mi_X8_does.2.1 94 = .ok (.getfield 154, 3) := by decide +kernel
theorem dX8_does_97 : decode mi_X8_does.2.1 97 = .ok (.iload 4, 2) := by decide +kernel
theorem dX8_does_99 : decode mi_X8_does.2.1 99 = .ok (.laload, 1) := by decide +kernel
theorem dX8_does_100 : decode mi_X8_does.2.1 100 = .ok (.aload_n 0, 1) := by decide +kernel
theorem dX8_does_101 : decode mi_X8_does.2.1 101 = .ok (.getfield 161, 3) := by decide +kernel
theorem dX8_does_104 : decode mi_X8_does.2.1 104 = .ok (.iload 4, 2) := by decide +kernel
theorem dX8_does_106 : decode mi_X8_does.2.1 106 = .ok (.baload, 1) := by decide +kernel
theorem dX8_does_107 : decode mi_X8_does.2.1 107 = .ok (.invokevirtual 584, 3) := by decide +kernel
theorem dX8_does_110 : decode mi_X8_does.2.1 110 = .ok (.iload_n 2, 1) := by decide +kernel
theorem dX8_does_111 : decode mi_X8_does.2.1 111 = .ok (.iconst 1, 1) := by decide +kernel
theorem dX8_does_112 : decode mi_X8_does.2.1 112 = .ok (.iadd, 1) := by decide +kernel
theorem dX8_does_113 : decode mi_X8_does.2.1 113 = .ok (.ireturn, 1) := by decide +kernel
theorem dX8_does_114 : decode mi_X8_does.2.1 114 = .ok (.iload 4, 2) := by decide +kernel
theorem dX8_does_116 : decode mi_X8_does.2.1 116 = .ok (.ireturn, 1) := by decide +kernel
theorem dX8_does_117 : decode mi_X8_does.2.1 117 = .ok (.aload_n 0, 1) := by decide +kernel
theorem dX8_does_118 : decode mi_X8_does.2.1 118 = .ok (.dup, 1) := by decide +kernel
theorem dX8_does_119 : decode mi_X8_does.2.1 119 = .ok (.getfield 578, 3) := by decide +kernel
theorem dX8_does_122 : decode mi_X8_does.2.1 122 = .ok (.iconst 1, 1) := by decide +kernel
theorem dX8_does_123 : decode mi_X8_does.2.1 123 = .ok (.isub, 1) := by decide +kernel
theorem dX8_does_124 : decode mi_X8_does.2.1 124 = .ok (.putfield 578, 3) := by decide +kernel
theorem dX8_does_127 : decode mi_X8_does.2.1 127 = .ok (.aload_n 0, 1) := by decide +kernel
theorem dX8_does_128 : decode mi_X8_does.2.1 128 = .ok (.getfield 148, 3) := by decide +kernel
theorem dX8_does_131 : decode mi_X8_does.2.1 131 = .ok (.aload_n 0, 1) := by decide +kernel
theorem dX8_does_132 : decode mi_X8_does.2.1 132 = .ok (.getfield 578, 3) := by decide +kernel
theorem dX8_does_135 : decode mi_X8_does.2.1 135 = .ok (.laload, 1) := by decide +kernel
theorem dX8_does_136 : decode mi_X8_does.2.1 136 = .ok (.lconst 1, 1) := by decide +kernel
theorem dX8_does_137 : decode mi_X8_does.2.1 137 = .ok (.lcmp, 1) := by decide +kernel
theorem dX8_does_138 : decode mi_X8_does.2.1 138 = .ok (.ifCond .ne 9, 3) := by decide +kernel
theorem dX8_does_141 : decode mi_X8_does.2.1 141 = .ok (.iload_n 2, 1) := by decide +kernel
theorem dX8_does_142 : decode mi_X8_does.2.1 142 = .ok (.iconst 1, 1) := by decide +kernel
theorem dX8_does_143 : decode mi_X8_does.2.1 143 = .ok (.iadd, 1) := by decide +kernel
theorem dX8_does_144 : decode mi_X8_does.2.1 144 = .ok (.goto 5, 3) := by decide +kernel
theorem dX8_does_147 : decode mi_X8_does.2.1 147 = .ok (.iload 4, 2) := by decide +kernel
theorem dX8_does_149 : decode mi_X8_does.2.1 149 = .ok (.ireturn, 1) := by decide +kernel
theorem dX8_does_150 : decode mi_X8_does.2.1 150 = .ok (.aload_n 0, 1) := by decide +kernel
theorem dX8_does_151 : decode mi_X8_does.2.1 151 = .ok (.iload_n 3, 1) := by decide +kernel
theorem dX8_does_152 : decode mi_X8_does.2.1 152 = .ok (.iload 4, 2) := by decide +kernel
theorem dX8_does_154 : decode mi_X8_does.2.1 154 = .ok (.invokevirtual 588, 3) := by decide +kernel
theorem dX8_does_157 : decode mi_X8_does.2.1 157 = .ok (.iload_n 2, 1) := by decide +kernel
theorem dX8_does_158 : decode mi_X8_does.2.1 158 = .ok (.iconst 1, 1) := by decide +kernel
theorem dX8_does_159 : decode mi_X8_does.2.1 159 = .ok (.iadd, 1) := by decide +kernel
theorem dX8_does_160 : decode mi_X8_does.2.1 160 = .ok (.ireturn, 1) := by decide +kernel
theorem v_X8_does {G : ma_G} {d : Nat} {a0 : Nat} {x1 : Int32} {x2 : Int32} {h : ah_T} {Q : Option ma_V → ah_T → Prop} {E : Nat → ah_T → Prop} (La0_h : LY8 h a0) (H : ((x1 / (1048576 : Int32)) = (0 : Int32) → vp_in (ah_I h a0 72) 600 ∧ ∀ h3 : ah_T, h3 = ah_wJ h (a0 + 44) (ah_I h a0 72).toNatClampNeg (x1 - x1 / (1048576 : Int32) * (1048576 : Int32)).toInt64 → ah_ext h h3 → ∀ h4 : ah_T, h4 = ah_wI h3 (a0 + 47) (ah_I h a0 72).toNatClampNeg (vp_nar .boolean (0 : Int32)) → ah_ext h3 h4 → ∀ h5 : ah_T, h5 = ah_wI h4 a0 72 ((ah_I h a0 72) + (1 : Int32)) → ah_ext h4 h5 → Q (some (iv (x2 + (1 : Int32)))) h5) ∧ (¬ (x1 / (1048576 : Int32)) = (0 : Int32) → ((x1 / (1048576 : Int32)) = (1 : Int32) → vp_in (x1 - x1 / (1048576 : Int32) * (1048576 : Int32)) 11 ∧ vp_in (ah_I h a0 72) 600 ∧ ∀ h9 : ah_T, h9 = ah_wJ h (a0 + 44) (ah_I h a0 72).toNatClampNeg (ah_J h (a0 + 45) (x1 - x1 / (1048576 : Int32) * (1048576 : Int32)).toNatClampNeg) → ah_ext h h9 → ∀ h10 : ah_T, h10 = ah_wI h9 (a0 + 47) (ah_I h a0 72).toNatClampNeg (vp_nar .boolean (0 : Int32)) → ah_ext h9 h10 → ∀ h11 : ah_T, h11 = ah_wI h10 a0 72 ((ah_I h a0 72) + (1 : Int32)) → ah_ext h10 h11 → Q (some (iv (x2 + (1 : Int32)))) h11) ∧ (¬ (x1 / (1048576 : Int32)) = (1 : Int32) → ((x1 / (1048576 : Int32)) = (2 : Int32) → vp_in (x1 - x1 / (1048576 : Int32) * (1048576 : Int32)) 10 ∧ vp_in (ah_I h a0 72) 600 ∧ ∀ h15 : ah_T, h15 = ah_wJ h (a0 + 44) (ah_I h a0 72).toNatClampNeg (ah_J h (a0 + 46) (x1 - x1 / (1048576 : Int32) * (1048576 : Int32)).toNatClampNeg) → ah_ext h h15 → ∀ h16 : ah_T, h16 = ah_wI h15 (a0 + 47) (ah_I h a0 72).toNatClampNeg (vp_nar .boolean (ah_I h (a0 + 48) (x1 - x1 / (1048576 : Int32) * (1048576 : Int32)).toNatClampNeg)) → ah_ext h15 h16 → ∀ h17 : ah_T, h17 = ah_wI h16 a0 72 ((ah_I h a0 72) + (1 : Int32)) → ah_ext h16 h17 → Q (some (iv (x2 + (1 : Int32)))) h17) ∧ (¬ (x1 / (1048576 : Int32)) = (2 : Int32) → ((x1 / (1048576 : Int32)) = (15 : Int32) → ∀ h19 : ah_T, h19 = ah_wI h a0 72 ((ah_I h a0 72) - (1 : Int32)) → ah_ext h h19 → vp_in ((ah_I h a0 72) - (1 : Int32)) 600 ∧ (¬ (ah_J h (a0 + 44) ((ah_I h a0 72) - (1 : Int32)).toNatClampNeg) = (1 : Int64) → Q (some (iv (x1 - x1 / (1048576 : Int32) * (1048576 : Int32)))) h19) ∧ ((ah_J h (a0 + 44) ((ah_I h a0 72) - (1 : Int32)).toNatClampNeg) = (1 : Int64) → Q (some (iv (x2 + (1 : Int32)))) h19)) ∧ (¬ (x1 / (1048576 : Int32)) = (15 : Int32) → ((x1 / (1048576 : Int32)) = (16 : Int32) → Q (some (iv (x1 - x1 / (1048576 : Int32) * (1048576 : Int32)))) h) ∧ (¬ (x1 / (1048576 : Int32)) = (16 : Int32) → MX G mi_X8_both d 0 [some (rv a0), some (iv (x1 / (1048576 : Int32))), some (iv (x1 - x1 / (1048576 : Int32) * (1048576 : Int32))), none, none, none, none, none, none] [] h (Qv fun h23 => ah_ext h h23 → Q (some (iv (x2 + (1 : Int32)))) h23) E)))))) : MX G mi_X8_does (d + 1) 0 [some (rv a0), some (iv x1), some (iv x2), none, none] [] h Q E := by
  refine mx_iload_n dX8_does_0 rfl rfl ?_
  refine mx_ldcw q2096 dX8_does_1 ?_
  refine mx_idiv dX8_does_4 (by decide) ?_
  refine mx_istore_n (al' := [some (rv a0), some (iv x1), some (iv x2), some (iv (x1 / (1048576 : Int32))), none]) dX8_does_5 rfl (Nat.le_of_ble_eq_true rfl) rfl ?_
  refine mx_iload_n dX8_does_6 rfl rfl ?_
  refine mx_ldcw q2096 dX8_does_7 ?_
  refine mx_irem dX8_does_10 (by decide) ?_
  refine mx_istore (al' := [some (rv a0), some (iv x1), some (iv x2), some (iv (x1 / (1048576 : Int32))), some (iv (x1 - x1 / (1048576 : Int32) * (1048576 : Int32)))]) dX8_does_11 (Nat.le_of_ble_eq_true rfl) rfl ?_
  refine mx_iload_n dX8_does_13 rfl rfl ?_
  by_cases c1 : (x1 / (1048576 : Int32)) = (0 : Int32)
  · have H := H.1 c1
    refine mx_look dX8_does_14 rfl ⟨50, 64, (by rw [c1]; decide), rfl, ?_⟩
    refine mx_aload_n dX8_does_64 rfl rfl ?_
    refine mx_iload dX8_does_65 rfl ?_
    refine mx_i2l dX8_does_67 ?_
    refine mx_iconst dX8_does_68 ic_0 ?_
    refine mx_callV 8 (y' := mi_X8_push) (vs := [jv (x1 - x1 / (1048576 : Int32) * (1048576 : Int32)).toInt64, iv (0 : Int32)]) (st := []) (al' := [some (rv a0), some (jv (x1 - x1 / (1048576 : Int32) * (1048576 : Int32)).toInt64), none, some (iv (0 : Int32))]) cl_8 V_X8_push (Or.inl q2097) dX8_does_69 rfl rfl (Nat.le_of_ble_eq_true rfl) (Nat.le_of_ble_eq_true rfl) (ly8_k La0_h) ?_
    refine mx_aload_n dX8_push_0 rfl rfl ?_
    refine mx_get 8 67 (ref := "PrairiePoolModel") cl_8 (Nat.le_of_ble_eq_true rfl) (Or.inl q1694) (Or.inl rfl) dX8_push_1 (fv_8_67 _ _) (ly8_k La0_h) ?_
    refine mx_tr (ly8_R_0_67 La0_h) ?_
    refine mx_aload_n dX8_push_4 rfl rfl ?_
    refine mx_get 8 72 (ref := "PrairiePoolModel") cl_8 (Nat.le_of_ble_eq_true rfl) (Or.inl q1699) (Or.inl rfl) dX8_push_5 (fv_8_72 _ _) (ly8_k La0_h) ?_
    refine mx_lload_n dX8_push_8 rfl rfl ?_
    obtain ⟨k2, H⟩ := H
    refine my_last dX8_push_9 rfl (ly8_A_44 La0_h k2) ?_
    refine mx_nmJ  (fun h3 eh3 Xh3 Kh3 Lh3 => ?_)
    have H := H h3 eh3 Xh3
    have La0_h3 := La0_h.ext Xh3
    refine mx_aload_n dX8_push_10 rfl rfl ?_
    refine mx_get 8 70 (ref := "PrairiePoolModel") cl_8 (Nat.le_of_ble_eq_true rfl) (Or.inl q1697) (Or.inl rfl) dX8_push_11 (fv_8_70 _ _) (ly8_k La0_h3) ?_
    refine mx_tr (ly8_R_0_70 La0_h3) ?_
    refine mx_aload_n dX8_push_14 rfl rfl ?_
    refine mx_get 8 72 (ref := "PrairiePoolModel") cl_8 (Nat.le_of_ble_eq_true rfl) (Or.inl q1699) (Or.inl rfl) dX8_push_15 (fv_8_72 _ _) (ly8_k La0_h3) ?_
    refine mx_ti (ah_IJ eh3) ?_
    refine mx_iload_n dX8_push_18 rfl rfl ?_
    refine my_zast dX8_push_19 rfl (ly8_A_47 La0_h3 k2) ?_
    refine mx_nmI  (fun h4 eh4 Xh4 Kh4 Lh4 => ?_)
    have H := H h4 eh4 Xh4
    have Kh4 := Kh4.trans Kh3
    have Lh4 := Lh4.trans Lh3
    have La0_h4 := La0_h3.ext Xh4
    refine mx_aload_n dX8_push_20 rfl rfl ?_
    refine mx_dup_r dX8_push_21 ?_
    refine mx_get 8 72 (ref := "PrairiePoolModel") cl_8 (Nat.le_of_ble_eq_true rfl) (Or.inl q1699) (Or.inl rfl) dX8_push_22 (fv_8_72 _ _) (ly8_k La0_h4) ?_
    refine mx_ti ((ah_skIA eh4 (by omega)).trans (ah_IJ eh3)) ?_
    refine mx_iconst dX8_push_25 ic_1 ?_
    refine mx_iadd dX8_push_26 ?_
    refine mx_putI 8 72 (ref := "PrairiePoolModel") cl_8 (Nat.le_of_ble_eq_true rfl) (Or.inl q1699) (Or.inl rfl) dX8_push_27 (Or.inl rfl) rfl (ly8_k La0_h4) ?_
    refine mx_nmI  (fun h5 eh5 Xh5 Kh5 Lh5 => ?_)
    have H := H h5 eh5 Xh5
    have Kh5 := Kh5.trans Kh4
    have Lh5 := Lh5.trans Lh4
    have La0_h5 := La0_h4.ext Xh5
    refine mx_vretK rfl dX8_push_30 ?_
    refine mx_iload_n dX8_does_72 rfl rfl ?_
    refine mx_iconst dX8_does_73 ic_1 ?_
    refine mx_iadd dX8_does_74 ?_
    exact mx_iret rfl dX8_does_75 H
  have H := H.2 c1
  by_cases c6 : (x1 / (1048576 : Int32)) = (1 : Int32)
  · have H := H.1 c6
    refine mx_look dX8_does_14 rfl ⟨62, 76, (by rw [c6]; decide), rfl, ?_⟩
    refine mx_aload_n dX8_does_76 rfl rfl ?_
    refine mx_aload_n dX8_does_77 rfl rfl ?_
    refine mx_get 8 68 (ref := "PrairiePoolModel") cl_8 (Nat.le_of_ble_eq_true rfl) (Or.inl q1695) (Or.inl rfl) dX8_does_78 (fv_8_68 _ _) (ly8_k La0_h) ?_
    refine mx_tr (ly8_R_0_68 La0_h) ?_
    refine mx_iload dX8_does_81 rfl ?_
    obtain ⟨k7, H⟩ := H
    refine my_lald dX8_does_83 rfl (ly8_A_45 La0_h k7) ?_
    refine mx_iconst dX8_does_84 ic_0 ?_
    refine mx_callV 8 (y' := mi_X8_push) (vs := [jv (ah_J h (a0 + 45) (x1 - x1 / (1048576 : Int32) * (1048576 : Int32)).toNatClampNeg), iv (0 : Int32)]) (st := []) (al' := [some (rv a0), some (jv (ah_J h (a0 + 45) (x1 - x1 / (1048576 : Int32) * (1048576 : Int32)).toNatClampNeg)), none, some (iv (0 : Int32))]) cl_8 V_X8_push (Or.inl q2097) dX8_does_85 rfl rfl (Nat.le_of_ble_eq_true rfl) (Nat.le_of_ble_eq_true rfl) (ly8_k La0_h) ?_
    refine mx_aload_n dX8_push_0 rfl rfl ?_
    refine mx_get 8 67 (ref := "PrairiePoolModel") cl_8 (Nat.le_of_ble_eq_true rfl) (Or.inl q1694) (Or.inl rfl) dX8_push_1 (fv_8_67 _ _) (ly8_k La0_h) ?_
    refine mx_tr (ly8_R_0_67 La0_h) ?_
    refine mx_aload_n dX8_push_4 rfl rfl ?_
    refine mx_get 8 72 (ref := "PrairiePoolModel") cl_8 (Nat.le_of_ble_eq_true rfl) (Or.inl q1699) (Or.inl rfl) dX8_push_5 (fv_8_72 _ _) (ly8_k La0_h) ?_
    refine mx_lload_n dX8_push_8 rfl rfl ?_
    obtain ⟨k8, H⟩ := H
    refine my_last dX8_push_9 rfl (ly8_A_44 La0_h k8) ?_
    refine mx_nmJ  (fun h9 eh9 Xh9 Kh9 Lh9 => ?_)
    have H := H h9 eh9 Xh9
    have La0_h9 := La0_h.ext Xh9
    refine mx_aload_n dX8_push_10 rfl rfl ?_
    refine mx_get 8 70 (ref := "PrairiePoolModel") cl_8 (Nat.le_of_ble_eq_true rfl) (Or.inl q1697) (Or.inl rfl) dX8_push_11 (fv_8_70 _ _) (ly8_k La0_h9) ?_
    refine mx_tr (ly8_R_0_70 La0_h9) ?_
    refine mx_aload_n dX8_push_14 rfl rfl ?_
    refine mx_get 8 72 (ref := "PrairiePoolModel") cl_8 (Nat.le_of_ble_eq_true rfl) (Or.inl q1699) (Or.inl rfl) dX8_push_15 (fv_8_72 _ _) (ly8_k La0_h9) ?_
    refine mx_ti (ah_IJ eh9) ?_
    refine mx_iload_n dX8_push_18 rfl rfl ?_
    refine my_zast dX8_push_19 rfl (ly8_A_47 La0_h9 k8) ?_
    refine mx_nmI  (fun h10 eh10 Xh10 Kh10 Lh10 => ?_)
    have H := H h10 eh10 Xh10
    have Kh10 := Kh10.trans Kh9
    have Lh10 := Lh10.trans Lh9
    have La0_h10 := La0_h9.ext Xh10
    refine mx_aload_n dX8_push_20 rfl rfl ?_
    refine mx_dup_r dX8_push_21 ?_
    refine mx_get 8 72 (ref := "PrairiePoolModel") cl_8 (Nat.le_of_ble_eq_true rfl) (Or.inl q1699) (Or.inl rfl) dX8_push_22 (fv_8_72 _ _) (ly8_k La0_h10) ?_
    refine mx_ti ((ah_skIA eh10 (by omega)).trans (ah_IJ eh9)) ?_
    refine mx_iconst dX8_push_25 ic_1 ?_
    refine mx_iadd dX8_push_26 ?_
    refine mx_putI 8 72 (ref := "PrairiePoolModel") cl_8 (Nat.le_of_ble_eq_true rfl) (Or.inl q1699) (Or.inl rfl) dX8_push_27 (Or.inl rfl) rfl (ly8_k La0_h10) ?_
    refine mx_nmI  (fun h11 eh11 Xh11 Kh11 Lh11 => ?_)
    have H := H h11 eh11 Xh11
    have Kh11 := Kh11.trans Kh10
    have Lh11 := Lh11.trans Lh10
    have La0_h11 := La0_h10.ext Xh11
    refine mx_vretK rfl dX8_push_30 ?_
    refine mx_iload_n dX8_does_88 rfl rfl ?_
    refine mx_iconst dX8_does_89 ic_1 ?_
    refine mx_iadd dX8_does_90 ?_
    exact mx_iret rfl dX8_does_91 H
  have H := H.2 c6
  by_cases c12 : (x1 / (1048576 : Int32)) = (2 : Int32)
  · have H := H.1 c12
    refine mx_look dX8_does_14 rfl ⟨78, 92, (by rw [c12]; decide), rfl, ?_⟩
    refine mx_aload_n dX8_does_92 rfl rfl ?_
    refine mx_aload_n dX8_does_93 rfl rfl ?_
    refine mx_get 8 69 (ref := "PrairiePoolModel") cl_8 (Nat.le_of_ble_eq_true rfl) (Or.inl q1696) (Or.inl rfl) dX8_does_94 (fv_8_69 _ _) (ly8_k La0_h) ?_
    refine mx_tr (ly8_R_0_69 La0_h) ?_
    refine mx_iload dX8_does_97 rfl ?_
    obtain ⟨k13, H⟩ := H
    refine my_lald dX8_does_99 rfl (ly8_A_46 La0_h k13) ?_
    refine mx_aload_n dX8_does_100 rfl rfl ?_
    refine mx_get 8 71 (ref := "PrairiePoolModel") cl_8 (Nat.le_of_ble_eq_true rfl) (Or.inl q1698) (Or.inl rfl) dX8_does_101 (fv_8_71 _ _) (ly8_k La0_h) ?_
    refine mx_tr (ly8_R_0_71 La0_h) ?_
    refine mx_iload dX8_does_104 rfl ?_
    refine my_zald dX8_does_106 rfl (ly8_A_48 La0_h k13) ?_
    refine mx_callV 8 (y' := mi_X8_push) (vs := [jv (ah_J h (a0 + 46) (x1 - x1 / (1048576 : Int32) * (1048576 : Int32)).toNatClampNeg), iv (ah_I h (a0 + 48) (x1 - x1 / (1048576 : Int32) * (1048576 : Int32)).toNatClampNeg)]) (st := []) (al' := [some (rv a0), some (jv (ah_J h (a0 + 46) (x1 - x1 / (1048576 : Int32) * (1048576 : Int32)).toNatClampNeg)), none, some (iv (ah_I h (a0 + 48) (x1 - x1 / (1048576 : Int32) * (1048576 : Int32)).toNatClampNeg))]) cl_8 V_X8_push (Or.inl q2097) dX8_does_107 rfl rfl (Nat.le_of_ble_eq_true rfl) (Nat.le_of_ble_eq_true rfl) (ly8_k La0_h) ?_
    refine mx_aload_n dX8_push_0 rfl rfl ?_
    refine mx_get 8 67 (ref := "PrairiePoolModel") cl_8 (Nat.le_of_ble_eq_true rfl) (Or.inl q1694) (Or.inl rfl) dX8_push_1 (fv_8_67 _ _) (ly8_k La0_h) ?_
    refine mx_tr (ly8_R_0_67 La0_h) ?_
    refine mx_aload_n dX8_push_4 rfl rfl ?_
    refine mx_get 8 72 (ref := "PrairiePoolModel") cl_8 (Nat.le_of_ble_eq_true rfl) (Or.inl q1699) (Or.inl rfl) dX8_push_5 (fv_8_72 _ _) (ly8_k La0_h) ?_
    refine mx_lload_n dX8_push_8 rfl rfl ?_
    obtain ⟨k14, H⟩ := H
    refine my_last dX8_push_9 rfl (ly8_A_44 La0_h k14) ?_
    refine mx_nmJ  (fun h15 eh15 Xh15 Kh15 Lh15 => ?_)
    have H := H h15 eh15 Xh15
    have La0_h15 := La0_h.ext Xh15
    refine mx_aload_n dX8_push_10 rfl rfl ?_
    refine mx_get 8 70 (ref := "PrairiePoolModel") cl_8 (Nat.le_of_ble_eq_true rfl) (Or.inl q1697) (Or.inl rfl) dX8_push_11 (fv_8_70 _ _) (ly8_k La0_h15) ?_
    refine mx_tr (ly8_R_0_70 La0_h15) ?_
    refine mx_aload_n dX8_push_14 rfl rfl ?_
    refine mx_get 8 72 (ref := "PrairiePoolModel") cl_8 (Nat.le_of_ble_eq_true rfl) (Or.inl q1699) (Or.inl rfl) dX8_push_15 (fv_8_72 _ _) (ly8_k La0_h15) ?_
    refine mx_ti (ah_IJ eh15) ?_
    refine mx_iload_n dX8_push_18 rfl rfl ?_
    refine my_zast dX8_push_19 rfl (ly8_A_47 La0_h15 k14) ?_
    refine mx_nmI  (fun h16 eh16 Xh16 Kh16 Lh16 => ?_)
    have H := H h16 eh16 Xh16
    have Kh16 := Kh16.trans Kh15
    have Lh16 := Lh16.trans Lh15
    have La0_h16 := La0_h15.ext Xh16
    refine mx_aload_n dX8_push_20 rfl rfl ?_
    refine mx_dup_r dX8_push_21 ?_
    refine mx_get 8 72 (ref := "PrairiePoolModel") cl_8 (Nat.le_of_ble_eq_true rfl) (Or.inl q1699) (Or.inl rfl) dX8_push_22 (fv_8_72 _ _) (ly8_k La0_h16) ?_
    refine mx_ti ((ah_skIA eh16 (by omega)).trans (ah_IJ eh15)) ?_
    refine mx_iconst dX8_push_25 ic_1 ?_
    refine mx_iadd dX8_push_26 ?_
    refine mx_putI 8 72 (ref := "PrairiePoolModel") cl_8 (Nat.le_of_ble_eq_true rfl) (Or.inl q1699) (Or.inl rfl) dX8_push_27 (Or.inl rfl) rfl (ly8_k La0_h16) ?_
    refine mx_nmI  (fun h17 eh17 Xh17 Kh17 Lh17 => ?_)
    have H := H h17 eh17 Xh17
    have Kh17 := Kh17.trans Kh16
    have Lh17 := Lh17.trans Lh16
    have La0_h17 := La0_h16.ext Xh17
    refine mx_vretK rfl dX8_push_30 ?_
    refine mx_iload_n dX8_does_110 rfl rfl ?_
    refine mx_iconst dX8_does_111 ic_1 ?_
    refine mx_iadd dX8_does_112 ?_
    exact mx_iret rfl dX8_does_113 H
  have H := H.2 c12
  by_cases c18 : (x1 / (1048576 : Int32)) = (15 : Int32)
  · have H := H.1 c18
    refine mx_look dX8_does_14 rfl ⟨103, 117, (by rw [c18]; decide), rfl, ?_⟩
    refine mx_aload_n dX8_does_117 rfl rfl ?_
    refine mx_dup_r dX8_does_118 ?_
    refine mx_get 8 72 (ref := "PrairiePoolModel") cl_8 (Nat.le_of_ble_eq_true rfl) (Or.inl q1699) (Or.inl rfl) dX8_does_119 (fv_8_72 _ _) (ly8_k La0_h) ?_
    refine mx_iconst dX8_does_122 ic_1 ?_
    refine mx_isub dX8_does_123 ?_
    refine mx_putI 8 72 (ref := "PrairiePoolModel") cl_8 (Nat.le_of_ble_eq_true rfl) (Or.inl q1699) (Or.inl rfl) dX8_does_124 (Or.inl rfl) rfl (ly8_k La0_h) ?_
    refine mx_nmI  (fun h19 eh19 Xh19 Kh19 Lh19 => ?_)
    have H := H h19 eh19 Xh19
    have La0_h19 := La0_h.ext Xh19
    refine mx_aload_n dX8_does_127 rfl rfl ?_
    refine mx_get 8 67 (ref := "PrairiePoolModel") cl_8 (Nat.le_of_ble_eq_true rfl) (Or.inl q1694) (Or.inl rfl) dX8_does_128 (fv_8_67 _ _) (ly8_k La0_h19) ?_
    refine mx_tr (ly8_R_0_67 La0_h19) ?_
    refine mx_aload_n dX8_does_131 rfl rfl ?_
    refine mx_get 8 72 (ref := "PrairiePoolModel") cl_8 (Nat.le_of_ble_eq_true rfl) (Or.inl q1699) (Or.inl rfl) dX8_does_132 (fv_8_72 _ _) (ly8_k La0_h19) ?_
    refine mx_ti (ah_hitI eh19) ?_
    obtain ⟨k20, H⟩ := H
    refine my_lald dX8_does_135 rfl (ly8_A_44 La0_h19 k20) ?_
    refine mx_tj (ah_JI eh19) ?_
    refine mx_lconst dX8_does_136 lc_1 ?_
    refine mx_lif_ne (tgt := 147) dX8_does_137 dX8_does_138 rfl (fun c21 => ?_) (fun c21 => ?_)
    · have H := H.1 c21
      refine mx_iload dX8_does_147 rfl ?_
      exact mx_iret rfl dX8_does_149 H
    · have H := H.2 c21
      refine mx_iload_n dX8_does_141 rfl rfl ?_
      refine mx_iconst dX8_does_142 ic_1 ?_
      refine mx_iadd dX8_does_143 ?_
      refine mx_goto (tgt := 149) dX8_does_144 rfl ?_
      exact mx_iret rfl dX8_does_149 H
  have H := H.2 c18
  by_cases c22 : (x1 / (1048576 : Int32)) = (16 : Int32)
  · have H := H.1 c22
    refine mx_look dX8_does_14 rfl ⟨100, 114, (by rw [c22]; decide), rfl, ?_⟩
    refine mx_iload dX8_does_114 rfl ?_
    exact mx_iret rfl dX8_does_116 H
  have H := H.2 c22
  refine mx_look dX8_does_14 rfl ⟨136, 150, (by show Op.lookupswitch.offset [(0, 50), (1, 62), (2, 78), (15, 103), (16, 100)] (136) _ = _; rw [lv_osw (a := 0) c1 (by decide), lv_osw (a := 1) c6 (by decide), lv_osw (a := 2) c12 (by decide), lv_osw (a := 15) c18 (by decide), lv_osw (a := 16) c22 (by decide)]; rfl), rfl, ?_⟩
  refine mx_aload_n dX8_does_150 rfl rfl ?_
  refine mx_iload_n dX8_does_151 rfl rfl ?_
  refine mx_iload dX8_does_152 rfl ?_
  refine mx_callV 8 (y' := mi_X8_both) (vs := [iv (x1 / (1048576 : Int32)), iv (x1 - x1 / (1048576 : Int32) * (1048576 : Int32))]) (st := []) (al' := [some (rv a0), some (iv (x1 / (1048576 : Int32))), some (iv (x1 - x1 / (1048576 : Int32) * (1048576 : Int32))), none, none, none, none, none, none]) cl_8 V_X8_both (Or.inl q2101) dX8_does_154 rfl rfl (Nat.le_of_ble_eq_true rfl) (Nat.le_of_ble_eq_true rfl) (ly8_k La0_h) ?_
  refine ma_kv H (fun h23 Xh23 H => ?_) (fun x1 h1 X1 H => mt_out rfl H)
  have H := H Xh23
  have La0_h23 := La0_h.ext Xh23
  refine mx_iload_n dX8_does_157 rfl rfl ?_
  refine mx_iconst dX8_does_158 ic_1 ?_
  refine mx_iadd dX8_does_159 ?_
  exact mx_iret rfl dX8_does_160 H
theorem v_X8_push {G : ma_G} {d : Nat} {a0 : Nat} {x1 : Int64} {x3 : Int32} {h : ah_T} {Q : Option ma_V → ah_T → Prop} {E : Nat → ah_T → Prop} (La0_h : LY8 h a0) (H : vp_in (ah_I h a0 72) 600 ∧ ∀ h2 : ah_T, h2 = ah_wJ h (a0 + 44) (ah_I h a0 72).toNatClampNeg x1 → ah_ext h h2 → ∀ h3 : ah_T, h3 = ah_wI h2 (a0 + 47) (ah_I h a0 72).toNatClampNeg (vp_nar .boolean x3) → ah_ext h2 h3 → ∀ h4 : ah_T, h4 = ah_wI h3 a0 72 ((ah_I h a0 72) + (1 : Int32)) → ah_ext h3 h4 → Q none h4) : MX G mi_X8_push d 0 [some (rv a0), some (jv x1), none, some (iv x3)] [] h Q E := by
  refine mx_aload_n dX8_push_0 rfl rfl ?_
  refine mx_get 8 67 (ref := "PrairiePoolModel") cl_8 (Nat.le_of_ble_eq_true rfl) (Or.inl q1694) (Or.inl rfl) dX8_push_1 (fv_8_67 _ _) (ly8_k La0_h) ?_
  refine mx_tr (ly8_R_0_67 La0_h) ?_
  refine mx_aload_n dX8_push_4 rfl rfl ?_
  refine mx_get 8 72 (ref := "PrairiePoolModel") cl_8 (Nat.le_of_ble_eq_true rfl) (Or.inl q1699) (Or.inl rfl) dX8_push_5 (fv_8_72 _ _) (ly8_k La0_h) ?_
  refine mx_lload_n dX8_push_8 rfl rfl ?_
  obtain ⟨k1, H⟩ := H
  refine my_last dX8_push_9 rfl (ly8_A_44 La0_h k1) ?_
  refine mx_nmJ  (fun h2 eh2 Xh2 Kh2 Lh2 => ?_)
  have H := H h2 eh2 Xh2
  have La0_h2 := La0_h.ext Xh2
  refine mx_aload_n dX8_push_10 rfl rfl ?_
  refine mx_get 8 70 (ref := "PrairiePoolModel") cl_8 (Nat.le_of_ble_eq_true rfl) (Or.inl q1697) (Or.inl rfl) dX8_push_11 (fv_8_70 _ _) (ly8_k La0_h2) ?_
  refine mx_tr (ly8_R_0_70 La0_h2) ?_
  refine mx_aload_n dX8_push_14 rfl rfl ?_
  refine mx_get 8 72 (ref := "PrairiePoolModel") cl_8 (Nat.le_of_ble_eq_true rfl) (Or.inl q1699) (Or.inl rfl) dX8_push_15 (fv_8_72 _ _) (ly8_k La0_h2) ?_
  refine mx_ti (ah_IJ eh2) ?_
  refine mx_iload_n dX8_push_18 rfl rfl ?_
  refine my_zast dX8_push_19 rfl (ly8_A_47 La0_h2 k1) ?_
  refine mx_nmI  (fun h3 eh3 Xh3 Kh3 Lh3 => ?_)
  have H := H h3 eh3 Xh3
  have Kh3 := Kh3.trans Kh2
  have Lh3 := Lh3.trans Lh2
  have La0_h3 := La0_h2.ext Xh3
  refine mx_aload_n dX8_push_20 rfl rfl ?_
  refine mx_dup_r dX8_push_21 ?_
  refine mx_get 8 72 (ref := "PrairiePoolModel") cl_8 (Nat.le_of_ble_eq_true rfl) (Or.inl q1699) (Or.inl rfl) dX8_push_22 (fv_8_72 _ _) (ly8_k La0_h3) ?_
  refine mx_ti ((ah_skIA eh3 (by omega)).trans (ah_IJ eh2)) ?_
  refine mx_iconst dX8_push_25 ic_1 ?_
  refine mx_iadd dX8_push_26 ?_
  refine mx_putI 8 72 (ref := "PrairiePoolModel") cl_8 (Nat.le_of_ble_eq_true rfl) (Or.inl q1699) (Or.inl rfl) dX8_push_27 (Or.inl rfl) rfl (ly8_k La0_h3) ?_
  refine mx_nmI  (fun h4 eh4 Xh4 Kh4 Lh4 => ?_)
  have H := H h4 eh4 Xh4
  have Kh4 := Kh4.trans Kh3
  have Lh4 := Lh4.trans Lh3
  have La0_h4 := La0_h3.ext Xh4
  exact mx_vret rfl dX8_push_30 H
theorem dX8_both_0 : decode mi_X8_both.2.1 0 = .ok (.aload_n 0, 1) := by decide +kernel
theorem dX8_both_1 : decode mi_X8_both.2.1 1 = .ok (.dup, 1) := by decide +kernel
theorem dX8_both_2 : decode mi_X8_both.2.1 2 = .ok (.getfield 578, 3) := by decide +kernel
theorem dX8_both_5 : decode mi_X8_both.2.1 5 = .ok (.iconst 2, 1) := by decide +kernel
theorem dX8_both_6 : decode mi_X8_both.2.1 6 = .ok (.isub, 1) := by decide +kernel
theorem dX8_both_7 : decode mi_X8_both.2.1 7 = .ok (.putfield 578, 3) := by decide +kernel
theorem dX8_both_10 : decode mi_X8_both.2.1 10 = .ok (.aload_n 0, 1) := by decide +kernel
theorem dX8_both_11 : decode mi_X8_both.2.1 11 = .ok (.getfield 148, 3) := by decide +kernel
theorem dX8_both_14 : decode mi_X8_both.2.1 14 = .ok (.aload_n 0, 1) := by decide +kernel
theorem dX8_both_15 : decode mi_X8_both.2.1 15 = .ok (.getfield 578, 3) := by decide +kernel
theorem dX8_both_18 : decode mi_X8_both.2.1 18 = .ok (.laload, 1) := by decide +kernel
theorem dX8_both_19 : decode mi_X8_both.2.1 19 = .ok (.lstore_n 3, 1) := by decide +kernel
theorem dX8_both_20 : decode mi_X8_both.2.1 20 = .ok (.aload_n 0, 1) := by decide +kernel
theorem dX8_both_21 : decode mi_X8_both.2.1 21 = .ok (.getfield 148, 3) := by decide +kernel
theorem dX8_both_24 : decode mi_X8_both.2.1 24 = .ok (.aload_n 0, 1) := by decide +kernel
theorem dX8_both_25 : decode mi_X8_both.2.1 25 = .ok (.getfield 578, 3) := by decide +kernel
theorem dX8_both_28 : decode mi_X8_both.2.1 28 = .ok (.iconst 1, 1) := by decide +kernel
theorem dX8_both_29 : decode mi_X8_both.2.1 29 = .ok (.iadd, 1) := by decide +kernel
theorem dX8_both_30 : decode mi_X8_both.2.1 30 = .ok (.laload, 1) := by decide +kernel
theorem dX8_both_31 : decode mi_X8_both.2.1 31 = .ok (.lstore 5, 2) := by decide +kernel
theorem dX8_both_33 : decode mi_X8_both.2.1 33 = .ok (.aload_n 0, 1) := by decide +kernel
theorem dX8_both_34 : decode mi_X8_both.2.1 34 = .ok (.getfield 157, 3) := by decide +kernel
theorem dX8_both_37 : decode mi_X8_both.2.1 37 = .ok (.aload_n 0, 1) := by decide +kernel
theorem dX8_both_38 : decode mi_X8_both.2.1 38 = .ok (.getfield 578, 3) := by decide +kernel
theorem dX8_both_41 : decode mi_X8_both.2.1 41 = .ok (.baload, 1) := by decide +kernel
theorem dX8_both_42 : decode mi_X8_both.2.1 42 = .ok (.ifCond .ne 17, 3) := by decide +kernel
theorem dX8_both_45 : decode mi_X8_both.2.1 45 = .ok (.aload_n 0, 1) := by decide +kernel
theorem dX8_both_46 : decode mi_X8_both.2.1 46 = .ok (.getfield 157, 3) := by decide +kernel
theorem dX8_both_49 : decode mi_X8_both.2.1 49 = .ok (.aload_n 0, 1) := by decide +kernel
theorem dX8_both_50 : decode mi_X8_both.2.1 50 = .ok (.getfield 578, 3) := by decide +kernel
theorem dX8_both_53 : decode mi_X8_both.2.1 53 = .ok (.iconst 1, 1) := by decide +kernel
theorem dX8_both_54 : decode mi_X8_both.2.1 54 = .ok (.iadd, 1) := by decide +kernel
theorem dX8_both_55 : decode mi_X8_both.2.1 55 = .ok (.baload, 1) := by decide +kernel
theorem dX8_both_56 : decode mi_X8_both.2.1 56 = .ok (.ifCond .eq 7, 3) := by decide +kernel
theorem dX8_both_59 : decode mi_X8_both.2.1 59 = .ok (.iconst 1, 1) := by decide +kernel
theorem dX8_both_60 : decode mi_X8_both.2.1 60 = .ok (.goto 4, 3) := by decide +kernel
theorem dX8_both_63 : decode mi_X8_both.2.1 63 = .ok (.iconst 0, 1) := by decide +kernel
theorem dX8_both_64 : decode mi_X8_both.2.1 64 = .ok (.istore 7, 2) := by decide +kernel
theorem dX8_both_66 : decode mi_X8_both.2.1 66 = .ok (.iload_n 1, 1) := by decide +kernel
theorem dX8_both_67 : decode mi_X8_both.2.1 67 = .ok (.bipush 13, 2) := by decide +kernel
theorem dX8_both_69 : decode mi_X8_both.2.1 69 = .ok (.if_icmp .eq 9, 3) := by decide +kernel
theorem dX8_both_72 : decode mi_X8_both.2.1 72 = .ok (.iload_n 1, 1) := by decide +kernel
theorem dX8_both_73 : decode mi_X8_both.2.1 73 = .ok (.bipush 14, 2) := by decide +kernel
theorem dX8_both_75 : decode mi_X8_both.2.1 75 = .ok (.if_icmp .ne 26, 3) := by decide +kernel
theorem dX8_both_78 : decode mi_X8_both.2.1 78 = .ok (.aload_n 0, 1) := by decide +kernel
theorem dX8_both_79 : decode mi_X8_both.2.1 79 = .ok (.iload_n 1, 1) := by decide +kernel
theorem dX8_both_80 : decode mi_X8_both.2.1 80 = .ok (.bipush 13, 2) := by decide +kernel
theorem dX8_both_82 : decode mi_X8_both.2.1 82 = .ok (.if_icmp .ne 10, 3) := by decide +kernel
theorem dX8_both_85 : decode mi_X8_both.2.1 85 = .ok (.lload_n 3, 1) := by decide +kernel
theorem dX8_both_86 : decode mi_X8_both.2.1 86 = .ok (.lload 5, 2) := by decide +kernel
theorem dX8_both_88 : decode mi_X8_both.2.1 88 = .ok (.land, 1) := by decide +kernel
theorem dX8_both_89 : decode mi_X8_both.2.1 89 = .ok (.goto 7, 3) := by decide +kernel
theorem dX8_both_92 : decode mi_X8_both.2.1 92 = .ok (.lload_n 3, 1) := by decide +kernel
theorem dX8_both_93 : decode mi_X8_both.2.1 93 = .ok (.lload 5, 2) := by decide +kernel
theorem dX8_both_95 : decode mi_X8_both.2.1 95 = .ok (.lor, 1) := by decide +kernel
theorem dX8_both_96 : decode mi_X8_both.2.1 96 = .ok (.iconst 0, 1) := by decide +kernel
theorem dX8_both_97 : decode mi_X8_both.2.1 97 = .ok (.invokevirtual 584, 3) := by decide +kernel
theorem dX8_both_100 : decode mi_X8_both.2.1 100 = .ok (.return_, 1) := by decide +kernel
theorem dX8_both_101 : decode mi_X8_both.2.1 101 = .ok (.iload_n 1, 1) := by decide +kernel
theorem dX8_both_102 : decode mi_X8_both.2.1 102 = .ok (.bipush 10, 2) := by decide +kernel
theorem dX8_both_104 : decode mi_X8_both.2.1 104 = .ok (.if_icmp .lt 90, 3) := by decide +kernel
theorem dX8_both_107 : decode mi_X8_both.2.1 107 = .ok (.iload_n 1, 1) := by decide +kernel
theorem dX8_both_108 : decode mi_X8_both.2.1 108 = .ok (.bipush 10, 2) := by decide +kernel
theorem dX8_both_110 : decode mi_X8_both.2.1 110 = .ok (.if_icmp .ne 18, 3) := by decide +kernel
theorem dX8_both_113 : decode mi_X8_both.2.1 113 = .ok (.lload_n 3, 1) := by decide +kernel
theorem dX8_both_114 : decode mi_X8_both.2.1 114 = .ok (.lload 5, 2) := by decide +kernel
theorem dX8_both_116 : decode mi_X8_both.2.1 116 = .ok (.lcmp, 1) := by decide +kernel
theorem dX8_both_117 : decode mi_X8_both.2.1 117 = .ok (.ifCond .ge 7, 3) := by decide +kernel
theorem dX8_both_120 : decode mi_X8_both.2.1 120 = .ok (.iconst 1, 1) := by decide +kernel
theorem dX8_both_121 : decode mi_X8_both.2.1 121 = .ok (.goto 40, 3) := by decide +kernel
theorem dX8_both_124 : decode mi_X8_both.2.1 124 = .ok (.iconst 0, 1) := by decide +kernel
theorem dX8_both_125 : decode mi_X8_both.2.1 125 = .ok (.goto 36, 3) := by decide +kernel
theorem dX8_both_128 : decode mi_X8_both.2.1 128 = .ok (.iload_n 1, 1) := by decide +kernel
theorem dX8_both_129 : decode mi_X8_both.2.1 129 = .ok (.bipush 11, 2) := by decide +kernel
theorem dX8_both_131 : decode mi_X8_both.2.1 131 = .ok (.if_icmp .ne 18, 3) := by decide +kernel
theorem dX8_both_134 : decode mi_X8_both.2.1 134 = .ok (.lload_n 3, 1) := by decide +kernel
theorem dX8_both_135 : decode mi_X8_both.2.1 135 = .ok (.lload 5, 2) := by decide +kernel
theorem dX8_both_137 : decode mi_X8_both.2.1 137 = .ok (.lcmp, 1) := by decide +kernel
theorem dX8_both_138 : decode mi_X8_both.2.1 138 = .ok (.ifCond .le 7, 3) := by decide +kernel
theorem dX8_both_141 : decode mi_X8_both.2.1 141 = .ok (.iconst 1, 1) := by decide +kernel
theorem dX8_both_142 : decode mi_X8_both.2.1 142 = .ok (.goto 19, 3) := by decide +kernel
theorem dX8_both_145 : decode mi_X8_both.2.1 145 = .ok (.iconst 0, 1) := by decide +kernel
theorem dX8_both_146 : decode mi_X8_both.2.1 146 = .ok (.goto 15, 3) := by decide +kernel
theorem dX8_both_149 : decode mi_X8_both.2.1 149 = .ok (.lload_n 3, 1) := by decide +kernel
theorem dX8_both_150 : decode mi_X8_both.2.1 150 = .ok (.lload 5, 2) := by decide +kernel
theorem dX8_both_152 : decode mi_X8_both.2.1 152 = .ok (.lcmp, 1) := by decide +kernel
theorem dX8_both_153 : decode mi_X8_both.2.1 153 = .ok (.ifCond .ne 7, 3) := by decide +kernel
theorem dX8_both_156 : decode mi_X8_both.2.1 156 = .ok (.iconst 1, 1) := by decide +kernel
theorem dX8_both_157 : decode mi_X8_both.2.1 157 = .ok (.goto 4, 3) := by decide +kernel
theorem dX8_both_160 : decode mi_X8_both.2.1 160 = .ok (.iconst 0, 1) := by decide +kernel
theorem dX8_both_161 : decode mi_X8_both.2.1 161 = .ok (.istore 8, 2) := by decide +kernel
theorem dX8_both_163 : decode mi_X8_both.2.1 163 = .ok (.aload_n 0, 1) := by decide +kernel
theorem dX8_both_164 : decode mi_X8_both.2.1 164 = .ok (.iload 7, 2) := by decide +kernel
theorem dX8_both_166 : decode mi_X8_both.2.1 166 = .ok (.ifCond .ne 22, 3) := by decide +kernel
theorem dX8_both_169 : decode mi_X8_both.2.1 169 = .ok (.iload 8, 2) := by decide +kernel
theorem dX8_both_171 : decode mi_X8_both.2.1 171 = .ok (.iload_n 2, 1) := by decide +kernel
theorem dX8_both_172 : decode mi_X8_both.2.1 172 = .ok (.iconst 1, 1) := by decide +kernel
theorem dX8_both_173 : decode mi_X8_both.2.1 173 = .ok (.if_icmp .ne 7, 3) := by decide +kernel
theorem dX8_both_176 : decode mi_X8_both.2.1 176 = .ok (.iconst 1, 1) := by decide +kernel
theorem dX8_both_177 : decode mi_X8_both.2.1 177 = .ok (.goto 4, 3) := by decide +kernel
theorem dX8_both_180 : decode mi_X8_both.2.1 180 = .ok (.iconst 0, 1) := by decide +kernel
theorem dX8_both_181 : decode mi_X8_both.2.1 181 = .ok (.if_icmp .eq 7, 3) := by decide +kernel
theorem dX8_both_184 : decode mi_X8_both.2.1 184 = .ok (.lconst 1, 1) := by decide +kernel
theorem dX8_both_185 : decode mi_X8_both.2.1 185 = .ok (.goto 4, 3) := by decide +kernel
theorem dX8_both_188 : decode mi_X8_both.2.1 188 = .ok (.lconst 0, 1) := by decide +kernel
theorem dX8_both_189 : decode mi_X8_both.2.1 189 = .ok (.iconst 0, 1) := by decide +kernel
theorem dX8_both_190 : decode mi_X8_both.2.1 190 = .ok (.invokevirtual 584, 3) := by decide +kernel
theorem dX8_both_193 : decode mi_X8_both.2.1 193 = .ok (.return_, 1) := by decide +kernel
theorem dX8_both_194 : decode mi_X8_both.2.1 194 = .ok (.iload 7, 2) := by decide +kernel
theorem dX8_both_196 : decode mi_X8_both.2.1 196 = .ok (.ifCond .ne 22, 3) := by decide +kernel
theorem dX8_both_199 : decode mi_X8_both.2.1 199 = .ok (.iload_n 1, 1) := by decide +kernel
theorem dX8_both_200 : decode mi_X8_both.2.1 200 = .ok (.bipush 6, 2) := by decide +kernel
theorem dX8_both_202 : decode mi_X8_both.2.1 202 = .ok (.if_icmp .eq 9, 3) := by decide +kernel
theorem dX8_both_205 : decode mi_X8_both.2.1 205 = .ok (.iload_n 1, 1) := by decide +kernel
theorem dX8_both_206 : decode mi_X8_both.2.1 206 = .ok (.bipush 7, 2) := by decide +kernel
theorem dX8_both_208 : decode mi_X8_both.2.1 208 = .ok (.if_icmp .ne 14, 3) := by decide +kernel
theorem dX8_both_211 : decode mi_X8_both.2.1 211 = .ok (.lload 5, 2) := by decide +kernel
theorem dX8_both_213 : decode mi_X8_both.2.1 213 = .ok (.lconst 0, 1) := by decide +kernel
theorem dX8_both_214 : decode mi_X8_both.2.1 214 = .ok (.lcmp, 1) := by decide +kernel
theorem dX8_both_215 : decode mi_X8_both.2.1 215 = .ok (.ifCond .ne 7, 3) := by decide +kernel
theorem dX8_both_218 : decode mi_X8_both.2.1 218 = .ok (.iconst 1, 1) := by decide +kernel
theorem dX8_both_219 : decode mi_X8_both.2.1 219 = .ok (.goto 4, 3) := by decide +kernel
theorem dX8_both_222 : decode mi_X8_both.2.1 222 = .ok (.iconst 0, 1) := by decide +kernel
theorem dX8_both_223 : decode mi_X8_both.2.1 223 = .ok (.istore 8, 2) := by decide +kernel
theorem dX8_both_225 : decode mi_X8_both.2.1 225 = .ok (.aload_n 0, 1) := by decide +kernel
theorem dX8_both_226 : decode mi_X8_both.2.1 226 = .ok (.iload 8, 2) := by decide +kernel
theorem dX8_both_228 : decode mi_X8_both.2.1 228 = .ok (.ifCond .eq 7, 3) := by decide +kernel
theorem dX8_both_231 : decode mi_X8_both.2.1 231 = .ok (.lconst 0, 1) := by decide +kernel
theorem dX8_both_232 : decode mi_X8_both.2.1 232 = .ok (.goto 86, 3) := by decide +kernel
theorem dX8_both_235 : decode mi_X8_both.2.1 235 = .ok (.iload_n 1, 1) := by decide +kernel
theorem dX8_both_236 : decode mi_X8_both.2.1 236 = .ok (.iconst 3, 1) := by decide +kernel
theorem dX8_both_237 : decode mi_X8_both.2.1 237 = .ok (.if_icmp .ne 10, 3) := by decide +kernel
theorem dX8_both_240 : decode mi_X8_both.2.1 240 = .ok (.lload_n 3, 1) := by decide +kernel
theorem dX8_both_241 : decode mi_X8_both.2.1 241 = .ok (.lload 5, 2) := by decide +kernel
theorem dX8_both_243 : decode mi_X8_both.2.1 243 = .ok (.ladd, 1) := by decide +kernel
theorem dX8_both_244 : decode mi_X8_both.2.1 244 = .ok (.goto 74, 3) := by decide +kernel
theorem dX8_both_247 : decode mi_X8_both.2.1 247 = .ok (.iload_n 1, 1) := by decide +kernel
theorem dX8_both_248 : decode mi_X8_both.2.1 248 = .ok (.iconst 4, 1) := by decide +kernel
theorem dX8_both_249 : decode mi_X8_both.2.1 249 = .ok (.if_icmp .ne 10, 3) := by decide +kernel
theorem dX8_both_252 : decode mi_X8_both.2.1 252 = .ok (.lload_n 3, 1) := by decide +kernel
theorem dX8_both_253 : decode mi_X8_both.2.1 253 = .ok (.lload 5, 2) := by decide +kernel
theorem dX8_both_255 : decode mi_X8_both.2.1 255 = .ok (.lsub, 1) := by decide +kernel
theorem dX8_both_256 : decode mi_X8_both.2.1 256 = .ok (.goto 62, 3) := by decide +kernel
theorem dX8_both_259 : decode mi_X8_both.2.1 259 = .ok (.iload_n 1, 1) := by decide +kernel
theorem dX8_both_260 : decode mi_X8_both.2.1 260 = .ok (.iconst 5, 1) := by decide +kernel
theorem dX8_both_261 : decode mi_X8_both.2.1 261 = .ok (.if_icmp .ne 10, 3) := by decide +kernel
theorem dX8_both_264 : decode mi_X8_both.2.1 264 = .ok (.lload_n 3, 1) := by decide +kernel
theorem dX8_both_265 : decode mi_X8_both.2.1 265 = .ok (.lload 5, 2) := by decide +kernel
theorem dX8_both_267 : decode mi_X8_both.2.1 267 = .ok (.lmul, 1) := by decide +kernel
theorem dX8_both_268 : decode mi_X8_both.2.1 268 = .ok (.goto 50, 3) := by decide +kernel
theorem dX8_both_271 : decode mi_X8_both.2.1 271 = .ok (.iload_n 1, 1) := by decide +kernel
theorem dX8_both_272 : decode mi_X8_both.2.1 272 = .ok (.bipush 6, 2) := by decide +kernel
theorem dX8_both_274 : decode mi_X8_both.2.1 274 = .ok (.if_icmp .ne 10, 3) := by decide +kernel
theorem dX8_both_277 : decode mi_X8_both.2.1 277 = .ok (.lload_n 3, 1) := by decide +kernel
theorem dX8_both_278 : decode mi_X8_both.2.1 278 = .ok (.lload 5, 2) := by decide +kernel
theorem dX8_both_280 : decode mi_X8_both.2.1 280 = .ok (.ldiv, 1) := by decide +kernel
theorem dX8_both_281 : decode mi_X8_both.2.1 281 = .ok (.goto 37, 3) := by decide +kernel
theorem dX8_both_284 : decode mi_X8_both.2.1 284 = .ok (.iload_n 1, 1) := by decide +kernel
theorem dX8_both_285 : decode mi_X8_both.2.1 285 = .ok (.bipush 7, 2) := by decide +kernel
theorem dX8_both_287 : decode mi_X8_both.2.1 287 = .ok (.if_icmp .ne 10, 3) := by decide +kernel
theorem dX8_both_290 : decode mi_X8_both.2.1 290 = .ok (.lload_n 3, 1) := by decide +kernel
theorem dX8_both_291 : decode mi_X8_both.2.1 291 = .ok (.lload 5, 2) := by decide +kernel
theorem dX8_both_293 : decode mi_X8_both.2.1 293 = .ok (.lrem, 1) := by decide +kernel
theorem dX8_both_294 : decode mi_X8_both.2.1 294 = .ok (.goto 24, 3) := by decide +kernel
theorem dX8_both_297 : decode mi_X8_both.2.1 297 = .ok (.iload_n 1, 1) := by decide +kernel
theorem dX8_both_298 : decode mi_X8_both.2.1 298 = .ok (.bipush 8, 2) := by decide +kernel
theorem dX8_both_300 : decode mi_X8_both.2.1 300 = .ok (.if_icmp .ne 12, 3) := by decide +kernel
theorem dX8_both_303 : decode mi_X8_both.2.1 303 = .ok (.lload_n 3, 1) := by decide +kernel
theorem dX8_both_304 : decode mi_X8_both.2.1 304 = .ok (.lload 5, 2) := by decide +kernel
theorem dX8_both_306 : decode mi_X8_both.2.1 306 = .ok (.invokestatic 591, 3) := by decide +kernel
theorem dX8_both_309 : decode mi_X8_both.2.1 309 = .ok (.goto 9, 3) := by decide +kernel
theorem dX8_both_312 : decode mi_X8_both.2.1 312 = .ok (.lload_n 3, 1) := by decide +kernel
theorem dX8_both_313 : decode mi_X8_both.2.1 313 = .ok (.lload 5, 2) := by decide +kernel
theorem dX8_both_315 : decode mi_X8_both.2.1 315 = .ok (.invokestatic 594, 3) := by decide +kernel
theorem dX8_both_318 : decode mi_X8_both.2.1 318 = .ok (.iload 8, 2) := by decide +kernel
theorem dX8_both_320 : decode mi_X8_both.2.1 320 = .ok (.invokevirtual 584, 3) := by decide +kernel
theorem dX8_both_323 : decode mi_X8_both.2.1 323 = .ok (.return_, 1) := by decide +kernel
theorem v_X8_both {G : ma_G} {d : Nat} {a0 : Nat} {x1 : Int32} {x2 : Int32} {h : ah_T} {Q : Option ma_V → ah_T → Prop} {E : Nat → ah_T → Prop} (La0_h : LY8 h a0) (H : ∀ h1 : ah_T, h1 = ah_wI h a0 72 ((ah_I h a0 72) - (2 : Int32)) → ah_ext h h1 → vp_in ((ah_I h a0 72) - (2 : Int32)) 600 ∧ vp_in (((ah_I h a0 72) - (2 : Int32)) + (1 : Int32)) 600 ∧ (¬ (ah_I h (a0 + 47) ((ah_I h a0 72) - (2 : Int32)).toNatClampNeg) = 0 → MX G mi_X8_both (d + 1) 64 [some (rv a0), some (iv x1), some (iv x2), some (jv (ah_J h (a0 + 44) ((ah_I h a0 72) - (2 : Int32)).toNatClampNeg)), none, some (jv (ah_J h (a0 + 44) (((ah_I h a0 72) - (2 : Int32)) + (1 : Int32)).toNatClampNeg)), none, none, none] [iv (1 : Int32)] h1 Q E) ∧ ((ah_I h (a0 + 47) ((ah_I h a0 72) - (2 : Int32)).toNatClampNeg) = 0 → ((ah_I h (a0 + 47) (((ah_I h a0 72) - (2 : Int32)) + (1 : Int32)).toNatClampNeg) = 0 → MX G mi_X8_both (d + 1) 64 [some (rv a0), some (iv x1), some (iv x2), some (jv (ah_J h (a0 + 44) ((ah_I h a0 72) - (2 : Int32)).toNatClampNeg)), none, some (jv (ah_J h (a0 + 44) (((ah_I h a0 72) - (2 : Int32)) + (1 : Int32)).toNatClampNeg)), none, none, none] [iv (0 : Int32)] h1 Q E) ∧ (¬ (ah_I h (a0 + 47) (((ah_I h a0 72) - (2 : Int32)) + (1 : Int32)).toNatClampNeg) = 0 → MX G mi_X8_both (d + 1) 64 [some (rv a0), some (iv x1), some (iv x2), some (jv (ah_J h (a0 + 44) ((ah_I h a0 72) - (2 : Int32)).toNatClampNeg)), none, some (jv (ah_J h (a0 + 44) (((ah_I h a0 72) - (2 : Int32)) + (1 : Int32)).toNatClampNeg)), none, none, none] [iv (1 : Int32)] h1 Q E))) : MX G mi_X8_both (d + 1) 0 [some (rv a0), some (iv x1), some (iv x2), none, none, none, none, none, none] [] h Q E := by
  refine mx_aload_n dX8_both_0 rfl rfl ?_
  refine mx_dup_r dX8_both_1 ?_
  refine mx_get 8 72 (ref := "PrairiePoolModel") cl_8 (Nat.le_of_ble_eq_true rfl) (Or.inl q1699) (Or.inl rfl) dX8_both_2 (fv_8_72 _ _) (ly8_k La0_h) ?_
  refine mx_iconst dX8_both_5 ic_2 ?_
  refine mx_isub dX8_both_6 ?_
  refine mx_putI 8 72 (ref := "PrairiePoolModel") cl_8 (Nat.le_of_ble_eq_true rfl) (Or.inl q1699) (Or.inl rfl) dX8_both_7 (Or.inl rfl) rfl (ly8_k La0_h) ?_
  refine mx_nmI  (fun h1 eh1 Xh1 Kh1 Lh1 => ?_)
  have H := H h1 eh1 Xh1
  have La0_h1 := La0_h.ext Xh1
  refine mx_aload_n dX8_both_10 rfl rfl ?_
  refine mx_get 8 67 (ref := "PrairiePoolModel") cl_8 (Nat.le_of_ble_eq_true rfl) (Or.inl q1694) (Or.inl rfl) dX8_both_11 (fv_8_67 _ _) (ly8_k La0_h1) ?_
  refine mx_tr (ly8_R_0_67 La0_h1) ?_
  refine mx_aload_n dX8_both_14 rfl rfl ?_
  refine mx_get 8 72 (ref := "PrairiePoolModel") cl_8 (Nat.le_of_ble_eq_true rfl) (Or.inl q1699) (Or.inl rfl) dX8_both_15 (fv_8_72 _ _) (ly8_k La0_h1) ?_
  refine mx_ti (ah_hitI eh1) ?_
  obtain ⟨k2, H⟩ := H
  refine my_lald dX8_both_18 rfl (ly8_A_44 La0_h1 k2) ?_
  refine mx_tj (ah_JI eh1) ?_
  refine mx_lstore_n (al' := [some (rv a0), some (iv x1), some (iv x2), some (jv (ah_J h (a0 + 44) ((ah_I h a0 72) - (2 : Int32)).toNatClampNeg)), none, none, none, none, none]) dX8_both_19 rfl (Nat.le_of_ble_eq_true rfl) rfl ?_
  refine mx_aload_n dX8_both_20 rfl rfl ?_
  refine mx_get 8 67 (ref := "PrairiePoolModel") cl_8 (Nat.le_of_ble_eq_true rfl) (Or.inl q1694) (Or.inl rfl) dX8_both_21 (fv_8_67 _ _) (ly8_k La0_h1) ?_
  refine mx_tr (ly8_R_0_67 La0_h1) ?_
  refine mx_aload_n dX8_both_24 rfl rfl ?_
  refine mx_get 8 72 (ref := "PrairiePoolModel") cl_8 (Nat.le_of_ble_eq_true rfl) (Or.inl q1699) (Or.inl rfl) dX8_both_25 (fv_8_72 _ _) (ly8_k La0_h1) ?_
  refine mx_ti (ah_hitI eh1) ?_
  refine mx_iconst dX8_both_28 ic_1 ?_
  refine mx_iadd dX8_both_29 ?_
  obtain ⟨k3, H⟩ := H
  refine my_lald dX8_both_30 rfl (ly8_A_44 La0_h1 k3) ?_
  refine mx_tj (ah_JI eh1) ?_
  refine mx_lstore (al' := [some (rv a0), some (iv x1), some (iv x2), some (jv (ah_J h (a0 + 44) ((ah_I h a0 72) - (2 : Int32)).toNatClampNeg)), none, some (jv (ah_J h (a0 + 44) (((ah_I h a0 72) - (2 : Int32)) + (1 : Int32)).toNatClampNeg)), none, none, none]) dX8_both_31 (Nat.le_of_ble_eq_true rfl) rfl ?_
  refine mx_aload_n dX8_both_33 rfl rfl ?_
  refine mx_get 8 70 (ref := "PrairiePoolModel") cl_8 (Nat.le_of_ble_eq_true rfl) (Or.inl q1697) (Or.inl rfl) dX8_both_34 (fv_8_70 _ _) (ly8_k La0_h1) ?_
  refine mx_tr (ly8_R_0_70 La0_h1) ?_
  refine mx_aload_n dX8_both_37 rfl rfl ?_
  refine mx_get 8 72 (ref := "PrairiePoolModel") cl_8 (Nat.le_of_ble_eq_true rfl) (Or.inl q1699) (Or.inl rfl) dX8_both_38 (fv_8_72 _ _) (ly8_k La0_h1) ?_
  refine mx_ti (ah_hitI eh1) ?_
  refine my_zald dX8_both_41 rfl (ly8_A_47 La0_h1 k2) ?_
  refine mx_ti (ah_skIA eh1 (by omega)) ?_
  refine mx_if_ne (tgt := 59) dX8_both_42 rfl (fun c4 => ?_) (fun c4 => ?_)
  · have H := H.1 c4
    refine mx_iconst dX8_both_59 ic_1 ?_
    refine mx_goto (tgt := 64) dX8_both_60 rfl ?_
    exact mx_weak (al' := [some (rv a0), some (iv x1), some (iv x2), some (jv (ah_J h (a0 + 44) ((ah_I h a0 72) - (2 : Int32)).toNatClampNeg)), none, some (jv (ah_J h (a0 + 44) (((ah_I h a0 72) - (2 : Int32)) + (1 : Int32)).toNatClampNeg)), none, none, none]) ⟨rfl, ⟨rfl, ⟨rfl, ⟨rfl, ⟨rfl, trivial⟩⟩⟩⟩⟩ H
  · have H := H.2 c4
    refine mx_aload_n dX8_both_45 rfl rfl ?_
    refine mx_get 8 70 (ref := "PrairiePoolModel") cl_8 (Nat.le_of_ble_eq_true rfl) (Or.inl q1697) (Or.inl rfl) dX8_both_46 (fv_8_70 _ _) (ly8_k La0_h1) ?_
    refine mx_tr (ly8_R_0_70 La0_h1) ?_
    refine mx_aload_n dX8_both_49 rfl rfl ?_
    refine mx_get 8 72 (ref := "PrairiePoolModel") cl_8 (Nat.le_of_ble_eq_true rfl) (Or.inl q1699) (Or.inl rfl) dX8_both_50 (fv_8_72 _ _) (ly8_k La0_h1) ?_
    refine mx_ti (ah_hitI eh1) ?_
    refine mx_iconst dX8_both_53 ic_1 ?_
    refine mx_iadd dX8_both_54 ?_
    refine my_zald dX8_both_55 rfl (ly8_A_47 La0_h1 k3) ?_
    refine mx_ti (ah_skIA eh1 (by omega)) ?_
    refine mx_if_eq (tgt := 63) dX8_both_56 rfl (fun c5 => ?_) (fun c5 => ?_)
    · have H := H.1 c5
      refine mx_iconst dX8_both_63 ic_0 ?_
      exact mx_weak (al' := [some (rv a0), some (iv x1), some (iv x2), some (jv (ah_J h (a0 + 44) ((ah_I h a0 72) - (2 : Int32)).toNatClampNeg)), none, some (jv (ah_J h (a0 + 44) (((ah_I h a0 72) - (2 : Int32)) + (1 : Int32)).toNatClampNeg)), none, none, none]) ⟨rfl, ⟨rfl, ⟨rfl, ⟨rfl, ⟨rfl, trivial⟩⟩⟩⟩⟩ H
    · have H := H.2 c5
      refine mx_iconst dX8_both_59 ic_1 ?_
      refine mx_goto (tgt := 64) dX8_both_60 rfl ?_
      exact mx_weak (al' := [some (rv a0), some (iv x1), some (iv x2), some (jv (ah_J h (a0 + 44) ((ah_I h a0 72) - (2 : Int32)).toNatClampNeg)), none, some (jv (ah_J h (a0 + 44) (((ah_I h a0 72) - (2 : Int32)) + (1 : Int32)).toNatClampNeg)), none, none, none]) ⟨rfl, ⟨rfl, ⟨rfl, ⟨rfl, ⟨rfl, trivial⟩⟩⟩⟩⟩ H
theorem v_X8_both_64 {G : ma_G} {d : Nat} {a0 : Nat} {x1 : Int32} {x2 : Int32} {x3 : Int64} {x5 : Int64} {z0 : Int32} {h : ah_T} {Q : Option ma_V → ah_T → Prop} {E : Nat → ah_T → Prop} (La0_h : LY8 h a0) (H : (x1 = (13 : Int32) → MX G mi_X8_both (d + 1) 78 [some (rv a0), some (iv x1), none, some (jv x3), none, some (jv x5), none, none, none] [] h Q E) ∧ (¬ x1 = (13 : Int32) → (¬ x1 = (14 : Int32) → (x1 < (10 : Int32) → (¬ z0 = 0 → MX G mi_X8_both (d + 1) 223 [some (rv a0), some (iv x1), none, some (jv x3), none, some (jv x5), none, none, none] [iv (1 : Int32)] h Q E) ∧ (z0 = 0 → (x1 = (6 : Int32) → (¬ x5 = (0 : Int64) → MX G mi_X8_both (d + 1) 223 [some (rv a0), some (iv x1), none, some (jv x3), none, some (jv x5), none, none, none] [iv (0 : Int32)] h Q E) ∧ (x5 = (0 : Int64) → MX G mi_X8_both (d + 1) 223 [some (rv a0), some (iv x1), none, some (jv x3), none, some (jv x5), none, none, none] [iv (1 : Int32)] h Q E)) ∧ (¬ x1 = (6 : Int32) → (¬ x1 = (7 : Int32) → MX G mi_X8_both (d + 1) 223 [some (rv a0), some (iv x1), none, some (jv x3), none, some (jv x5), none, none, none] [iv (0 : Int32)] h Q E) ∧ (x1 = (7 : Int32) → (¬ x5 = (0 : Int64) → MX G mi_X8_both (d + 1) 223 [some (rv a0), some (iv x1), none, some (jv x3), none, some (jv x5), none, none, none] [iv (0 : Int32)] h Q E) ∧ (x5 = (0 : Int64) → MX G mi_X8_both (d + 1) 223 [some (rv a0), some (iv x1), none, some (jv x3), none, some (jv x5), none, none, none] [iv (1 : Int32)] h Q E))))) ∧ (¬ x1 < (10 : Int32) → (¬ x1 = (10 : Int32) → (¬ x1 = (11 : Int32) → (¬ x3 = x5 → MX G mi_X8_both (d + 1) 161 [some (rv a0), none, some (iv x2), none, none, none, none, some (iv z0), none] [iv (0 : Int32)] h Q E) ∧ (x3 = x5 → MX G mi_X8_both (d + 1) 161 [some (rv a0), none, some (iv x2), none, none, none, none, some (iv z0), none] [iv (1 : Int32)] h Q E)) ∧ (x1 = (11 : Int32) → (x3 ≤ x5 → MX G mi_X8_both (d + 1) 161 [some (rv a0), none, some (iv x2), none, none, none, none, some (iv z0), none] [iv (0 : Int32)] h Q E) ∧ (¬ x3 ≤ x5 → MX G mi_X8_both (d + 1) 161 [some (rv a0), none, some (iv x2), none, none, none, none, some (iv z0), none] [iv (1 : Int32)] h Q E))) ∧ (x1 = (10 : Int32) → (x5 ≤ x3 → MX G mi_X8_both (d + 1) 161 [some (rv a0), none, some (iv x2), none, none, none, none, some (iv z0), none] [iv (0 : Int32)] h Q E) ∧ (¬ x5 ≤ x3 → MX G mi_X8_both (d + 1) 161 [some (rv a0), none, some (iv x2), none, none, none, none, some (iv z0), none] [iv (1 : Int32)] h Q E)))) ∧ (x1 = (14 : Int32) → MX G mi_X8_both (d + 1) 78 [some (rv a0), some (iv x1), none, some (jv x3), none, some (jv x5), none, none, none] [] h Q E))) : MX G mi_X8_both (d + 1) 64 [some (rv a0), some (iv x1), some (iv x2), some (jv x3), none, some (jv x5), none, none, none] [iv z0] h Q E := by
  refine mx_istore (al' := [some (rv a0), some (iv x1), some (iv x2), some (jv x3), none, some (jv x5), none, some (iv z0), none]) dX8_both_64 (Nat.le_of_ble_eq_true rfl) rfl ?_
  refine mx_iload_n dX8_both_66 rfl rfl ?_
  refine mx_bipush dX8_both_67 ib_13 ?_
  refine mx_icmp_eq (tgt := 78) dX8_both_69 rfl (fun c1 => ?_) (fun c1 => ?_)
  · have H := H.1 c1
    exact mx_weak (al' := [some (rv a0), some (iv x1), none, some (jv x3), none, some (jv x5), none, none, none]) ⟨rfl, ⟨rfl, ⟨rfl, ⟨rfl, trivial⟩⟩⟩⟩ H
  · have H := H.2 c1
    refine mx_iload_n dX8_both_72 rfl rfl ?_
    refine mx_bipush dX8_both_73 ib_14 ?_
    refine mx_icmp_ne (tgt := 101) dX8_both_75 rfl (fun c2 => ?_) (fun c2 => ?_)
    · have H := H.1 c2
      refine mx_iload_n dX8_both_101 rfl rfl ?_
      refine mx_bipush dX8_both_102 ib_10 ?_
      refine mx_icmp_lt (tgt := 194) dX8_both_104 rfl (fun c3 => ?_) (fun c3 => ?_)
      · have H := H.1 c3
        refine mx_iload dX8_both_194 rfl ?_
        refine mx_if_ne (tgt := 218) dX8_both_196 rfl (fun c4 => ?_) (fun c4 => ?_)
        · have H := H.1 c4
          refine mx_iconst dX8_both_218 ic_1 ?_
          refine mx_goto (tgt := 223) dX8_both_219 rfl ?_
          exact mx_weak (al' := [some (rv a0), some (iv x1), none, some (jv x3), none, some (jv x5), none, none, none]) ⟨rfl, ⟨rfl, ⟨rfl, ⟨rfl, trivial⟩⟩⟩⟩ H
        · have H := H.2 c4
          refine mx_iload_n dX8_both_199 rfl rfl ?_
          refine mx_bipush dX8_both_200 ib_6 ?_
          refine mx_icmp_eq (tgt := 211) dX8_both_202 rfl (fun c5 => ?_) (fun c5 => ?_)
          · have H := H.1 c5
            refine mx_lload dX8_both_211 rfl ?_
            refine mx_lconst dX8_both_213 lc_0 ?_
            refine mx_lif_ne (tgt := 222) dX8_both_214 dX8_both_215 rfl (fun c6 => ?_) (fun c6 => ?_)
            · have H := H.1 c6
              refine mx_iconst dX8_both_222 ic_0 ?_
              exact mx_weak (al' := [some (rv a0), some (iv x1), none, some (jv x3), none, some (jv x5), none, none, none]) ⟨rfl, ⟨rfl, ⟨rfl, ⟨rfl, trivial⟩⟩⟩⟩ H
            · have H := H.2 c6
              refine mx_iconst dX8_both_218 ic_1 ?_
              refine mx_goto (tgt := 223) dX8_both_219 rfl ?_
              exact mx_weak (al' := [some (rv a0), some (iv x1), none, some (jv x3), none, some (jv x5), none, none, none]) ⟨rfl, ⟨rfl, ⟨rfl, ⟨rfl, trivial⟩⟩⟩⟩ H
          · have H := H.2 c5
            refine mx_iload_n dX8_both_205 rfl rfl ?_
            refine mx_bipush dX8_both_206 ib_7 ?_
            refine mx_icmp_ne (tgt := 222) dX8_both_208 rfl (fun c7 => ?_) (fun c7 => ?_)
            · have H := H.1 c7
              refine mx_iconst dX8_both_222 ic_0 ?_
              exact mx_weak (al' := [some (rv a0), some (iv x1), none, some (jv x3), none, some (jv x5), none, none, none]) ⟨rfl, ⟨rfl, ⟨rfl, ⟨rfl, trivial⟩⟩⟩⟩ H
            · have H := H.2 c7
              refine mx_lload dX8_both_211 rfl ?_
              refine mx_lconst dX8_both_213 lc_0 ?_
              refine mx_lif_ne (tgt := 222) dX8_both_214 dX8_both_215 rfl (fun c8 => ?_) (fun c8 => ?_)
              · have H := H.1 c8
                refine mx_iconst dX8_both_222 ic_0 ?_
                exact mx_weak (al' := [some (rv a0), some (iv x1), none, some (jv x3), none, some (jv x5), none, none, none]) ⟨rfl, ⟨rfl, ⟨rfl, ⟨rfl, trivial⟩⟩⟩⟩ H
              · have H := H.2 c8
                refine mx_iconst dX8_both_218 ic_1 ?_
                refine mx_goto (tgt := 223) dX8_both_219 rfl ?_
                exact mx_weak (al' := [some (rv a0), some (iv x1), none, some (jv x3), none, some (jv x5), none, none, none]) ⟨rfl, ⟨rfl, ⟨rfl, ⟨rfl, trivial⟩⟩⟩⟩ H
      · have H := H.2 c3
        refine mx_iload_n dX8_both_107 rfl rfl ?_
        refine mx_bipush dX8_both_108 ib_10 ?_
        refine mx_icmp_ne (tgt := 128) dX8_both_110 rfl (fun c9 => ?_) (fun c9 => ?_)
        · have H := H.1 c9
          refine mx_iload_n dX8_both_128 rfl rfl ?_
          refine mx_bipush dX8_both_129 ib_11 ?_
          refine mx_icmp_ne (tgt := 149) dX8_both_131 rfl (fun c10 => ?_) (fun c10 => ?_)
          · have H := H.1 c10
            refine mx_lload_n dX8_both_149 rfl rfl ?_
            refine mx_lload dX8_both_150 rfl ?_
            refine mx_lif_ne (tgt := 160) dX8_both_152 dX8_both_153 rfl (fun c11 => ?_) (fun c11 => ?_)
            · have H := H.1 c11
              refine mx_iconst dX8_both_160 ic_0 ?_
              exact mx_weak (al' := [some (rv a0), none, some (iv x2), none, none, none, none, some (iv z0), none]) ⟨rfl, ⟨rfl, ⟨rfl, trivial⟩⟩⟩ H
            · have H := H.2 c11
              refine mx_iconst dX8_both_156 ic_1 ?_
              refine mx_goto (tgt := 161) dX8_both_157 rfl ?_
              exact mx_weak (al' := [some (rv a0), none, some (iv x2), none, none, none, none, some (iv z0), none]) ⟨rfl, ⟨rfl, ⟨rfl, trivial⟩⟩⟩ H
          · have H := H.2 c10
            refine mx_lload_n dX8_both_134 rfl rfl ?_
            refine mx_lload dX8_both_135 rfl ?_
            refine mx_lif_le (tgt := 145) dX8_both_137 dX8_both_138 rfl (fun c12 => ?_) (fun c12 => ?_)
            · have H := H.1 c12
              refine mx_iconst dX8_both_145 ic_0 ?_
              refine mx_goto (tgt := 161) dX8_both_146 rfl ?_
              exact mx_weak (al' := [some (rv a0), none, some (iv x2), none, none, none, none, some (iv z0), none]) ⟨rfl, ⟨rfl, ⟨rfl, trivial⟩⟩⟩ H
            · have H := H.2 c12
              refine mx_iconst dX8_both_141 ic_1 ?_
              refine mx_goto (tgt := 161) dX8_both_142 rfl ?_
              exact mx_weak (al' := [some (rv a0), none, some (iv x2), none, none, none, none, some (iv z0), none]) ⟨rfl, ⟨rfl, ⟨rfl, trivial⟩⟩⟩ H
        · have H := H.2 c9
          refine mx_lload_n dX8_both_113 rfl rfl ?_
          refine mx_lload dX8_both_114 rfl ?_
          refine mx_lif_ge (tgt := 124) dX8_both_116 dX8_both_117 rfl (fun c13 => ?_) (fun c13 => ?_)
          · have H := H.1 c13
            refine mx_iconst dX8_both_124 ic_0 ?_
            refine mx_goto (tgt := 161) dX8_both_125 rfl ?_
            exact mx_weak (al' := [some (rv a0), none, some (iv x2), none, none, none, none, some (iv z0), none]) ⟨rfl, ⟨rfl, ⟨rfl, trivial⟩⟩⟩ H
          · have H := H.2 c13
            refine mx_iconst dX8_both_120 ic_1 ?_
            refine mx_goto (tgt := 161) dX8_both_121 rfl ?_
            exact mx_weak (al' := [some (rv a0), none, some (iv x2), none, none, none, none, some (iv z0), none]) ⟨rfl, ⟨rfl, ⟨rfl, trivial⟩⟩⟩ H
    · have H := H.2 c2
      exact mx_weak (al' := [some (rv a0), some (iv x1), none, some (jv x3), none, some (jv x5), none, none, none]) ⟨rfl, ⟨rfl, ⟨rfl, ⟨rfl, trivial⟩⟩⟩⟩ H
theorem v_X8_both_78 {G : ma_G} {d : Nat} {a0 : Nat} {x1 : Int32} {x3 : Int64} {x5 : Int64} {h : ah_T} {Q : Option ma_V → ah_T → Prop} {E : Nat → ah_T → Prop} (La0_h : LY8 h a0) (H : (¬ x1 = (13 : Int32) → vp_in (ah_I h a0 72) 600 ∧ ∀ h3 : ah_T, h3 = ah_wJ h (a0 + 44) (ah_I h a0 72).toNatClampNeg (x3 ||| x5) → ah_ext h h3 → ∀ h4 : ah_T, h4 = ah_wI h3 (a0 + 47) (ah_I h a0 72).toNatClampNeg (vp_nar .boolean (0 : Int32)) → ah_ext h3 h4 → ∀ h5 : ah_T, h5 = ah_wI h4 a0 72 ((ah_I h a0 72) + (1 : Int32)) → ah_ext h4 h5 → Q none h5) ∧ (x1 = (13 : Int32) → vp_in (ah_I h a0 72) 600 ∧ ∀ h7 : ah_T, h7 = ah_wJ h (a0 + 44) (ah_I h a0 72).toNatClampNeg (x3 &&& x5) → ah_ext h h7 → ∀ h8 : ah_T, h8 = ah_wI h7 (a0 + 47) (ah_I h a0 72).toNatClampNeg (vp_nar .boolean (0 : Int32)) → ah_ext h7 h8 → ∀ h9 : ah_T, h9 = ah_wI h8 a0 72 ((ah_I h a0 72) + (1 : Int32)) → ah_ext h8 h9 → Q none h9)) : MX G mi_X8_both (d + 1) 78 [some (rv a0), some (iv x1), none, some (jv x3), none, some (jv x5), none, none, none] [] h Q E := by
  refine mx_aload_n dX8_both_78 rfl rfl ?_
  refine mx_iload_n dX8_both_79 rfl rfl ?_
  refine mx_bipush dX8_both_80 ib_13 ?_
  refine mx_icmp_ne (tgt := 92) dX8_both_82 rfl (fun c1 => ?_) (fun c1 => ?_)
  · have H := H.1 c1
    refine mx_lload_n dX8_both_92 rfl rfl ?_
    refine mx_lload dX8_both_93 rfl ?_
    refine mx_lor dX8_both_95 ?_
    refine mx_iconst dX8_both_96 ic_0 ?_
    refine mx_callV 8 (y' := mi_X8_push) (vs := [jv (x3 ||| x5), iv (0 : Int32)]) (st := []) (al' := [some (rv a0), some (jv (x3 ||| x5)), none, some (iv (0 : Int32))]) cl_8 V_X8_push (Or.inl q2097) dX8_both_97 rfl rfl (Nat.le_of_ble_eq_true rfl) (Nat.le_of_ble_eq_true rfl) (ly8_k La0_h) ?_
    refine mx_aload_n dX8_push_0 rfl rfl ?_
    refine mx_get 8 67 (ref := "PrairiePoolModel") cl_8 (Nat.le_of_ble_eq_true rfl) (Or.inl q1694) (Or.inl rfl) dX8_push_1 (fv_8_67 _ _) (ly8_k La0_h) ?_
    refine mx_tr (ly8_R_0_67 La0_h) ?_
    refine mx_aload_n dX8_push_4 rfl rfl ?_
    refine mx_get 8 72 (ref := "PrairiePoolModel") cl_8 (Nat.le_of_ble_eq_true rfl) (Or.inl q1699) (Or.inl rfl) dX8_push_5 (fv_8_72 _ _) (ly8_k La0_h) ?_
    refine mx_lload_n dX8_push_8 rfl rfl ?_
    obtain ⟨k2, H⟩ := H
    refine my_last dX8_push_9 rfl (ly8_A_44 La0_h k2) ?_
    refine mx_nmJ  (fun h3 eh3 Xh3 Kh3 Lh3 => ?_)
    have H := H h3 eh3 Xh3
    have La0_h3 := La0_h.ext Xh3
    refine mx_aload_n dX8_push_10 rfl rfl ?_
    refine mx_get 8 70 (ref := "PrairiePoolModel") cl_8 (Nat.le_of_ble_eq_true rfl) (Or.inl q1697) (Or.inl rfl) dX8_push_11 (fv_8_70 _ _) (ly8_k La0_h3) ?_
    refine mx_tr (ly8_R_0_70 La0_h3) ?_
    refine mx_aload_n dX8_push_14 rfl rfl ?_
    refine mx_get 8 72 (ref := "PrairiePoolModel") cl_8 (Nat.le_of_ble_eq_true rfl) (Or.inl q1699) (Or.inl rfl) dX8_push_15 (fv_8_72 _ _) (ly8_k La0_h3) ?_
    refine mx_ti (ah_IJ eh3) ?_
    refine mx_iload_n dX8_push_18 rfl rfl ?_
    refine my_zast dX8_push_19 rfl (ly8_A_47 La0_h3 k2) ?_
    refine mx_nmI  (fun h4 eh4 Xh4 Kh4 Lh4 => ?_)
    have H := H h4 eh4 Xh4
    have Kh4 := Kh4.trans Kh3
    have Lh4 := Lh4.trans Lh3
    have La0_h4 := La0_h3.ext Xh4
    refine mx_aload_n dX8_push_20 rfl rfl ?_
    refine mx_dup_r dX8_push_21 ?_
    refine mx_get 8 72 (ref := "PrairiePoolModel") cl_8 (Nat.le_of_ble_eq_true rfl) (Or.inl q1699) (Or.inl rfl) dX8_push_22 (fv_8_72 _ _) (ly8_k La0_h4) ?_
    refine mx_ti ((ah_skIA eh4 (by omega)).trans (ah_IJ eh3)) ?_
    refine mx_iconst dX8_push_25 ic_1 ?_
    refine mx_iadd dX8_push_26 ?_
    refine mx_putI 8 72 (ref := "PrairiePoolModel") cl_8 (Nat.le_of_ble_eq_true rfl) (Or.inl q1699) (Or.inl rfl) dX8_push_27 (Or.inl rfl) rfl (ly8_k La0_h4) ?_
    refine mx_nmI  (fun h5 eh5 Xh5 Kh5 Lh5 => ?_)
    have H := H h5 eh5 Xh5
    have Kh5 := Kh5.trans Kh4
    have Lh5 := Lh5.trans Lh4
    have La0_h5 := La0_h4.ext Xh5
    refine mx_vretK rfl dX8_push_30 ?_
    exact mx_vret rfl dX8_both_100 H
  · have H := H.2 c1
    refine mx_lload_n dX8_both_85 rfl rfl ?_
    refine mx_lload dX8_both_86 rfl ?_
    refine mx_land dX8_both_88 ?_
    refine mx_goto (tgt := 96) dX8_both_89 rfl ?_
    refine mx_iconst dX8_both_96 ic_0 ?_
    refine mx_callV 8 (y' := mi_X8_push) (vs := [jv (x3 &&& x5), iv (0 : Int32)]) (st := []) (al' := [some (rv a0), some (jv (x3 &&& x5)), none, some (iv (0 : Int32))]) cl_8 V_X8_push (Or.inl q2097) dX8_both_97 rfl rfl (Nat.le_of_ble_eq_true rfl) (Nat.le_of_ble_eq_true rfl) (ly8_k La0_h) ?_
    refine mx_aload_n dX8_push_0 rfl rfl ?_
    refine mx_get 8 67 (ref := "PrairiePoolModel") cl_8 (Nat.le_of_ble_eq_true rfl) (Or.inl q1694) (Or.inl rfl) dX8_push_1 (fv_8_67 _ _) (ly8_k La0_h) ?_
    refine mx_tr (ly8_R_0_67 La0_h) ?_
    refine mx_aload_n dX8_push_4 rfl rfl ?_
    refine mx_get 8 72 (ref := "PrairiePoolModel") cl_8 (Nat.le_of_ble_eq_true rfl) (Or.inl q1699) (Or.inl rfl) dX8_push_5 (fv_8_72 _ _) (ly8_k La0_h) ?_
    refine mx_lload_n dX8_push_8 rfl rfl ?_
    obtain ⟨k6, H⟩ := H
    refine my_last dX8_push_9 rfl (ly8_A_44 La0_h k6) ?_
    refine mx_nmJ  (fun h7 eh7 Xh7 Kh7 Lh7 => ?_)
    have H := H h7 eh7 Xh7
    have La0_h7 := La0_h.ext Xh7
    refine mx_aload_n dX8_push_10 rfl rfl ?_
    refine mx_get 8 70 (ref := "PrairiePoolModel") cl_8 (Nat.le_of_ble_eq_true rfl) (Or.inl q1697) (Or.inl rfl) dX8_push_11 (fv_8_70 _ _) (ly8_k La0_h7) ?_
    refine mx_tr (ly8_R_0_70 La0_h7) ?_
    refine mx_aload_n dX8_push_14 rfl rfl ?_
    refine mx_get 8 72 (ref := "PrairiePoolModel") cl_8 (Nat.le_of_ble_eq_true rfl) (Or.inl q1699) (Or.inl rfl) dX8_push_15 (fv_8_72 _ _) (ly8_k La0_h7) ?_
    refine mx_ti (ah_IJ eh7) ?_
    refine mx_iload_n dX8_push_18 rfl rfl ?_
    refine my_zast dX8_push_19 rfl (ly8_A_47 La0_h7 k6) ?_
    refine mx_nmI  (fun h8 eh8 Xh8 Kh8 Lh8 => ?_)
    have H := H h8 eh8 Xh8
    have Kh8 := Kh8.trans Kh7
    have Lh8 := Lh8.trans Lh7
    have La0_h8 := La0_h7.ext Xh8
    refine mx_aload_n dX8_push_20 rfl rfl ?_
    refine mx_dup_r dX8_push_21 ?_
    refine mx_get 8 72 (ref := "PrairiePoolModel") cl_8 (Nat.le_of_ble_eq_true rfl) (Or.inl q1699) (Or.inl rfl) dX8_push_22 (fv_8_72 _ _) (ly8_k La0_h8) ?_
    refine mx_ti ((ah_skIA eh8 (by omega)).trans (ah_IJ eh7)) ?_
    refine mx_iconst dX8_push_25 ic_1 ?_
    refine mx_iadd dX8_push_26 ?_
    refine mx_putI 8 72 (ref := "PrairiePoolModel") cl_8 (Nat.le_of_ble_eq_true rfl) (Or.inl q1699) (Or.inl rfl) dX8_push_27 (Or.inl rfl) rfl (ly8_k La0_h8) ?_
    refine mx_nmI  (fun h9 eh9 Xh9 Kh9 Lh9 => ?_)
    have H := H h9 eh9 Xh9
    have Kh9 := Kh9.trans Kh8
    have Lh9 := Lh9.trans Lh8
    have La0_h9 := La0_h8.ext Xh9
    refine mx_vretK rfl dX8_push_30 ?_
    exact mx_vret rfl dX8_both_100 H
theorem v_X8_both_223 {G : ma_G} {d : Nat} {a0 : Nat} {x1 : Int32} {x3 : Int64} {x5 : Int64} {z0 : Int32} {h : ah_T} {Q : Option ma_V → ah_T → Prop} {E : Nat → ah_T → Prop} (La0_h : LY8 h a0) (H : (z0 = 0 → (¬ x1 = (3 : Int32) → (¬ x1 = (4 : Int32) → (¬ x1 = (5 : Int32) → (¬ x1 = (6 : Int32) → (¬ x1 = (7 : Int32) → (¬ x1 = (8 : Int32) → vp_in (ah_I h a0 72) 600 ∧ ∀ h9 : ah_T, h9 = ah_wJ h (a0 + 44) (ah_I h a0 72).toNatClampNeg (jMax x3 x5) → ah_ext h h9 → ∀ h10 : ah_T, h10 = ah_wI h9 (a0 + 47) (ah_I h a0 72).toNatClampNeg (vp_nar .boolean z0) → ah_ext h9 h10 → ∀ h11 : ah_T, h11 = ah_wI h10 a0 72 ((ah_I h a0 72) + (1 : Int32)) → ah_ext h10 h11 → Q none h11) ∧ (x1 = (8 : Int32) → vp_in (ah_I h a0 72) 600 ∧ ∀ h13 : ah_T, h13 = ah_wJ h (a0 + 44) (ah_I h a0 72).toNatClampNeg (jMin x3 x5) → ah_ext h h13 → ∀ h14 : ah_T, h14 = ah_wI h13 (a0 + 47) (ah_I h a0 72).toNatClampNeg (vp_nar .boolean z0) → ah_ext h13 h14 → ∀ h15 : ah_T, h15 = ah_wI h14 a0 72 ((ah_I h a0 72) + (1 : Int32)) → ah_ext h14 h15 → Q none h15)) ∧ (x1 = (7 : Int32) → ¬ x5 = 0 ∧ vp_in (ah_I h a0 72) 600 ∧ ∀ h18 : ah_T, h18 = ah_wJ h (a0 + 44) (ah_I h a0 72).toNatClampNeg (x3 - x3 / x5 * x5) → ah_ext h h18 → ∀ h19 : ah_T, h19 = ah_wI h18 (a0 + 47) (ah_I h a0 72).toNatClampNeg (vp_nar .boolean z0) → ah_ext h18 h19 → ∀ h20 : ah_T, h20 = ah_wI h19 a0 72 ((ah_I h a0 72) + (1 : Int32)) → ah_ext h19 h20 → Q none h20)) ∧ (x1 = (6 : Int32) → ¬ x5 = 0 ∧ vp_in (ah_I h a0 72) 600 ∧ ∀ h23 : ah_T, h23 = ah_wJ h (a0 + 44) (ah_I h a0 72).toNatClampNeg (x3 / x5) → ah_ext h h23 → ∀ h24 : ah_T, h24 = ah_wI h23 (a0 + 47) (ah_I h a0 72).toNatClampNeg (vp_nar .boolean z0) → ah_ext h23 h24 → ∀ h25 : ah_T, h25 = ah_wI h24 a0 72 ((ah_I h a0 72) + (1 : Int32)) → ah_ext h24 h25 → Q none h25)) ∧ (x1 = (5 : Int32) → vp_in (ah_I h a0 72) 600 ∧ ∀ h27 : ah_T, h27 = ah_wJ h (a0 + 44) (ah_I h a0 72).toNatClampNeg (x3 * x5) → ah_ext h h27 → ∀ h28 : ah_T, h28 = ah_wI h27 (a0 + 47) (ah_I h a0 72).toNatClampNeg (vp_nar .boolean z0) → ah_ext h27 h28 → ∀ h29 : ah_T, h29 = ah_wI h28 a0 72 ((ah_I h a0 72) + (1 : Int32)) → ah_ext h28 h29 → Q none h29)) ∧ (x1 = (4 : Int32) → vp_in (ah_I h a0 72) 600 ∧ ∀ h31 : ah_T, h31 = ah_wJ h (a0 + 44) (ah_I h a0 72).toNatClampNeg (x3 - x5) → ah_ext h h31 → ∀ h32 : ah_T, h32 = ah_wI h31 (a0 + 47) (ah_I h a0 72).toNatClampNeg (vp_nar .boolean z0) → ah_ext h31 h32 → ∀ h33 : ah_T, h33 = ah_wI h32 a0 72 ((ah_I h a0 72) + (1 : Int32)) → ah_ext h32 h33 → Q none h33)) ∧ (x1 = (3 : Int32) → vp_in (ah_I h a0 72) 600 ∧ ∀ h35 : ah_T, h35 = ah_wJ h (a0 + 44) (ah_I h a0 72).toNatClampNeg (x3 + x5) → ah_ext h h35 → ∀ h36 : ah_T, h36 = ah_wI h35 (a0 + 47) (ah_I h a0 72).toNatClampNeg (vp_nar .boolean z0) → ah_ext h35 h36 → ∀ h37 : ah_T, h37 = ah_wI h36 a0 72 ((ah_I h a0 72) + (1 : Int32)) → ah_ext h36 h37 → Q none h37)) ∧ (¬ z0 = 0 → vp_in (ah_I h a0 72) 600 ∧ ∀ h39 : ah_T, h39 = ah_wJ h (a0 + 44) (ah_I h a0 72).toNatClampNeg (0 : Int64) → ah_ext h h39 → ∀ h40 : ah_T, h40 = ah_wI h39 (a0 + 47) (ah_I h a0 72).toNatClampNeg (vp_nar .boolean z0) → ah_ext h39 h40 → ∀ h41 : ah_T, h41 = ah_wI h40 a0 72 ((ah_I h a0 72) + (1 : Int32)) → ah_ext h40 h41 → Q none h41)) : MX G mi_X8_both (d + 1) 223 [some (rv a0), some (iv x1), none, some (jv x3), none, some (jv x5), none, none, none] [iv z0] h Q E := by
  refine mx_istore (al' := [some (rv a0), some (iv x1), none, some (jv x3), none, some (jv x5), none, none, some (iv z0)]) dX8_both_223 (Nat.le_of_ble_eq_true rfl) rfl ?_
  refine mx_aload_n dX8_both_225 rfl rfl ?_
  refine mx_iload dX8_both_226 rfl ?_
  refine mx_if_eq (tgt := 235) dX8_both_228 rfl (fun c1 => ?_) (fun c1 => ?_)
  · have H := H.1 c1
    refine mx_iload_n dX8_both_235 rfl rfl ?_
    refine mx_iconst dX8_both_236 ic_3 ?_
    refine mx_icmp_ne (tgt := 247) dX8_both_237 rfl (fun c2 => ?_) (fun c2 => ?_)
    · have H := H.1 c2
      refine mx_iload_n dX8_both_247 rfl rfl ?_
      refine mx_iconst dX8_both_248 ic_4 ?_
      refine mx_icmp_ne (tgt := 259) dX8_both_249 rfl (fun c3 => ?_) (fun c3 => ?_)
      · have H := H.1 c3
        refine mx_iload_n dX8_both_259 rfl rfl ?_
        refine mx_iconst dX8_both_260 ic_5 ?_
        refine mx_icmp_ne (tgt := 271) dX8_both_261 rfl (fun c4 => ?_) (fun c4 => ?_)
        · have H := H.1 c4
          refine mx_iload_n dX8_both_271 rfl rfl ?_
          refine mx_bipush dX8_both_272 ib_6 ?_
          refine mx_icmp_ne (tgt := 284) dX8_both_274 rfl (fun c5 => ?_) (fun c5 => ?_)
          · have H := H.1 c5
            refine mx_iload_n dX8_both_284 rfl rfl ?_
            refine mx_bipush dX8_both_285 ib_7 ?_
            refine mx_icmp_ne (tgt := 297) dX8_both_287 rfl (fun c6 => ?_) (fun c6 => ?_)
            · have H := H.1 c6
              refine mx_iload_n dX8_both_297 rfl rfl ?_
              refine mx_bipush dX8_both_298 ib_8 ?_
              refine mx_icmp_ne (tgt := 312) dX8_both_300 rfl (fun c7 => ?_) (fun c7 => ?_)
              · have H := H.1 c7
                refine mx_lload_n dX8_both_312 rfl rfl ?_
                refine mx_lload dX8_both_313 rfl ?_
                refine mx_callS (y' := mi_J8_max) (vs := [jv x3, jv x5]) (st := [rv a0]) (al' := [some (jv x3), none, some (jv x5), none]) S_J8_max q2106 dX8_both_315 rfl rfl (Nat.le_of_ble_eq_true rfl) (Nat.le_of_ble_eq_true rfl) ?_
                refine pv_J8_max ?_
                refine mx_iload dX8_both_318 rfl ?_
                refine mx_callV 8 (y' := mi_X8_push) (vs := [jv (jMax x3 x5), iv z0]) (st := []) (al' := [some (rv a0), some (jv (jMax x3 x5)), none, some (iv z0)]) cl_8 V_X8_push (Or.inl q2097) dX8_both_320 rfl rfl (Nat.le_of_ble_eq_true rfl) (Nat.le_of_ble_eq_true rfl) (ly8_k La0_h) ?_
                refine mx_aload_n dX8_push_0 rfl rfl ?_
                refine mx_get 8 67 (ref := "PrairiePoolModel") cl_8 (Nat.le_of_ble_eq_true rfl) (Or.inl q1694) (Or.inl rfl) dX8_push_1 (fv_8_67 _ _) (ly8_k La0_h) ?_
                refine mx_tr (ly8_R_0_67 La0_h) ?_
                refine mx_aload_n dX8_push_4 rfl rfl ?_
                refine mx_get 8 72 (ref := "PrairiePoolModel") cl_8 (Nat.le_of_ble_eq_true rfl) (Or.inl q1699) (Or.inl rfl) dX8_push_5 (fv_8_72 _ _) (ly8_k La0_h) ?_
                refine mx_lload_n dX8_push_8 rfl rfl ?_
                obtain ⟨k8, H⟩ := H
                refine my_last dX8_push_9 rfl (ly8_A_44 La0_h k8) ?_
                refine mx_nmJ  (fun h9 eh9 Xh9 Kh9 Lh9 => ?_)
                have H := H h9 eh9 Xh9
                have La0_h9 := La0_h.ext Xh9
                refine mx_aload_n dX8_push_10 rfl rfl ?_
                refine mx_get 8 70 (ref := "PrairiePoolModel") cl_8 (Nat.le_of_ble_eq_true rfl) (Or.inl q1697) (Or.inl rfl) dX8_push_11 (fv_8_70 _ _) (ly8_k La0_h9) ?_
                refine mx_tr (ly8_R_0_70 La0_h9) ?_
                refine mx_aload_n dX8_push_14 rfl rfl ?_
                refine mx_get 8 72 (ref := "PrairiePoolModel") cl_8 (Nat.le_of_ble_eq_true rfl) (Or.inl q1699) (Or.inl rfl) dX8_push_15 (fv_8_72 _ _) (ly8_k La0_h9) ?_
                refine mx_ti (ah_IJ eh9) ?_
                refine mx_iload_n dX8_push_18 rfl rfl ?_
                refine my_zast dX8_push_19 rfl (ly8_A_47 La0_h9 k8) ?_
                refine mx_nmI  (fun h10 eh10 Xh10 Kh10 Lh10 => ?_)
                have H := H h10 eh10 Xh10
                have Kh10 := Kh10.trans Kh9
                have Lh10 := Lh10.trans Lh9
                have La0_h10 := La0_h9.ext Xh10
                refine mx_aload_n dX8_push_20 rfl rfl ?_
                refine mx_dup_r dX8_push_21 ?_
                refine mx_get 8 72 (ref := "PrairiePoolModel") cl_8 (Nat.le_of_ble_eq_true rfl) (Or.inl q1699) (Or.inl rfl) dX8_push_22 (fv_8_72 _ _) (ly8_k La0_h10) ?_
                refine mx_ti ((ah_skIA eh10 (by omega)).trans (ah_IJ eh9)) ?_
                refine mx_iconst dX8_push_25 ic_1 ?_
                refine mx_iadd dX8_push_26 ?_
                refine mx_putI 8 72 (ref := "PrairiePoolModel") cl_8 (Nat.le_of_ble_eq_true rfl) (Or.inl q1699) (Or.inl rfl) dX8_push_27 (Or.inl rfl) rfl (ly8_k La0_h10) ?_
                refine mx_nmI  (fun h11 eh11 Xh11 Kh11 Lh11 => ?_)
                have H := H h11 eh11 Xh11
                have Kh11 := Kh11.trans Kh10
                have Lh11 := Lh11.trans Lh10
                have La0_h11 := La0_h10.ext Xh11
                refine mx_vretK rfl dX8_push_30 ?_
                exact mx_vret rfl dX8_both_323 H
              · have H := H.2 c7
                refine mx_lload_n dX8_both_303 rfl rfl ?_
                refine mx_lload dX8_both_304 rfl ?_
                refine mx_callS (y' := mi_J8_min) (vs := [jv x3, jv x5]) (st := [rv a0]) (al' := [some (jv x3), none, some (jv x5), none]) S_J8_min q2105 dX8_both_306 rfl rfl (Nat.le_of_ble_eq_true rfl) (Nat.le_of_ble_eq_true rfl) ?_
                refine pv_J8_min ?_
                refine mx_goto (tgt := 318) dX8_both_309 rfl ?_
                refine mx_iload dX8_both_318 rfl ?_
                refine mx_callV 8 (y' := mi_X8_push) (vs := [jv (jMin x3 x5), iv z0]) (st := []) (al' := [some (rv a0), some (jv (jMin x3 x5)), none, some (iv z0)]) cl_8 V_X8_push (Or.inl q2097) dX8_both_320 rfl rfl (Nat.le_of_ble_eq_true rfl) (Nat.le_of_ble_eq_true rfl) (ly8_k La0_h) ?_
                refine mx_aload_n dX8_push_0 rfl rfl ?_
                refine mx_get 8 67 (ref := "PrairiePoolModel") cl_8 (Nat.le_of_ble_eq_true rfl) (Or.inl q1694) (Or.inl rfl) dX8_push_1 (fv_8_67 _ _) (ly8_k La0_h) ?_
                refine mx_tr (ly8_R_0_67 La0_h) ?_
                refine mx_aload_n dX8_push_4 rfl rfl ?_
                refine mx_get 8 72 (ref := "PrairiePoolModel") cl_8 (Nat.le_of_ble_eq_true rfl) (Or.inl q1699) (Or.inl rfl) dX8_push_5 (fv_8_72 _ _) (ly8_k La0_h) ?_
                refine mx_lload_n dX8_push_8 rfl rfl ?_
                obtain ⟨k12, H⟩ := H
                refine my_last dX8_push_9 rfl (ly8_A_44 La0_h k12) ?_
                refine mx_nmJ  (fun h13 eh13 Xh13 Kh13 Lh13 => ?_)
                have H := H h13 eh13 Xh13
                have La0_h13 := La0_h.ext Xh13
                refine mx_aload_n dX8_push_10 rfl rfl ?_
                refine mx_get 8 70 (ref := "PrairiePoolModel") cl_8 (Nat.le_of_ble_eq_true rfl) (Or.inl q1697) (Or.inl rfl) dX8_push_11 (fv_8_70 _ _) (ly8_k La0_h13) ?_
                refine mx_tr (ly8_R_0_70 La0_h13) ?_
                refine mx_aload_n dX8_push_14 rfl rfl ?_
                refine mx_get 8 72 (ref := "PrairiePoolModel") cl_8 (Nat.le_of_ble_eq_true rfl) (Or.inl q1699) (Or.inl rfl) dX8_push_15 (fv_8_72 _ _) (ly8_k La0_h13) ?_
                refine mx_ti (ah_IJ eh13) ?_
                refine mx_iload_n dX8_push_18 rfl rfl ?_
                refine my_zast dX8_push_19 rfl (ly8_A_47 La0_h13 k12) ?_
                refine mx_nmI  (fun h14 eh14 Xh14 Kh14 Lh14 => ?_)
                have H := H h14 eh14 Xh14
                have Kh14 := Kh14.trans Kh13
                have Lh14 := Lh14.trans Lh13
                have La0_h14 := La0_h13.ext Xh14
                refine mx_aload_n dX8_push_20 rfl rfl ?_
                refine mx_dup_r dX8_push_21 ?_
                refine mx_get 8 72 (ref := "PrairiePoolModel") cl_8 (Nat.le_of_ble_eq_true rfl) (Or.inl q1699) (Or.inl rfl) dX8_push_22 (fv_8_72 _ _) (ly8_k La0_h14) ?_
                refine mx_ti ((ah_skIA eh14 (by omega)).trans (ah_IJ eh13)) ?_
                refine mx_iconst dX8_push_25 ic_1 ?_
                refine mx_iadd dX8_push_26 ?_
                refine mx_putI 8 72 (ref := "PrairiePoolModel") cl_8 (Nat.le_of_ble_eq_true rfl) (Or.inl q1699) (Or.inl rfl) dX8_push_27 (Or.inl rfl) rfl (ly8_k La0_h14) ?_
                refine mx_nmI  (fun h15 eh15 Xh15 Kh15 Lh15 => ?_)
                have H := H h15 eh15 Xh15
                have Kh15 := Kh15.trans Kh14
                have Lh15 := Lh15.trans Lh14
                have La0_h15 := La0_h14.ext Xh15
                refine mx_vretK rfl dX8_push_30 ?_
                exact mx_vret rfl dX8_both_323 H
            · have H := H.2 c6
              refine mx_lload_n dX8_both_290 rfl rfl ?_
              refine mx_lload dX8_both_291 rfl ?_
              obtain ⟨k16, H⟩ := H
              refine mx_lrem dX8_both_293 k16 ?_
              refine mx_goto (tgt := 318) dX8_both_294 rfl ?_
              refine mx_iload dX8_both_318 rfl ?_
              refine mx_callV 8 (y' := mi_X8_push) (vs := [jv (x3 - x3 / x5 * x5), iv z0]) (st := []) (al' := [some (rv a0), some (jv (x3 - x3 / x5 * x5)), none, some (iv z0)]) cl_8 V_X8_push (Or.inl q2097) dX8_both_320 rfl rfl (Nat.le_of_ble_eq_true rfl) (Nat.le_of_ble_eq_true rfl) (ly8_k La0_h) ?_
              refine mx_aload_n dX8_push_0 rfl rfl ?_
              refine mx_get 8 67 (ref := "PrairiePoolModel") cl_8 (Nat.le_of_ble_eq_true rfl) (Or.inl q1694) (Or.inl rfl) dX8_push_1 (fv_8_67 _ _) (ly8_k La0_h) ?_
              refine mx_tr (ly8_R_0_67 La0_h) ?_
              refine mx_aload_n dX8_push_4 rfl rfl ?_
              refine mx_get 8 72 (ref := "PrairiePoolModel") cl_8 (Nat.le_of_ble_eq_true rfl) (Or.inl q1699) (Or.inl rfl) dX8_push_5 (fv_8_72 _ _) (ly8_k La0_h) ?_
              refine mx_lload_n dX8_push_8 rfl rfl ?_
              obtain ⟨k17, H⟩ := H
              refine my_last dX8_push_9 rfl (ly8_A_44 La0_h k17) ?_
              refine mx_nmJ  (fun h18 eh18 Xh18 Kh18 Lh18 => ?_)
              have H := H h18 eh18 Xh18
              have La0_h18 := La0_h.ext Xh18
              refine mx_aload_n dX8_push_10 rfl rfl ?_
              refine mx_get 8 70 (ref := "PrairiePoolModel") cl_8 (Nat.le_of_ble_eq_true rfl) (Or.inl q1697) (Or.inl rfl) dX8_push_11 (fv_8_70 _ _) (ly8_k La0_h18) ?_
              refine mx_tr (ly8_R_0_70 La0_h18) ?_
              refine mx_aload_n dX8_push_14 rfl rfl ?_
              refine mx_get 8 72 (ref := "PrairiePoolModel") cl_8 (Nat.le_of_ble_eq_true rfl) (Or.inl q1699) (Or.inl rfl) dX8_push_15 (fv_8_72 _ _) (ly8_k La0_h18) ?_
              refine mx_ti (ah_IJ eh18) ?_
              refine mx_iload_n dX8_push_18 rfl rfl ?_
              refine my_zast dX8_push_19 rfl (ly8_A_47 La0_h18 k17) ?_
              refine mx_nmI  (fun h19 eh19 Xh19 Kh19 Lh19 => ?_)
              have H := H h19 eh19 Xh19
              have Kh19 := Kh19.trans Kh18
              have Lh19 := Lh19.trans Lh18
              have La0_h19 := La0_h18.ext Xh19
              refine mx_aload_n dX8_push_20 rfl rfl ?_
              refine mx_dup_r dX8_push_21 ?_
              refine mx_get 8 72 (ref := "PrairiePoolModel") cl_8 (Nat.le_of_ble_eq_true rfl) (Or.inl q1699) (Or.inl rfl) dX8_push_22 (fv_8_72 _ _) (ly8_k La0_h19) ?_
              refine mx_ti ((ah_skIA eh19 (by omega)).trans (ah_IJ eh18)) ?_
              refine mx_iconst dX8_push_25 ic_1 ?_
              refine mx_iadd dX8_push_26 ?_
              refine mx_putI 8 72 (ref := "PrairiePoolModel") cl_8 (Nat.le_of_ble_eq_true rfl) (Or.inl q1699) (Or.inl rfl) dX8_push_27 (Or.inl rfl) rfl (ly8_k La0_h19) ?_
              refine mx_nmI  (fun h20 eh20 Xh20 Kh20 Lh20 => ?_)
              have H := H h20 eh20 Xh20
              have Kh20 := Kh20.trans Kh19
              have Lh20 := Lh20.trans Lh19
              have La0_h20 := La0_h19.ext Xh20
              refine mx_vretK rfl dX8_push_30 ?_
              exact mx_vret rfl dX8_both_323 H
          · have H := H.2 c5
            refine mx_lload_n dX8_both_277 rfl rfl ?_
            refine mx_lload dX8_both_278 rfl ?_
            obtain ⟨k21, H⟩ := H
            refine mx_ldiv dX8_both_280 k21 ?_
            refine mx_goto (tgt := 318) dX8_both_281 rfl ?_
            refine mx_iload dX8_both_318 rfl ?_
            refine mx_callV 8 (y' := mi_X8_push) (vs := [jv (x3 / x5), iv z0]) (st := []) (al' := [some (rv a0), some (jv (x3 / x5)), none, some (iv z0)]) cl_8 V_X8_push (Or.inl q2097) dX8_both_320 rfl rfl (Nat.le_of_ble_eq_true rfl) (Nat.le_of_ble_eq_true rfl) (ly8_k La0_h) ?_
            refine mx_aload_n dX8_push_0 rfl rfl ?_
            refine mx_get 8 67 (ref := "PrairiePoolModel") cl_8 (Nat.le_of_ble_eq_true rfl) (Or.inl q1694) (Or.inl rfl) dX8_push_1 (fv_8_67 _ _) (ly8_k La0_h) ?_
            refine mx_tr (ly8_R_0_67 La0_h) ?_
            refine mx_aload_n dX8_push_4 rfl rfl ?_
            refine mx_get 8 72 (ref := "PrairiePoolModel") cl_8 (Nat.le_of_ble_eq_true rfl) (Or.inl q1699) (Or.inl rfl) dX8_push_5 (fv_8_72 _ _) (ly8_k La0_h) ?_
            refine mx_lload_n dX8_push_8 rfl rfl ?_
            obtain ⟨k22, H⟩ := H
            refine my_last dX8_push_9 rfl (ly8_A_44 La0_h k22) ?_
            refine mx_nmJ  (fun h23 eh23 Xh23 Kh23 Lh23 => ?_)
            have H := H h23 eh23 Xh23
            have La0_h23 := La0_h.ext Xh23
            refine mx_aload_n dX8_push_10 rfl rfl ?_
            refine mx_get 8 70 (ref := "PrairiePoolModel") cl_8 (Nat.le_of_ble_eq_true rfl) (Or.inl q1697) (Or.inl rfl) dX8_push_11 (fv_8_70 _ _) (ly8_k La0_h23) ?_
            refine mx_tr (ly8_R_0_70 La0_h23) ?_
            refine mx_aload_n dX8_push_14 rfl rfl ?_
            refine mx_get 8 72 (ref := "PrairiePoolModel") cl_8 (Nat.le_of_ble_eq_true rfl) (Or.inl q1699) (Or.inl rfl) dX8_push_15 (fv_8_72 _ _) (ly8_k La0_h23) ?_
            refine mx_ti (ah_IJ eh23) ?_
            refine mx_iload_n dX8_push_18 rfl rfl ?_
            refine my_zast dX8_push_19 rfl (ly8_A_47 La0_h23 k22) ?_
            refine mx_nmI  (fun h24 eh24 Xh24 Kh24 Lh24 => ?_)
            have H := H h24 eh24 Xh24
            have Kh24 := Kh24.trans Kh23
            have Lh24 := Lh24.trans Lh23
            have La0_h24 := La0_h23.ext Xh24
            refine mx_aload_n dX8_push_20 rfl rfl ?_
            refine mx_dup_r dX8_push_21 ?_
            refine mx_get 8 72 (ref := "PrairiePoolModel") cl_8 (Nat.le_of_ble_eq_true rfl) (Or.inl q1699) (Or.inl rfl) dX8_push_22 (fv_8_72 _ _) (ly8_k La0_h24) ?_
            refine mx_ti ((ah_skIA eh24 (by omega)).trans (ah_IJ eh23)) ?_
            refine mx_iconst dX8_push_25 ic_1 ?_
            refine mx_iadd dX8_push_26 ?_
            refine mx_putI 8 72 (ref := "PrairiePoolModel") cl_8 (Nat.le_of_ble_eq_true rfl) (Or.inl q1699) (Or.inl rfl) dX8_push_27 (Or.inl rfl) rfl (ly8_k La0_h24) ?_
            refine mx_nmI  (fun h25 eh25 Xh25 Kh25 Lh25 => ?_)
            have H := H h25 eh25 Xh25
            have Kh25 := Kh25.trans Kh24
            have Lh25 := Lh25.trans Lh24
            have La0_h25 := La0_h24.ext Xh25
            refine mx_vretK rfl dX8_push_30 ?_
            exact mx_vret rfl dX8_both_323 H
        · have H := H.2 c4
          refine mx_lload_n dX8_both_264 rfl rfl ?_
          refine mx_lload dX8_both_265 rfl ?_
          refine mx_lmul dX8_both_267 ?_
          refine mx_goto (tgt := 318) dX8_both_268 rfl ?_
          refine mx_iload dX8_both_318 rfl ?_
          refine mx_callV 8 (y' := mi_X8_push) (vs := [jv (x3 * x5), iv z0]) (st := []) (al' := [some (rv a0), some (jv (x3 * x5)), none, some (iv z0)]) cl_8 V_X8_push (Or.inl q2097) dX8_both_320 rfl rfl (Nat.le_of_ble_eq_true rfl) (Nat.le_of_ble_eq_true rfl) (ly8_k La0_h) ?_
          refine mx_aload_n dX8_push_0 rfl rfl ?_
          refine mx_get 8 67 (ref := "PrairiePoolModel") cl_8 (Nat.le_of_ble_eq_true rfl) (Or.inl q1694) (Or.inl rfl) dX8_push_1 (fv_8_67 _ _) (ly8_k La0_h) ?_
          refine mx_tr (ly8_R_0_67 La0_h) ?_
          refine mx_aload_n dX8_push_4 rfl rfl ?_
          refine mx_get 8 72 (ref := "PrairiePoolModel") cl_8 (Nat.le_of_ble_eq_true rfl) (Or.inl q1699) (Or.inl rfl) dX8_push_5 (fv_8_72 _ _) (ly8_k La0_h) ?_
          refine mx_lload_n dX8_push_8 rfl rfl ?_
          obtain ⟨k26, H⟩ := H
          refine my_last dX8_push_9 rfl (ly8_A_44 La0_h k26) ?_
          refine mx_nmJ  (fun h27 eh27 Xh27 Kh27 Lh27 => ?_)
          have H := H h27 eh27 Xh27
          have La0_h27 := La0_h.ext Xh27
          refine mx_aload_n dX8_push_10 rfl rfl ?_
          refine mx_get 8 70 (ref := "PrairiePoolModel") cl_8 (Nat.le_of_ble_eq_true rfl) (Or.inl q1697) (Or.inl rfl) dX8_push_11 (fv_8_70 _ _) (ly8_k La0_h27) ?_
          refine mx_tr (ly8_R_0_70 La0_h27) ?_
          refine mx_aload_n dX8_push_14 rfl rfl ?_
          refine mx_get 8 72 (ref := "PrairiePoolModel") cl_8 (Nat.le_of_ble_eq_true rfl) (Or.inl q1699) (Or.inl rfl) dX8_push_15 (fv_8_72 _ _) (ly8_k La0_h27) ?_
          refine mx_ti (ah_IJ eh27) ?_
          refine mx_iload_n dX8_push_18 rfl rfl ?_
          refine my_zast dX8_push_19 rfl (ly8_A_47 La0_h27 k26) ?_
          refine mx_nmI  (fun h28 eh28 Xh28 Kh28 Lh28 => ?_)
          have H := H h28 eh28 Xh28
          have Kh28 := Kh28.trans Kh27
          have Lh28 := Lh28.trans Lh27
          have La0_h28 := La0_h27.ext Xh28
          refine mx_aload_n dX8_push_20 rfl rfl ?_
          refine mx_dup_r dX8_push_21 ?_
          refine mx_get 8 72 (ref := "PrairiePoolModel") cl_8 (Nat.le_of_ble_eq_true rfl) (Or.inl q1699) (Or.inl rfl) dX8_push_22 (fv_8_72 _ _) (ly8_k La0_h28) ?_
          refine mx_ti ((ah_skIA eh28 (by omega)).trans (ah_IJ eh27)) ?_
          refine mx_iconst dX8_push_25 ic_1 ?_
          refine mx_iadd dX8_push_26 ?_
          refine mx_putI 8 72 (ref := "PrairiePoolModel") cl_8 (Nat.le_of_ble_eq_true rfl) (Or.inl q1699) (Or.inl rfl) dX8_push_27 (Or.inl rfl) rfl (ly8_k La0_h28) ?_
          refine mx_nmI  (fun h29 eh29 Xh29 Kh29 Lh29 => ?_)
          have H := H h29 eh29 Xh29
          have Kh29 := Kh29.trans Kh28
          have Lh29 := Lh29.trans Lh28
          have La0_h29 := La0_h28.ext Xh29
          refine mx_vretK rfl dX8_push_30 ?_
          exact mx_vret rfl dX8_both_323 H
      · have H := H.2 c3
        refine mx_lload_n dX8_both_252 rfl rfl ?_
        refine mx_lload dX8_both_253 rfl ?_
        refine mx_lsub dX8_both_255 ?_
        refine mx_goto (tgt := 318) dX8_both_256 rfl ?_
        refine mx_iload dX8_both_318 rfl ?_
        refine mx_callV 8 (y' := mi_X8_push) (vs := [jv (x3 - x5), iv z0]) (st := []) (al' := [some (rv a0), some (jv (x3 - x5)), none, some (iv z0)]) cl_8 V_X8_push (Or.inl q2097) dX8_both_320 rfl rfl (Nat.le_of_ble_eq_true rfl) (Nat.le_of_ble_eq_true rfl) (ly8_k La0_h) ?_
        refine mx_aload_n dX8_push_0 rfl rfl ?_
        refine mx_get 8 67 (ref := "PrairiePoolModel") cl_8 (Nat.le_of_ble_eq_true rfl) (Or.inl q1694) (Or.inl rfl) dX8_push_1 (fv_8_67 _ _) (ly8_k La0_h) ?_
        refine mx_tr (ly8_R_0_67 La0_h) ?_
        refine mx_aload_n dX8_push_4 rfl rfl ?_
        refine mx_get 8 72 (ref := "PrairiePoolModel") cl_8 (Nat.le_of_ble_eq_true rfl) (Or.inl q1699) (Or.inl rfl) dX8_push_5 (fv_8_72 _ _) (ly8_k La0_h) ?_
        refine mx_lload_n dX8_push_8 rfl rfl ?_
        obtain ⟨k30, H⟩ := H
        refine my_last dX8_push_9 rfl (ly8_A_44 La0_h k30) ?_
        refine mx_nmJ  (fun h31 eh31 Xh31 Kh31 Lh31 => ?_)
        have H := H h31 eh31 Xh31
        have La0_h31 := La0_h.ext Xh31
        refine mx_aload_n dX8_push_10 rfl rfl ?_
        refine mx_get 8 70 (ref := "PrairiePoolModel") cl_8 (Nat.le_of_ble_eq_true rfl) (Or.inl q1697) (Or.inl rfl) dX8_push_11 (fv_8_70 _ _) (ly8_k La0_h31) ?_
        refine mx_tr (ly8_R_0_70 La0_h31) ?_
        refine mx_aload_n dX8_push_14 rfl rfl ?_
        refine mx_get 8 72 (ref := "PrairiePoolModel") cl_8 (Nat.le_of_ble_eq_true rfl) (Or.inl q1699) (Or.inl rfl) dX8_push_15 (fv_8_72 _ _) (ly8_k La0_h31) ?_
        refine mx_ti (ah_IJ eh31) ?_
        refine mx_iload_n dX8_push_18 rfl rfl ?_
        refine my_zast dX8_push_19 rfl (ly8_A_47 La0_h31 k30) ?_
        refine mx_nmI  (fun h32 eh32 Xh32 Kh32 Lh32 => ?_)
        have H := H h32 eh32 Xh32
        have Kh32 := Kh32.trans Kh31
        have Lh32 := Lh32.trans Lh31
        have La0_h32 := La0_h31.ext Xh32
        refine mx_aload_n dX8_push_20 rfl rfl ?_
        refine mx_dup_r dX8_push_21 ?_
        refine mx_get 8 72 (ref := "PrairiePoolModel") cl_8 (Nat.le_of_ble_eq_true rfl) (Or.inl q1699) (Or.inl rfl) dX8_push_22 (fv_8_72 _ _) (ly8_k La0_h32) ?_
        refine mx_ti ((ah_skIA eh32 (by omega)).trans (ah_IJ eh31)) ?_
        refine mx_iconst dX8_push_25 ic_1 ?_
        refine mx_iadd dX8_push_26 ?_
        refine mx_putI 8 72 (ref := "PrairiePoolModel") cl_8 (Nat.le_of_ble_eq_true rfl) (Or.inl q1699) (Or.inl rfl) dX8_push_27 (Or.inl rfl) rfl (ly8_k La0_h32) ?_
        refine mx_nmI  (fun h33 eh33 Xh33 Kh33 Lh33 => ?_)
        have H := H h33 eh33 Xh33
        have Kh33 := Kh33.trans Kh32
        have Lh33 := Lh33.trans Lh32
        have La0_h33 := La0_h32.ext Xh33
        refine mx_vretK rfl dX8_push_30 ?_
        exact mx_vret rfl dX8_both_323 H
    · have H := H.2 c2
      refine mx_lload_n dX8_both_240 rfl rfl ?_
      refine mx_lload dX8_both_241 rfl ?_
      refine mx_ladd dX8_both_243 ?_
      refine mx_goto (tgt := 318) dX8_both_244 rfl ?_
      refine mx_iload dX8_both_318 rfl ?_
      refine mx_callV 8 (y' := mi_X8_push) (vs := [jv (x3 + x5), iv z0]) (st := []) (al' := [some (rv a0), some (jv (x3 + x5)), none, some (iv z0)]) cl_8 V_X8_push (Or.inl q2097) dX8_both_320 rfl rfl (Nat.le_of_ble_eq_true rfl) (Nat.le_of_ble_eq_true rfl) (ly8_k La0_h) ?_
      refine mx_aload_n dX8_push_0 rfl rfl ?_
      refine mx_get 8 67 (ref := "PrairiePoolModel") cl_8 (Nat.le_of_ble_eq_true rfl) (Or.inl q1694) (Or.inl rfl) dX8_push_1 (fv_8_67 _ _) (ly8_k La0_h) ?_
      refine mx_tr (ly8_R_0_67 La0_h) ?_
      refine mx_aload_n dX8_push_4 rfl rfl ?_
      refine mx_get 8 72 (ref := "PrairiePoolModel") cl_8 (Nat.le_of_ble_eq_true rfl) (Or.inl q1699) (Or.inl rfl) dX8_push_5 (fv_8_72 _ _) (ly8_k La0_h) ?_
      refine mx_lload_n dX8_push_8 rfl rfl ?_
      obtain ⟨k34, H⟩ := H
      refine my_last dX8_push_9 rfl (ly8_A_44 La0_h k34) ?_
      refine mx_nmJ  (fun h35 eh35 Xh35 Kh35 Lh35 => ?_)
      have H := H h35 eh35 Xh35
      have La0_h35 := La0_h.ext Xh35
      refine mx_aload_n dX8_push_10 rfl rfl ?_
      refine mx_get 8 70 (ref := "PrairiePoolModel") cl_8 (Nat.le_of_ble_eq_true rfl) (Or.inl q1697) (Or.inl rfl) dX8_push_11 (fv_8_70 _ _) (ly8_k La0_h35) ?_
      refine mx_tr (ly8_R_0_70 La0_h35) ?_
      refine mx_aload_n dX8_push_14 rfl rfl ?_
      refine mx_get 8 72 (ref := "PrairiePoolModel") cl_8 (Nat.le_of_ble_eq_true rfl) (Or.inl q1699) (Or.inl rfl) dX8_push_15 (fv_8_72 _ _) (ly8_k La0_h35) ?_
      refine mx_ti (ah_IJ eh35) ?_
      refine mx_iload_n dX8_push_18 rfl rfl ?_
      refine my_zast dX8_push_19 rfl (ly8_A_47 La0_h35 k34) ?_
      refine mx_nmI  (fun h36 eh36 Xh36 Kh36 Lh36 => ?_)
      have H := H h36 eh36 Xh36
      have Kh36 := Kh36.trans Kh35
      have Lh36 := Lh36.trans Lh35
      have La0_h36 := La0_h35.ext Xh36
      refine mx_aload_n dX8_push_20 rfl rfl ?_
      refine mx_dup_r dX8_push_21 ?_
      refine mx_get 8 72 (ref := "PrairiePoolModel") cl_8 (Nat.le_of_ble_eq_true rfl) (Or.inl q1699) (Or.inl rfl) dX8_push_22 (fv_8_72 _ _) (ly8_k La0_h36) ?_
      refine mx_ti ((ah_skIA eh36 (by omega)).trans (ah_IJ eh35)) ?_
      refine mx_iconst dX8_push_25 ic_1 ?_
      refine mx_iadd dX8_push_26 ?_
      refine mx_putI 8 72 (ref := "PrairiePoolModel") cl_8 (Nat.le_of_ble_eq_true rfl) (Or.inl q1699) (Or.inl rfl) dX8_push_27 (Or.inl rfl) rfl (ly8_k La0_h36) ?_
      refine mx_nmI  (fun h37 eh37 Xh37 Kh37 Lh37 => ?_)
      have H := H h37 eh37 Xh37
      have Kh37 := Kh37.trans Kh36
      have Lh37 := Lh37.trans Lh36
      have La0_h37 := La0_h36.ext Xh37
      refine mx_vretK rfl dX8_push_30 ?_
      exact mx_vret rfl dX8_both_323 H
  · have H := H.2 c1
    refine mx_lconst dX8_both_231 lc_0 ?_
    refine mx_goto (tgt := 318) dX8_both_232 rfl ?_
    refine mx_iload dX8_both_318 rfl ?_
    refine mx_callV 8 (y' := mi_X8_push) (vs := [jv (0 : Int64), iv z0]) (st := []) (al' := [some (rv a0), some (jv (0 : Int64)), none, some (iv z0)]) cl_8 V_X8_push (Or.inl q2097) dX8_both_320 rfl rfl (Nat.le_of_ble_eq_true rfl) (Nat.le_of_ble_eq_true rfl) (ly8_k La0_h) ?_
    refine mx_aload_n dX8_push_0 rfl rfl ?_
    refine mx_get 8 67 (ref := "PrairiePoolModel") cl_8 (Nat.le_of_ble_eq_true rfl) (Or.inl q1694) (Or.inl rfl) dX8_push_1 (fv_8_67 _ _) (ly8_k La0_h) ?_
    refine mx_tr (ly8_R_0_67 La0_h) ?_
    refine mx_aload_n dX8_push_4 rfl rfl ?_
    refine mx_get 8 72 (ref := "PrairiePoolModel") cl_8 (Nat.le_of_ble_eq_true rfl) (Or.inl q1699) (Or.inl rfl) dX8_push_5 (fv_8_72 _ _) (ly8_k La0_h) ?_
    refine mx_lload_n dX8_push_8 rfl rfl ?_
    obtain ⟨k38, H⟩ := H
    refine my_last dX8_push_9 rfl (ly8_A_44 La0_h k38) ?_
    refine mx_nmJ  (fun h39 eh39 Xh39 Kh39 Lh39 => ?_)
    have H := H h39 eh39 Xh39
    have La0_h39 := La0_h.ext Xh39
    refine mx_aload_n dX8_push_10 rfl rfl ?_
    refine mx_get 8 70 (ref := "PrairiePoolModel") cl_8 (Nat.le_of_ble_eq_true rfl) (Or.inl q1697) (Or.inl rfl) dX8_push_11 (fv_8_70 _ _) (ly8_k La0_h39) ?_
    refine mx_tr (ly8_R_0_70 La0_h39) ?_
    refine mx_aload_n dX8_push_14 rfl rfl ?_
    refine mx_get 8 72 (ref := "PrairiePoolModel") cl_8 (Nat.le_of_ble_eq_true rfl) (Or.inl q1699) (Or.inl rfl) dX8_push_15 (fv_8_72 _ _) (ly8_k La0_h39) ?_
    refine mx_ti (ah_IJ eh39) ?_
    refine mx_iload_n dX8_push_18 rfl rfl ?_
    refine my_zast dX8_push_19 rfl (ly8_A_47 La0_h39 k38) ?_
    refine mx_nmI  (fun h40 eh40 Xh40 Kh40 Lh40 => ?_)
    have H := H h40 eh40 Xh40
    have Kh40 := Kh40.trans Kh39
    have Lh40 := Lh40.trans Lh39
    have La0_h40 := La0_h39.ext Xh40
    refine mx_aload_n dX8_push_20 rfl rfl ?_
    refine mx_dup_r dX8_push_21 ?_
    refine mx_get 8 72 (ref := "PrairiePoolModel") cl_8 (Nat.le_of_ble_eq_true rfl) (Or.inl q1699) (Or.inl rfl) dX8_push_22 (fv_8_72 _ _) (ly8_k La0_h40) ?_
    refine mx_ti ((ah_skIA eh40 (by omega)).trans (ah_IJ eh39)) ?_
    refine mx_iconst dX8_push_25 ic_1 ?_
    refine mx_iadd dX8_push_26 ?_
    refine mx_putI 8 72 (ref := "PrairiePoolModel") cl_8 (Nat.le_of_ble_eq_true rfl) (Or.inl q1699) (Or.inl rfl) dX8_push_27 (Or.inl rfl) rfl (ly8_k La0_h40) ?_
    refine mx_nmI  (fun h41 eh41 Xh41 Kh41 Lh41 => ?_)
    have H := H h41 eh41 Xh41
    have Kh41 := Kh41.trans Kh40
    have Lh41 := Lh41.trans Lh40
    have La0_h41 := La0_h40.ext Xh41
    refine mx_vretK rfl dX8_push_30 ?_
    exact mx_vret rfl dX8_both_323 H
theorem v_X8_both_161 {G : ma_G} {d : Nat} {a0 : Nat} {x2 : Int32} {x7 : Int32} {z0 : Int32} {h : ah_T} {Q : Option ma_V → ah_T → Prop} {E : Nat → ah_T → Prop} (La0_h : LY8 h a0) (H : (¬ x7 = 0 → vp_in (ah_I h a0 72) 600 ∧ ∀ h3 : ah_T, h3 = ah_wJ h (a0 + 44) (ah_I h a0 72).toNatClampNeg (0 : Int64) → ah_ext h h3 → ∀ h4 : ah_T, h4 = ah_wI h3 (a0 + 47) (ah_I h a0 72).toNatClampNeg (vp_nar .boolean (0 : Int32)) → ah_ext h3 h4 → ∀ h5 : ah_T, h5 = ah_wI h4 a0 72 ((ah_I h a0 72) + (1 : Int32)) → ah_ext h4 h5 → Q none h5) ∧ (x7 = 0 → (¬ x2 = (1 : Int32) → (z0 = (0 : Int32) → vp_in (ah_I h a0 72) 600 ∧ ∀ h9 : ah_T, h9 = ah_wJ h (a0 + 44) (ah_I h a0 72).toNatClampNeg (0 : Int64) → ah_ext h h9 → ∀ h10 : ah_T, h10 = ah_wI h9 (a0 + 47) (ah_I h a0 72).toNatClampNeg (vp_nar .boolean (0 : Int32)) → ah_ext h9 h10 → ∀ h11 : ah_T, h11 = ah_wI h10 a0 72 ((ah_I h a0 72) + (1 : Int32)) → ah_ext h10 h11 → Q none h11) ∧ (¬ z0 = (0 : Int32) → vp_in (ah_I h a0 72) 600 ∧ ∀ h13 : ah_T, h13 = ah_wJ h (a0 + 44) (ah_I h a0 72).toNatClampNeg (1 : Int64) → ah_ext h h13 → ∀ h14 : ah_T, h14 = ah_wI h13 (a0 + 47) (ah_I h a0 72).toNatClampNeg (vp_nar .boolean (0 : Int32)) → ah_ext h13 h14 → ∀ h15 : ah_T, h15 = ah_wI h14 a0 72 ((ah_I h a0 72) + (1 : Int32)) → ah_ext h14 h15 → Q none h15)) ∧ (x2 = (1 : Int32) → (z0 = (1 : Int32) → vp_in (ah_I h a0 72) 600 ∧ ∀ h18 : ah_T, h18 = ah_wJ h (a0 + 44) (ah_I h a0 72).toNatClampNeg (0 : Int64) → ah_ext h h18 → ∀ h19 : ah_T, h19 = ah_wI h18 (a0 + 47) (ah_I h a0 72).toNatClampNeg (vp_nar .boolean (0 : Int32)) → ah_ext h18 h19 → ∀ h20 : ah_T, h20 = ah_wI h19 a0 72 ((ah_I h a0 72) + (1 : Int32)) → ah_ext h19 h20 → Q none h20) ∧ (¬ z0 = (1 : Int32) → vp_in (ah_I h a0 72) 600 ∧ ∀ h22 : ah_T, h22 = ah_wJ h (a0 + 44) (ah_I h a0 72).toNatClampNeg (1 : Int64) → ah_ext h h22 → ∀ h23 : ah_T, h23 = ah_wI h22 (a0 + 47) (ah_I h a0 72).toNatClampNeg (vp_nar .boolean (0 : Int32)) → ah_ext h22 h23 → ∀ h24 : ah_T, h24 = ah_wI h23 a0 72 ((ah_I h a0 72) + (1 : Int32)) → ah_ext h23 h24 → Q none h24)))) : MX G mi_X8_both (d + 1) 161 [some (rv a0), none, some (iv x2), none, none, none, none, some (iv x7), none] [iv z0] h Q E := by
  refine mx_istore (al' := [some (rv a0), none, some (iv x2), none, none, none, none, some (iv x7), some (iv z0)]) dX8_both_161 (Nat.le_of_ble_eq_true rfl) rfl ?_
  refine mx_aload_n dX8_both_163 rfl rfl ?_
  refine mx_iload dX8_both_164 rfl ?_
  refine mx_if_ne (tgt := 188) dX8_both_166 rfl (fun c1 => ?_) (fun c1 => ?_)
  · have H := H.1 c1
    refine mx_lconst dX8_both_188 lc_0 ?_
    refine mx_iconst dX8_both_189 ic_0 ?_
    refine mx_callV 8 (y' := mi_X8_push) (vs := [jv (0 : Int64), iv (0 : Int32)]) (st := []) (al' := [some (rv a0), some (jv (0 : Int64)), none, some (iv (0 : Int32))]) cl_8 V_X8_push (Or.inl q2097) dX8_both_190 rfl rfl (Nat.le_of_ble_eq_true rfl) (Nat.le_of_ble_eq_true rfl) (ly8_k La0_h) ?_
    refine mx_aload_n dX8_push_0 rfl rfl ?_
    refine mx_get 8 67 (ref := "PrairiePoolModel") cl_8 (Nat.le_of_ble_eq_true rfl) (Or.inl q1694) (Or.inl rfl) dX8_push_1 (fv_8_67 _ _) (ly8_k La0_h) ?_
    refine mx_tr (ly8_R_0_67 La0_h) ?_
    refine mx_aload_n dX8_push_4 rfl rfl ?_
    refine mx_get 8 72 (ref := "PrairiePoolModel") cl_8 (Nat.le_of_ble_eq_true rfl) (Or.inl q1699) (Or.inl rfl) dX8_push_5 (fv_8_72 _ _) (ly8_k La0_h) ?_
    refine mx_lload_n dX8_push_8 rfl rfl ?_
    obtain ⟨k2, H⟩ := H
    refine my_last dX8_push_9 rfl (ly8_A_44 La0_h k2) ?_
    refine mx_nmJ  (fun h3 eh3 Xh3 Kh3 Lh3 => ?_)
    have H := H h3 eh3 Xh3
    have La0_h3 := La0_h.ext Xh3
    refine mx_aload_n dX8_push_10 rfl rfl ?_
    refine mx_get 8 70 (ref := "PrairiePoolModel") cl_8 (Nat.le_of_ble_eq_true rfl) (Or.inl q1697) (Or.inl rfl) dX8_push_11 (fv_8_70 _ _) (ly8_k La0_h3) ?_
    refine mx_tr (ly8_R_0_70 La0_h3) ?_
    refine mx_aload_n dX8_push_14 rfl rfl ?_
    refine mx_get 8 72 (ref := "PrairiePoolModel") cl_8 (Nat.le_of_ble_eq_true rfl) (Or.inl q1699) (Or.inl rfl) dX8_push_15 (fv_8_72 _ _) (ly8_k La0_h3) ?_
    refine mx_ti (ah_IJ eh3) ?_
    refine mx_iload_n dX8_push_18 rfl rfl ?_
    refine my_zast dX8_push_19 rfl (ly8_A_47 La0_h3 k2) ?_
    refine mx_nmI  (fun h4 eh4 Xh4 Kh4 Lh4 => ?_)
    have H := H h4 eh4 Xh4
    have Kh4 := Kh4.trans Kh3
    have Lh4 := Lh4.trans Lh3
    have La0_h4 := La0_h3.ext Xh4
    refine mx_aload_n dX8_push_20 rfl rfl ?_
    refine mx_dup_r dX8_push_21 ?_
    refine mx_get 8 72 (ref := "PrairiePoolModel") cl_8 (Nat.le_of_ble_eq_true rfl) (Or.inl q1699) (Or.inl rfl) dX8_push_22 (fv_8_72 _ _) (ly8_k La0_h4) ?_
    refine mx_ti ((ah_skIA eh4 (by omega)).trans (ah_IJ eh3)) ?_
    refine mx_iconst dX8_push_25 ic_1 ?_
    refine mx_iadd dX8_push_26 ?_
    refine mx_putI 8 72 (ref := "PrairiePoolModel") cl_8 (Nat.le_of_ble_eq_true rfl) (Or.inl q1699) (Or.inl rfl) dX8_push_27 (Or.inl rfl) rfl (ly8_k La0_h4) ?_
    refine mx_nmI  (fun h5 eh5 Xh5 Kh5 Lh5 => ?_)
    have H := H h5 eh5 Xh5
    have Kh5 := Kh5.trans Kh4
    have Lh5 := Lh5.trans Lh4
    have La0_h5 := La0_h4.ext Xh5
    refine mx_vretK rfl dX8_push_30 ?_
    exact mx_vret rfl dX8_both_193 H
  · have H := H.2 c1
    refine mx_iload dX8_both_169 rfl ?_
    refine mx_iload_n dX8_both_171 rfl rfl ?_
    refine mx_iconst dX8_both_172 ic_1 ?_
    refine mx_icmp_ne (tgt := 180) dX8_both_173 rfl (fun c6 => ?_) (fun c6 => ?_)
    · have H := H.1 c6
      refine mx_iconst dX8_both_180 ic_0 ?_
      refine mx_icmp_eq (tgt := 188) dX8_both_181 rfl (fun c7 => ?_) (fun c7 => ?_)
      · have H := H.1 c7
        refine mx_lconst dX8_both_188 lc_0 ?_
        refine mx_iconst dX8_both_189 ic_0 ?_
        refine mx_callV 8 (y' := mi_X8_push) (vs := [jv (0 : Int64), iv (0 : Int32)]) (st := []) (al' := [some (rv a0), some (jv (0 : Int64)), none, some (iv (0 : Int32))]) cl_8 V_X8_push (Or.inl q2097) dX8_both_190 rfl rfl (Nat.le_of_ble_eq_true rfl) (Nat.le_of_ble_eq_true rfl) (ly8_k La0_h) ?_
        refine mx_aload_n dX8_push_0 rfl rfl ?_
        refine mx_get 8 67 (ref := "PrairiePoolModel") cl_8 (Nat.le_of_ble_eq_true rfl) (Or.inl q1694) (Or.inl rfl) dX8_push_1 (fv_8_67 _ _) (ly8_k La0_h) ?_
        refine mx_tr (ly8_R_0_67 La0_h) ?_
        refine mx_aload_n dX8_push_4 rfl rfl ?_
        refine mx_get 8 72 (ref := "PrairiePoolModel") cl_8 (Nat.le_of_ble_eq_true rfl) (Or.inl q1699) (Or.inl rfl) dX8_push_5 (fv_8_72 _ _) (ly8_k La0_h) ?_
        refine mx_lload_n dX8_push_8 rfl rfl ?_
        obtain ⟨k8, H⟩ := H
        refine my_last dX8_push_9 rfl (ly8_A_44 La0_h k8) ?_
        refine mx_nmJ  (fun h9 eh9 Xh9 Kh9 Lh9 => ?_)
        have H := H h9 eh9 Xh9
        have La0_h9 := La0_h.ext Xh9
        refine mx_aload_n dX8_push_10 rfl rfl ?_
        refine mx_get 8 70 (ref := "PrairiePoolModel") cl_8 (Nat.le_of_ble_eq_true rfl) (Or.inl q1697) (Or.inl rfl) dX8_push_11 (fv_8_70 _ _) (ly8_k La0_h9) ?_
        refine mx_tr (ly8_R_0_70 La0_h9) ?_
        refine mx_aload_n dX8_push_14 rfl rfl ?_
        refine mx_get 8 72 (ref := "PrairiePoolModel") cl_8 (Nat.le_of_ble_eq_true rfl) (Or.inl q1699) (Or.inl rfl) dX8_push_15 (fv_8_72 _ _) (ly8_k La0_h9) ?_
        refine mx_ti (ah_IJ eh9) ?_
        refine mx_iload_n dX8_push_18 rfl rfl ?_
        refine my_zast dX8_push_19 rfl (ly8_A_47 La0_h9 k8) ?_
        refine mx_nmI  (fun h10 eh10 Xh10 Kh10 Lh10 => ?_)
        have H := H h10 eh10 Xh10
        have Kh10 := Kh10.trans Kh9
        have Lh10 := Lh10.trans Lh9
        have La0_h10 := La0_h9.ext Xh10
        refine mx_aload_n dX8_push_20 rfl rfl ?_
        refine mx_dup_r dX8_push_21 ?_
        refine mx_get 8 72 (ref := "PrairiePoolModel") cl_8 (Nat.le_of_ble_eq_true rfl) (Or.inl q1699) (Or.inl rfl) dX8_push_22 (fv_8_72 _ _) (ly8_k La0_h10) ?_
        refine mx_ti ((ah_skIA eh10 (by omega)).trans (ah_IJ eh9)) ?_
        refine mx_iconst dX8_push_25 ic_1 ?_
        refine mx_iadd dX8_push_26 ?_
        refine mx_putI 8 72 (ref := "PrairiePoolModel") cl_8 (Nat.le_of_ble_eq_true rfl) (Or.inl q1699) (Or.inl rfl) dX8_push_27 (Or.inl rfl) rfl (ly8_k La0_h10) ?_
        refine mx_nmI  (fun h11 eh11 Xh11 Kh11 Lh11 => ?_)
        have H := H h11 eh11 Xh11
        have Kh11 := Kh11.trans Kh10
        have Lh11 := Lh11.trans Lh10
        have La0_h11 := La0_h10.ext Xh11
        refine mx_vretK rfl dX8_push_30 ?_
        exact mx_vret rfl dX8_both_193 H
      · have H := H.2 c7
        refine mx_lconst dX8_both_184 lc_1 ?_
        refine mx_goto (tgt := 189) dX8_both_185 rfl ?_
        refine mx_iconst dX8_both_189 ic_0 ?_
        refine mx_callV 8 (y' := mi_X8_push) (vs := [jv (1 : Int64), iv (0 : Int32)]) (st := []) (al' := [some (rv a0), some (jv (1 : Int64)), none, some (iv (0 : Int32))]) cl_8 V_X8_push (Or.inl q2097) dX8_both_190 rfl rfl (Nat.le_of_ble_eq_true rfl) (Nat.le_of_ble_eq_true rfl) (ly8_k La0_h) ?_
        refine mx_aload_n dX8_push_0 rfl rfl ?_
        refine mx_get 8 67 (ref := "PrairiePoolModel") cl_8 (Nat.le_of_ble_eq_true rfl) (Or.inl q1694) (Or.inl rfl) dX8_push_1 (fv_8_67 _ _) (ly8_k La0_h) ?_
        refine mx_tr (ly8_R_0_67 La0_h) ?_
        refine mx_aload_n dX8_push_4 rfl rfl ?_
        refine mx_get 8 72 (ref := "PrairiePoolModel") cl_8 (Nat.le_of_ble_eq_true rfl) (Or.inl q1699) (Or.inl rfl) dX8_push_5 (fv_8_72 _ _) (ly8_k La0_h) ?_
        refine mx_lload_n dX8_push_8 rfl rfl ?_
        obtain ⟨k12, H⟩ := H
        refine my_last dX8_push_9 rfl (ly8_A_44 La0_h k12) ?_
        refine mx_nmJ  (fun h13 eh13 Xh13 Kh13 Lh13 => ?_)
        have H := H h13 eh13 Xh13
        have La0_h13 := La0_h.ext Xh13
        refine mx_aload_n dX8_push_10 rfl rfl ?_
        refine mx_get 8 70 (ref := "PrairiePoolModel") cl_8 (Nat.le_of_ble_eq_true rfl) (Or.inl q1697) (Or.inl rfl) dX8_push_11 (fv_8_70 _ _) (ly8_k La0_h13) ?_
        refine mx_tr (ly8_R_0_70 La0_h13) ?_
        refine mx_aload_n dX8_push_14 rfl rfl ?_
        refine mx_get 8 72 (ref := "PrairiePoolModel") cl_8 (Nat.le_of_ble_eq_true rfl) (Or.inl q1699) (Or.inl rfl) dX8_push_15 (fv_8_72 _ _) (ly8_k La0_h13) ?_
        refine mx_ti (ah_IJ eh13) ?_
        refine mx_iload_n dX8_push_18 rfl rfl ?_
        refine my_zast dX8_push_19 rfl (ly8_A_47 La0_h13 k12) ?_
        refine mx_nmI  (fun h14 eh14 Xh14 Kh14 Lh14 => ?_)
        have H := H h14 eh14 Xh14
        have Kh14 := Kh14.trans Kh13
        have Lh14 := Lh14.trans Lh13
        have La0_h14 := La0_h13.ext Xh14
        refine mx_aload_n dX8_push_20 rfl rfl ?_
        refine mx_dup_r dX8_push_21 ?_
        refine mx_get 8 72 (ref := "PrairiePoolModel") cl_8 (Nat.le_of_ble_eq_true rfl) (Or.inl q1699) (Or.inl rfl) dX8_push_22 (fv_8_72 _ _) (ly8_k La0_h14) ?_
        refine mx_ti ((ah_skIA eh14 (by omega)).trans (ah_IJ eh13)) ?_
        refine mx_iconst dX8_push_25 ic_1 ?_
        refine mx_iadd dX8_push_26 ?_
        refine mx_putI 8 72 (ref := "PrairiePoolModel") cl_8 (Nat.le_of_ble_eq_true rfl) (Or.inl q1699) (Or.inl rfl) dX8_push_27 (Or.inl rfl) rfl (ly8_k La0_h14) ?_
        refine mx_nmI  (fun h15 eh15 Xh15 Kh15 Lh15 => ?_)
        have H := H h15 eh15 Xh15
        have Kh15 := Kh15.trans Kh14
        have Lh15 := Lh15.trans Lh14
        have La0_h15 := La0_h14.ext Xh15
        refine mx_vretK rfl dX8_push_30 ?_
        exact mx_vret rfl dX8_both_193 H
    · have H := H.2 c6
      refine mx_iconst dX8_both_176 ic_1 ?_
      refine mx_goto (tgt := 181) dX8_both_177 rfl ?_
      refine mx_icmp_eq (tgt := 188) dX8_both_181 rfl (fun c16 => ?_) (fun c16 => ?_)
      · have H := H.1 c16
        refine mx_lconst dX8_both_188 lc_0 ?_
        refine mx_iconst dX8_both_189 ic_0 ?_
        refine mx_callV 8 (y' := mi_X8_push) (vs := [jv (0 : Int64), iv (0 : Int32)]) (st := []) (al' := [some (rv a0), some (jv (0 : Int64)), none, some (iv (0 : Int32))]) cl_8 V_X8_push (Or.inl q2097) dX8_both_190 rfl rfl (Nat.le_of_ble_eq_true rfl) (Nat.le_of_ble_eq_true rfl) (ly8_k La0_h) ?_
        refine mx_aload_n dX8_push_0 rfl rfl ?_
        refine mx_get 8 67 (ref := "PrairiePoolModel") cl_8 (Nat.le_of_ble_eq_true rfl) (Or.inl q1694) (Or.inl rfl) dX8_push_1 (fv_8_67 _ _) (ly8_k La0_h) ?_
        refine mx_tr (ly8_R_0_67 La0_h) ?_
        refine mx_aload_n dX8_push_4 rfl rfl ?_
        refine mx_get 8 72 (ref := "PrairiePoolModel") cl_8 (Nat.le_of_ble_eq_true rfl) (Or.inl q1699) (Or.inl rfl) dX8_push_5 (fv_8_72 _ _) (ly8_k La0_h) ?_
        refine mx_lload_n dX8_push_8 rfl rfl ?_
        obtain ⟨k17, H⟩ := H
        refine my_last dX8_push_9 rfl (ly8_A_44 La0_h k17) ?_
        refine mx_nmJ  (fun h18 eh18 Xh18 Kh18 Lh18 => ?_)
        have H := H h18 eh18 Xh18
        have La0_h18 := La0_h.ext Xh18
        refine mx_aload_n dX8_push_10 rfl rfl ?_
        refine mx_get 8 70 (ref := "PrairiePoolModel") cl_8 (Nat.le_of_ble_eq_true rfl) (Or.inl q1697) (Or.inl rfl) dX8_push_11 (fv_8_70 _ _) (ly8_k La0_h18) ?_
        refine mx_tr (ly8_R_0_70 La0_h18) ?_
        refine mx_aload_n dX8_push_14 rfl rfl ?_
        refine mx_get 8 72 (ref := "PrairiePoolModel") cl_8 (Nat.le_of_ble_eq_true rfl) (Or.inl q1699) (Or.inl rfl) dX8_push_15 (fv_8_72 _ _) (ly8_k La0_h18) ?_
        refine mx_ti (ah_IJ eh18) ?_
        refine mx_iload_n dX8_push_18 rfl rfl ?_
        refine my_zast dX8_push_19 rfl (ly8_A_47 La0_h18 k17) ?_
        refine mx_nmI  (fun h19 eh19 Xh19 Kh19 Lh19 => ?_)
        have H := H h19 eh19 Xh19
        have Kh19 := Kh19.trans Kh18
        have Lh19 := Lh19.trans Lh18
        have La0_h19 := La0_h18.ext Xh19
        refine mx_aload_n dX8_push_20 rfl rfl ?_
        refine mx_dup_r dX8_push_21 ?_
        refine mx_get 8 72 (ref := "PrairiePoolModel") cl_8 (Nat.le_of_ble_eq_true rfl) (Or.inl q1699) (Or.inl rfl) dX8_push_22 (fv_8_72 _ _) (ly8_k La0_h19) ?_
        refine mx_ti ((ah_skIA eh19 (by omega)).trans (ah_IJ eh18)) ?_
        refine mx_iconst dX8_push_25 ic_1 ?_
        refine mx_iadd dX8_push_26 ?_
        refine mx_putI 8 72 (ref := "PrairiePoolModel") cl_8 (Nat.le_of_ble_eq_true rfl) (Or.inl q1699) (Or.inl rfl) dX8_push_27 (Or.inl rfl) rfl (ly8_k La0_h19) ?_
        refine mx_nmI  (fun h20 eh20 Xh20 Kh20 Lh20 => ?_)
        have H := H h20 eh20 Xh20
        have Kh20 := Kh20.trans Kh19
        have Lh20 := Lh20.trans Lh19
        have La0_h20 := La0_h19.ext Xh20
        refine mx_vretK rfl dX8_push_30 ?_
        exact mx_vret rfl dX8_both_193 H
      · have H := H.2 c16
        refine mx_lconst dX8_both_184 lc_1 ?_
        refine mx_goto (tgt := 189) dX8_both_185 rfl ?_
        refine mx_iconst dX8_both_189 ic_0 ?_
        refine mx_callV 8 (y' := mi_X8_push) (vs := [jv (1 : Int64), iv (0 : Int32)]) (st := []) (al' := [some (rv a0), some (jv (1 : Int64)), none, some (iv (0 : Int32))]) cl_8 V_X8_push (Or.inl q2097) dX8_both_190 rfl rfl (Nat.le_of_ble_eq_true rfl) (Nat.le_of_ble_eq_true rfl) (ly8_k La0_h) ?_
        refine mx_aload_n dX8_push_0 rfl rfl ?_
        refine mx_get 8 67 (ref := "PrairiePoolModel") cl_8 (Nat.le_of_ble_eq_true rfl) (Or.inl q1694) (Or.inl rfl) dX8_push_1 (fv_8_67 _ _) (ly8_k La0_h) ?_
        refine mx_tr (ly8_R_0_67 La0_h) ?_
        refine mx_aload_n dX8_push_4 rfl rfl ?_
        refine mx_get 8 72 (ref := "PrairiePoolModel") cl_8 (Nat.le_of_ble_eq_true rfl) (Or.inl q1699) (Or.inl rfl) dX8_push_5 (fv_8_72 _ _) (ly8_k La0_h) ?_
        refine mx_lload_n dX8_push_8 rfl rfl ?_
        obtain ⟨k21, H⟩ := H
        refine my_last dX8_push_9 rfl (ly8_A_44 La0_h k21) ?_
        refine mx_nmJ  (fun h22 eh22 Xh22 Kh22 Lh22 => ?_)
        have H := H h22 eh22 Xh22
        have La0_h22 := La0_h.ext Xh22
        refine mx_aload_n dX8_push_10 rfl rfl ?_
        refine mx_get 8 70 (ref := "PrairiePoolModel") cl_8 (Nat.le_of_ble_eq_true rfl) (Or.inl q1697) (Or.inl rfl) dX8_push_11 (fv_8_70 _ _) (ly8_k La0_h22) ?_
        refine mx_tr (ly8_R_0_70 La0_h22) ?_
        refine mx_aload_n dX8_push_14 rfl rfl ?_
        refine mx_get 8 72 (ref := "PrairiePoolModel") cl_8 (Nat.le_of_ble_eq_true rfl) (Or.inl q1699) (Or.inl rfl) dX8_push_15 (fv_8_72 _ _) (ly8_k La0_h22) ?_
        refine mx_ti (ah_IJ eh22) ?_
        refine mx_iload_n dX8_push_18 rfl rfl ?_
        refine my_zast dX8_push_19 rfl (ly8_A_47 La0_h22 k21) ?_
        refine mx_nmI  (fun h23 eh23 Xh23 Kh23 Lh23 => ?_)
        have H := H h23 eh23 Xh23
        have Kh23 := Kh23.trans Kh22
        have Lh23 := Lh23.trans Lh22
        have La0_h23 := La0_h22.ext Xh23
        refine mx_aload_n dX8_push_20 rfl rfl ?_
        refine mx_dup_r dX8_push_21 ?_
        refine mx_get 8 72 (ref := "PrairiePoolModel") cl_8 (Nat.le_of_ble_eq_true rfl) (Or.inl q1699) (Or.inl rfl) dX8_push_22 (fv_8_72 _ _) (ly8_k La0_h23) ?_
        refine mx_ti ((ah_skIA eh23 (by omega)).trans (ah_IJ eh22)) ?_
        refine mx_iconst dX8_push_25 ic_1 ?_
        refine mx_iadd dX8_push_26 ?_
        refine mx_putI 8 72 (ref := "PrairiePoolModel") cl_8 (Nat.le_of_ble_eq_true rfl) (Or.inl q1699) (Or.inl rfl) dX8_push_27 (Or.inl rfl) rfl (ly8_k La0_h23) ?_
        refine mx_nmI  (fun h24 eh24 Xh24 Kh24 Lh24 => ?_)
        have H := H h24 eh24 Xh24
        have Kh24 := Kh24.trans Kh23
        have Lh24 := Lh24.trans Lh23
        have La0_h24 := La0_h23.ext Xh24
        refine mx_vretK rfl dX8_push_30 ?_
        exact mx_vret rfl dX8_both_193 H
theorem dX8_bin_0 : decode mi_X8_bin.2.1 0 = .ok (.aload_n 0, 1) := by decide +kernel
theorem dX8_bin_1 : decode mi_X8_bin.2.1 1 = .ok (.iconst 0, 1) := by decide +kernel
theorem dX8_bin_2 : decode mi_X8_bin.2.1 2 = .ok (.putfield 257, 3) := by decide +kernel
theorem dX8_bin_5 : decode mi_X8_bin.2.1 5 = .ok (.aload_n 0, 1) := by decide +kernel
theorem dX8_bin_6 : decode mi_X8_bin.2.1 6 = .ok (.iconst 0, 1) := by decide +kernel
theorem dX8_bin_7 : decode mi_X8_bin.2.1 7 = .ok (.putfield 260, 3) := by decide +kernel
theorem dX8_bin_10 : decode mi_X8_bin.2.1 10 = .ok (.aload_n 0, 1) := by decide +kernel
theorem dX8_bin_11 : decode mi_X8_bin.2.1 11 = .ok (.iload_n 1, 1) := by decide +kernel
theorem dX8_bin_12 : decode mi_X8_bin.2.1 12 = .ok (.invokevirtual 321, 3) := by decide +kernel
theorem dX8_bin_15 : decode mi_X8_bin.2.1 15 = .ok (.ifCond .eq 19, 3) := by decide +kernel
theorem dX8_bin_18 : decode mi_X8_bin.2.1 18 = .ok (.iload_n 2, 1) := by decide +kernel
theorem dX8_bin_19 : decode mi_X8_bin.2.1 19 = .ok (.invokestatic 332, 3) := by decide +kernel
theorem dX8_bin_22 : decode mi_X8_bin.2.1 22 = .ok (.ifCond .eq 12, 3) := by decide +kernel
theorem dX8_bin_25 : decode mi_X8_bin.2.1 25 = .ok (.aload_n 0, 1) := by decide +kernel
theorem dX8_bin_26 : decode mi_X8_bin.2.1 26 = .ok (.iload 4, 2) := by decide +kernel
theorem dX8_bin_28 : decode mi_X8_bin.2.1 28 = .ok (.invokevirtual 400, 3) := by decide +kernel
theorem dX8_bin_31 : decode mi_X8_bin.2.1 31 = .ok (.ifCond .ne 9, 3) := by decide +kernel
theorem dX8_bin_34 : decode mi_X8_bin.2.1 34 = .ok (.aload_n 0, 1) := by decide +kernel
theorem dX8_bin_35 : decode mi_X8_bin.2.1 35 = .ok (.iconst 2, 1) := by decide +kernel
theorem dX8_bin_36 : decode mi_X8_bin.2.1 36 = .ok (.invokevirtual 297, 3) := by decide +kernel
theorem dX8_bin_39 : decode mi_X8_bin.2.1 39 = .ok (.ireturn, 1) := by decide +kernel
theorem dX8_bin_40 : decode mi_X8_bin.2.1 40 = .ok (.iload_n 3, 1) := by decide +kernel
theorem dX8_bin_41 : decode mi_X8_bin.2.1 41 = .ok (.invokestatic 335, 3) := by decide +kernel
theorem dX8_bin_44 : decode mi_X8_bin.2.1 44 = .ok (.ifCond .eq 11, 3) := by decide +kernel
theorem dX8_bin_47 : decode mi_X8_bin.2.1 47 = .ok (.iload 5, 2) := by decide +kernel
theorem dX8_bin_49 : decode mi_X8_bin.2.1 49 = .ok (.invokestatic 306, 3) := by decide +kernel
theorem dX8_bin_52 : decode mi_X8_bin.2.1 52 = .ok (.ifCond .ne 9, 3) := by decide +kernel
theorem dX8_bin_55 : decode mi_X8_bin.2.1 55 = .ok (.aload_n 0, 1) := by decide +kernel
theorem dX8_bin_56 : decode mi_X8_bin.2.1 56 = .ok (.iconst 5, 1) := by decide +kernel
theorem dX8_bin_57 : decode mi_X8_bin.2.1 57 = .ok (.invokevirtual 297, 3) := by decide +kernel
theorem dX8_bin_60 : decode mi_X8_bin.2.1 60 = .ok (.ireturn, 1) := by decide +kernel
theorem dX8_bin_61 : decode mi_X8_bin.2.1 61 = .ok (.aload_n 0, 1) := by decide +kernel
theorem dX8_bin_62 : decode mi_X8_bin.2.1 62 = .ok (.iload 5, 2) := by decide +kernel
theorem dX8_bin_64 : decode mi_X8_bin.2.1 64 = .ok (.invokevirtual 403, 3) := by decide +kernel
theorem dX8_bin_67 : decode mi_X8_bin.2.1 67 = .ok (.iconst 0, 1) := by decide +kernel
theorem dX8_bin_68 : decode mi_X8_bin.2.1 68 = .ok (.istore 6, 2) := by decide +kernel
theorem dX8_bin_70 : decode mi_X8_bin.2.1 70 = .ok (.iconst 0, 1) := by decide +kernel
theorem dX8_bin_71 : decode mi_X8_bin.2.1 71 = .ok (.istore 7, 2) := by decide +kernel
theorem dX8_bin_73 : decode mi_X8_bin.2.1 73 = .ok (.iload 7, 2) := by decide +kernel
theorem dX8_bin_75 : decode mi_X8_bin.2.1 75 = .ok (.bipush 20, 2) := by decide +kernel
theorem dX8_bin_77 : decode mi_X8_bin.2.1 77 = .ok (.if_icmp .ge 45, 3) := by decide +kernel
theorem dX8_bin_80 : decode mi_X8_bin.2.1 80 = .ok (.iload 6, 2) := by decide +kernel
theorem dX8_bin_82 : decode mi_X8_bin.2.1 82 = .ok (.iload 4, 2) := by decide +kernel
theorem dX8_bin_84 : decode mi_X8_bin.2.1 84 = .ok (.iconst (-1), 1) := by decide +kernel
theorem dX8_bin_85 : decode mi_X8_bin.2.1 85 = .ok (.if_icmp .eq 10, 3) := by decide +kernel
theorem dX8_bin_88 : decode mi_X8_bin.2.1 88 = .ok (.iload 4, 2) := by decide +kernel
theorem dX8_bin_90 : decode mi_X8_bin.2.1 90 = .ok (.iload 7, 2) := by decide +kernel
theorem dX8_bin_92 : decode mi_X8_bin.2.1 92 = .ok (.if_icmp .ne 20, 3) := by decide +kernel
theorem dX8_bin_95 : decode mi_X8_bin.2.1 95 = .ok (.aload_n 0, 1) := by decide +kernel
theorem dX8_bin_96 : decode mi_X8_bin.2.1 96 = .ok (.getfield 77, 3) := by decide +kernel
theorem dX8_bin_99 : decode mi_X8_bin.2.1 99 = .ok (.iload_n 1, 1) := by decide +kernel
theorem dX8_bin_100 : decode mi_X8_bin.2.1 100 = .ok (.iload_n 2, 1) := by decide +kernel
theorem dX8_bin_101 : decode mi_X8_bin.2.1 101 = .ok (.iload_n 3, 1) := by decide +kernel
theorem dX8_bin_102 : decode mi_X8_bin.2.1 102 = .ok (.invokestatic 378, 3) := by decide +kernel
theorem dX8_bin_105 : decode mi_X8_bin.2.1 105 = .ok (.iload 7, 2) := by decide +kernel
theorem dX8_bin_107 : decode mi_X8_bin.2.1 107 = .ok (.iadd, 1) := by decide +kernel
theorem dX8_bin_108 : decode mi_X8_bin.2.1 108 = .ok (.iaload, 1) := by decide +kernel
theorem dX8_bin_109 : decode mi_X8_bin.2.1 109 = .ok (.goto 4, 3) := by decide +kernel
theorem dX8_bin_112 : decode mi_X8_bin.2.1 112 = .ok (.iconst 0, 1) := by decide +kernel
theorem dX8_bin_113 : decode mi_X8_bin.2.1 113 = .ok (.iadd, 1) := by decide +kernel
theorem dX8_bin_114 : decode mi_X8_bin.2.1 114 = .ok (.istore 6, 2) := by decide +kernel
theorem dX8_bin_116 : decode mi_X8_bin.2.1 116 = .ok (.iinc 7 1, 3) := by decide +kernel
theorem dX8_bin_119 : decode mi_X8_bin.2.1 119 = .ok (.goto (-46), 3) := by decide +kernel
theorem dX8_bin_122 : decode mi_X8_bin.2.1 122 = .ok (.iload 6, 2) := by decide +kernel
theorem dX8_bin_124 : decode mi_X8_bin.2.1 124 = .ok (.ireturn, 1) := by decide +kernel
theorem v_X8_bin {G : ma_G} {d : Nat} {a0 : Nat} {x1 : Int32} {x2 : Int32} {x3 : Int32} {x4 : Int32} {x5 : Int32} {h : ah_T} {Q : Option ma_V → ah_T → Prop} {E : Nat → ah_T → Prop} (La0_h : LY8 h a0) (H : ∀ h1 : ah_T, h1 = ah_wI h a0 1 (0 : Int32) → ah_ext h h1 → ∀ h2 : ah_T, h2 = ah_wI h1 a0 0 (0 : Int32) → ah_ext h1 h2 → (x1.toInt64 < (0 : Int64) → ∀ h4 : ah_T, h4 = ah_wI h2 a0 0 (2 : Int32) → ah_ext h2 h4 → Q (some (iv (-1 : Int32))) h4) ∧ (¬ x1.toInt64 < (0 : Int64) → (((ah_I h a0 6) - (1 : Int32)).toInt64 < x1.toInt64 → ∀ h6 : ah_T, h6 = ah_wI h2 a0 0 (2 : Int32) → ah_ext h2 h6 → Q (some (iv (-1 : Int32))) h6) ∧ (¬ ((ah_I h a0 6) - (1 : Int32)).toInt64 < x1.toInt64 → (x2.toInt64 < (0 : Int64) → ∀ h8 : ah_T, h8 = ah_wI h2 a0 0 (2 : Int32) → ah_ext h2 h8 → Q (some (iv (-1 : Int32))) h8) ∧ (¬ x2.toInt64 < (0 : Int64) → ((5 : Int64) < x2.toInt64 → ∀ h10 : ah_T, h10 = ah_wI h2 a0 0 (2 : Int32) → ah_ext h2 h10 → Q (some (iv (-1 : Int32))) h10) ∧ (¬ (5 : Int64) < x2.toInt64 → (x4 = (-1 : Int32) → (x3.toInt64 < (0 : Int64) → ∀ h13 : ah_T, h13 = ah_wI h2 a0 0 (5 : Int32) → ah_ext h2 h13 → Q (some (iv (-1 : Int32))) h13) ∧ (¬ x3.toInt64 < (0 : Int64) → ((9 : Int64) < x3.toInt64 → ∀ h15 : ah_T, h15 = ah_wI h2 a0 0 (5 : Int32) → ah_ext h2 h15 → Q (some (iv (-1 : Int32))) h15) ∧ (¬ (9 : Int64) < x3.toInt64 → (x5.toInt64 < (0 : Int64) → ∀ h17 : ah_T, h17 = ah_wI h2 a0 0 (5 : Int32) → ah_ext h2 h17 → Q (some (iv (-1 : Int32))) h17) ∧ (¬ x5.toInt64 < (0 : Int64) → ((519 : Int64) < x5.toInt64 → ∀ h19 : ah_T, h19 = ah_wI h2 a0 0 (5 : Int32) → ah_ext h2 h19 → Q (some (iv (-1 : Int32))) h19) ∧ (¬ (519 : Int64) < x5.toInt64 → MX G mi_X8_play (d + 2) 0 [some (rv a0), some (iv x5), none] [] h2 (Qv fun h20 => ah_ext h2 h20 → MX G mi_X8_bin (d + 3) 73 [some (rv a0), some (iv x1), some (iv x2), some (iv x3), some (iv x4), none, some (iv (0 : Int32)), some (iv (0 : Int32))] [] h20 Q E) E))))) ∧ (¬ x4 = (-1 : Int32) → (x4.toInt64 < (0 : Int64) → ∀ h23 : ah_T, h23 = ah_wI h2 a0 0 (2 : Int32) → ah_ext h2 h23 → Q (some (iv (-1 : Int32))) h23) ∧ (¬ x4.toInt64 < (0 : Int64) → (((ah_I h a0 5) - (1 : Int32)).toInt64 < x4.toInt64 → ∀ h25 : ah_T, h25 = ah_wI h2 a0 0 (2 : Int32) → ah_ext h2 h25 → Q (some (iv (-1 : Int32))) h25) ∧ (¬ ((ah_I h a0 5) - (1 : Int32)).toInt64 < x4.toInt64 → (x3.toInt64 < (0 : Int64) → ∀ h27 : ah_T, h27 = ah_wI h2 a0 0 (5 : Int32) → ah_ext h2 h27 → Q (some (iv (-1 : Int32))) h27) ∧ (¬ x3.toInt64 < (0 : Int64) → ((9 : Int64) < x3.toInt64 → ∀ h29 : ah_T, h29 = ah_wI h2 a0 0 (5 : Int32) → ah_ext h2 h29 → Q (some (iv (-1 : Int32))) h29) ∧ (¬ (9 : Int64) < x3.toInt64 → (x5.toInt64 < (0 : Int64) → ∀ h31 : ah_T, h31 = ah_wI h2 a0 0 (5 : Int32) → ah_ext h2 h31 → Q (some (iv (-1 : Int32))) h31) ∧ (¬ x5.toInt64 < (0 : Int64) → ((519 : Int64) < x5.toInt64 → ∀ h33 : ah_T, h33 = ah_wI h2 a0 0 (5 : Int32) → ah_ext h2 h33 → Q (some (iv (-1 : Int32))) h33) ∧ (¬ (519 : Int64) < x5.toInt64 → MX G mi_X8_play (d + 2) 0 [some (rv a0), some (iv x5), none] [] h2 (Qv fun h34 => ah_ext h2 h34 → MX G mi_X8_bin (d + 3) 73 [some (rv a0), some (iv x1), some (iv x2), some (iv x3), some (iv x4), none, some (iv (0 : Int32)), some (iv (0 : Int32))] [] h34 Q E) E)))))))))))) : MX G mi_X8_bin (d + 3) 0 [some (rv a0), some (iv x1), some (iv x2), some (iv x3), some (iv x4), some (iv x5), none, none] [] h Q E := by
  refine mx_aload_n dX8_bin_0 rfl rfl ?_
  refine mx_iconst dX8_bin_1 ic_0 ?_
  refine mx_putI 8 1 (ref := "PrairiePoolModel") cl_8 (Nat.le_of_ble_eq_true rfl) (Or.inl q1628) (Or.inl rfl) dX8_bin_2 (Or.inl rfl) rfl (ly8_k La0_h) ?_
  refine mx_nmI  (fun h1 eh1 Xh1 Kh1 Lh1 => ?_)
  have H := H h1 eh1 Xh1
  have La0_h1 := La0_h.ext Xh1
  refine mx_aload_n dX8_bin_5 rfl rfl ?_
  refine mx_iconst dX8_bin_6 ic_0 ?_
  refine mx_putI 8 0 (ref := "PrairiePoolModel") cl_8 (Nat.le_of_ble_eq_true rfl) (Or.inl q1627) (Or.inl rfl) dX8_bin_7 (Or.inl rfl) rfl (ly8_k La0_h1) ?_
  refine mx_nmI  (fun h2 eh2 Xh2 Kh2 Lh2 => ?_)
  have H := H h2 eh2 Xh2
  have Kh2 := Kh2.trans Kh1
  have Lh2 := Lh2.trans Lh1
  have La0_h2 := La0_h1.ext Xh2
  refine mx_aload_n dX8_bin_10 rfl rfl ?_
  refine mx_iload_n dX8_bin_11 rfl rfl ?_
  refine mx_callV 8 (y' := mi_X8_isElevator) (vs := [iv x1]) (st := []) (al' := [some (rv a0), some (iv x1)]) cl_8 V_X8_isElevator (Or.inl q2018) dX8_bin_12 rfl rfl (Nat.le_of_ble_eq_true rfl) (Nat.le_of_ble_eq_true rfl) (ly8_k La0_h2) ?_
  refine mx_iload_n dX8_isElevator_0 rfl rfl ?_
  refine mx_i2l dX8_isElevator_1 ?_
  refine mx_lconst dX8_isElevator_2 lc_0 ?_
  refine mx_aload_n dX8_isElevator_3 rfl rfl ?_
  refine mx_get 8 6 (ref := "PrairiePoolModel") cl_8 (Nat.le_of_ble_eq_true rfl) (Or.inl q1633) (Or.inl rfl) dX8_isElevator_4 (fv_8_6 _ _) (ly8_k La0_h2) ?_
  refine mx_ti ((ah_skIK eh2 (by decide)).trans (ah_skIK eh1 (by decide))) ?_
  refine mx_iconst dX8_isElevator_7 ic_1 ?_
  refine mx_isub dX8_isElevator_8 ?_
  refine mx_i2l dX8_isElevator_9 ?_
  refine mx_callS (y' := mi_X8_isIn) (vs := [jv x1.toInt64, jv (0 : Int64), jv ((ah_I h a0 6) - (1 : Int32)).toInt64]) (st := []) (al' := [some (jv x1.toInt64), none, some (jv (0 : Int64)), none, some (jv ((ah_I h a0 6) - (1 : Int32)).toInt64), none]) S_X8_isIn q1996 dX8_isElevator_10 rfl rfl (Nat.le_of_ble_eq_true rfl) (Nat.le_of_ble_eq_true rfl) ?_
  refine mx_lload_n dX8_isIn_0 rfl rfl ?_
  refine mx_lload_n dX8_isIn_1 rfl rfl ?_
  refine mx_lif_lt (tgt := 17) dX8_isIn_2 dX8_isIn_3 rfl (fun c3 => ?_) (fun c3 => ?_)
  · have H := H.1 c3
    refine mx_iconst dX8_isIn_17 ic_0 ?_
    refine mx_zretK rfl dX8_isIn_18 (Or.inl rfl) ?_
    refine mx_zretK rfl dX8_isElevator_13 (Or.inl rfl) ?_
    refine mx_if_eq (tgt := 34) dX8_bin_15 rfl (fun _ => ?_) (fun _ => absurd ‹_› (by decide))
    refine mx_aload_n dX8_bin_34 rfl rfl ?_
    refine mx_iconst dX8_bin_35 ic_2 ?_
    refine mx_callV 8 (y' := mi_X8_refuse) (vs := [iv (2 : Int32)]) (st := []) (al' := [some (rv a0), some (iv (2 : Int32))]) cl_8 V_X8_refuse (Or.inl q1999) dX8_bin_36 rfl rfl (Nat.le_of_ble_eq_true rfl) (Nat.le_of_ble_eq_true rfl) (ly8_k La0_h2) ?_
    refine mx_aload_n dX8_refuse_0 rfl rfl ?_
    refine mx_iload_n dX8_refuse_1 rfl rfl ?_
    refine mx_putI 8 0 (ref := "PrairiePoolModel") cl_8 (Nat.le_of_ble_eq_true rfl) (Or.inl q1627) (Or.inl rfl) dX8_refuse_2 (Or.inl rfl) rfl (ly8_k La0_h2) ?_
    refine mx_nmI  (fun h4 eh4 Xh4 Kh4 Lh4 => ?_)
    have H := H h4 eh4 Xh4
    have Kh4 := Kh4.trans Kh2
    have Lh4 := Lh4.trans Lh2
    have La0_h4 := La0_h2.ext Xh4
    refine mx_iconst dX8_refuse_5 ic_m1 ?_
    refine mx_iretK rfl dX8_refuse_6 ?_
    exact mx_iret rfl dX8_bin_39 H
  · have H := H.2 c3
    refine mx_lload_n dX8_isIn_6 rfl rfl ?_
    refine mx_lload dX8_isIn_7 rfl ?_
    refine mx_lif_gt (tgt := 17) dX8_isIn_9 dX8_isIn_10 rfl (fun c5 => ?_) (fun c5 => ?_)
    · have H := H.1 c5
      refine mx_iconst dX8_isIn_17 ic_0 ?_
      refine mx_zretK rfl dX8_isIn_18 (Or.inl rfl) ?_
      refine mx_zretK rfl dX8_isElevator_13 (Or.inl rfl) ?_
      refine mx_if_eq (tgt := 34) dX8_bin_15 rfl (fun _ => ?_) (fun _ => absurd ‹_› (by decide))
      refine mx_aload_n dX8_bin_34 rfl rfl ?_
      refine mx_iconst dX8_bin_35 ic_2 ?_
      refine mx_callV 8 (y' := mi_X8_refuse) (vs := [iv (2 : Int32)]) (st := []) (al' := [some (rv a0), some (iv (2 : Int32))]) cl_8 V_X8_refuse (Or.inl q1999) dX8_bin_36 rfl rfl (Nat.le_of_ble_eq_true rfl) (Nat.le_of_ble_eq_true rfl) (ly8_k La0_h2) ?_
      refine mx_aload_n dX8_refuse_0 rfl rfl ?_
      refine mx_iload_n dX8_refuse_1 rfl rfl ?_
      refine mx_putI 8 0 (ref := "PrairiePoolModel") cl_8 (Nat.le_of_ble_eq_true rfl) (Or.inl q1627) (Or.inl rfl) dX8_refuse_2 (Or.inl rfl) rfl (ly8_k La0_h2) ?_
      refine mx_nmI  (fun h6 eh6 Xh6 Kh6 Lh6 => ?_)
      have H := H h6 eh6 Xh6
      have Kh6 := Kh6.trans Kh2
      have Lh6 := Lh6.trans Lh2
      have La0_h6 := La0_h2.ext Xh6
      refine mx_iconst dX8_refuse_5 ic_m1 ?_
      refine mx_iretK rfl dX8_refuse_6 ?_
      exact mx_iret rfl dX8_bin_39 H
    · have H := H.2 c5
      refine mx_iconst dX8_isIn_13 ic_1 ?_
      refine mx_goto (tgt := 18) dX8_isIn_14 rfl ?_
      refine mx_zretK rfl dX8_isIn_18 (Or.inr rfl) ?_
      refine mx_zretK rfl dX8_isElevator_13 (Or.inr rfl) ?_
      refine mx_if_eq (tgt := 34) dX8_bin_15 rfl (fun _ => absurd ‹_› (by decide)) (fun _ => ?_)
      refine mx_iload_n dX8_bin_18 rfl rfl ?_
      refine mx_callS (y' := mi_X8_isGrade) (vs := [iv x2]) (st := []) (al' := [some (iv x2)]) S_X8_isGrade q2036 dX8_bin_19 rfl rfl (Nat.le_of_ble_eq_true rfl) (Nat.le_of_ble_eq_true rfl) ?_
      refine mx_iload_n dX8_isGrade_0 rfl rfl ?_
      refine mx_i2l dX8_isGrade_1 ?_
      refine mx_lconst dX8_isGrade_2 lc_0 ?_
      refine mx_ldc2 q1995 dX8_isGrade_3 ?_
      refine mx_callS (y' := mi_X8_isIn) (vs := [jv x2.toInt64, jv (0 : Int64), jv (5 : Int64)]) (st := []) (al' := [some (jv x2.toInt64), none, some (jv (0 : Int64)), none, some (jv (5 : Int64)), none]) S_X8_isIn q1996 dX8_isGrade_6 rfl rfl (Nat.le_of_ble_eq_true rfl) (Nat.le_of_ble_eq_true rfl) ?_
      refine mx_lload_n dX8_isIn_0 rfl rfl ?_
      refine mx_lload_n dX8_isIn_1 rfl rfl ?_
      refine mx_lif_lt (tgt := 17) dX8_isIn_2 dX8_isIn_3 rfl (fun c7 => ?_) (fun c7 => ?_)
      · have H := H.1 c7
        refine mx_iconst dX8_isIn_17 ic_0 ?_
        refine mx_zretK rfl dX8_isIn_18 (Or.inl rfl) ?_
        refine mx_zretK rfl dX8_isGrade_9 (Or.inl rfl) ?_
        refine mx_if_eq (tgt := 34) dX8_bin_22 rfl (fun _ => ?_) (fun _ => absurd ‹_› (by decide))
        refine mx_aload_n dX8_bin_34 rfl rfl ?_
        refine mx_iconst dX8_bin_35 ic_2 ?_
        refine mx_callV 8 (y' := mi_X8_refuse) (vs := [iv (2 : Int32)]) (st := []) (al' := [some (rv a0), some (iv (2 : Int32))]) cl_8 V_X8_refuse (Or.inl q1999) dX8_bin_36 rfl rfl (Nat.le_of_ble_eq_true rfl) (Nat.le_of_ble_eq_true rfl) (ly8_k La0_h2) ?_
        refine mx_aload_n dX8_refuse_0 rfl rfl ?_
        refine mx_iload_n dX8_refuse_1 rfl rfl ?_
        refine mx_putI 8 0 (ref := "PrairiePoolModel") cl_8 (Nat.le_of_ble_eq_true rfl) (Or.inl q1627) (Or.inl rfl) dX8_refuse_2 (Or.inl rfl) rfl (ly8_k La0_h2) ?_
        refine mx_nmI  (fun h8 eh8 Xh8 Kh8 Lh8 => ?_)
        have H := H h8 eh8 Xh8
        have Kh8 := Kh8.trans Kh2
        have Lh8 := Lh8.trans Lh2
        have La0_h8 := La0_h2.ext Xh8
        refine mx_iconst dX8_refuse_5 ic_m1 ?_
        refine mx_iretK rfl dX8_refuse_6 ?_
        exact mx_iret rfl dX8_bin_39 H
      · have H := H.2 c7
        refine mx_lload_n dX8_isIn_6 rfl rfl ?_
        refine mx_lload dX8_isIn_7 rfl ?_
        refine mx_lif_gt (tgt := 17) dX8_isIn_9 dX8_isIn_10 rfl (fun c9 => ?_) (fun c9 => ?_)
        · have H := H.1 c9
          refine mx_iconst dX8_isIn_17 ic_0 ?_
          refine mx_zretK rfl dX8_isIn_18 (Or.inl rfl) ?_
          refine mx_zretK rfl dX8_isGrade_9 (Or.inl rfl) ?_
          refine mx_if_eq (tgt := 34) dX8_bin_22 rfl (fun _ => ?_) (fun _ => absurd ‹_› (by decide))
          refine mx_aload_n dX8_bin_34 rfl rfl ?_
          refine mx_iconst dX8_bin_35 ic_2 ?_
          refine mx_callV 8 (y' := mi_X8_refuse) (vs := [iv (2 : Int32)]) (st := []) (al' := [some (rv a0), some (iv (2 : Int32))]) cl_8 V_X8_refuse (Or.inl q1999) dX8_bin_36 rfl rfl (Nat.le_of_ble_eq_true rfl) (Nat.le_of_ble_eq_true rfl) (ly8_k La0_h2) ?_
          refine mx_aload_n dX8_refuse_0 rfl rfl ?_
          refine mx_iload_n dX8_refuse_1 rfl rfl ?_
          refine mx_putI 8 0 (ref := "PrairiePoolModel") cl_8 (Nat.le_of_ble_eq_true rfl) (Or.inl q1627) (Or.inl rfl) dX8_refuse_2 (Or.inl rfl) rfl (ly8_k La0_h2) ?_
          refine mx_nmI  (fun h10 eh10 Xh10 Kh10 Lh10 => ?_)
          have H := H h10 eh10 Xh10
          have Kh10 := Kh10.trans Kh2
          have Lh10 := Lh10.trans Lh2
          have La0_h10 := La0_h2.ext Xh10
          refine mx_iconst dX8_refuse_5 ic_m1 ?_
          refine mx_iretK rfl dX8_refuse_6 ?_
          exact mx_iret rfl dX8_bin_39 H
        · have H := H.2 c9
          refine mx_iconst dX8_isIn_13 ic_1 ?_
          refine mx_goto (tgt := 18) dX8_isIn_14 rfl ?_
          refine mx_zretK rfl dX8_isIn_18 (Or.inr rfl) ?_
          refine mx_zretK rfl dX8_isGrade_9 (Or.inr rfl) ?_
          refine mx_if_eq (tgt := 34) dX8_bin_22 rfl (fun _ => absurd ‹_› (by decide)) (fun _ => ?_)
          refine mx_aload_n dX8_bin_25 rfl rfl ?_
          refine mx_iload dX8_bin_26 rfl ?_
          refine mx_callV 8 (y' := mi_X8_isWho) (vs := [iv x4]) (st := []) (al' := [some (rv a0), some (iv x4)]) cl_8 V_X8_isWho (Or.inl q2115) dX8_bin_28 rfl rfl (Nat.le_of_ble_eq_true rfl) (Nat.le_of_ble_eq_true rfl) (ly8_k La0_h2) ?_
          refine mx_iload_n dX8_isWho_0 rfl rfl ?_
          refine mx_iconst dX8_isWho_1 ic_m1 ?_
          refine mx_icmp_eq (tgt := 13) dX8_isWho_2 rfl (fun c11 => ?_) (fun c11 => ?_)
          · have H := H.1 c11
            refine mx_iconst dX8_isWho_13 ic_1 ?_
            refine mx_goto (tgt := 18) dX8_isWho_14 rfl ?_
            refine mx_zretK rfl dX8_isWho_18 (Or.inr rfl) ?_
            refine mx_if_ne (tgt := 40) dX8_bin_31 rfl (fun _ => ?_) (fun _ => absurd ‹_› (by decide))
            refine mx_iload_n dX8_bin_40 rfl rfl ?_
            refine mx_callS (y' := mi_X8_isYear) (vs := [iv x3]) (st := []) (al' := [some (iv x3)]) S_X8_isYear q2039 dX8_bin_41 rfl rfl (Nat.le_of_ble_eq_true rfl) (Nat.le_of_ble_eq_true rfl) ?_
            refine mx_iload_n dX8_isYear_0 rfl rfl ?_
            refine mx_i2l dX8_isYear_1 ?_
            refine mx_lconst dX8_isYear_2 lc_0 ?_
            refine mx_ldc2 q2042 dX8_isYear_3 ?_
            refine mx_callS (y' := mi_X8_isIn) (vs := [jv x3.toInt64, jv (0 : Int64), jv (9 : Int64)]) (st := []) (al' := [some (jv x3.toInt64), none, some (jv (0 : Int64)), none, some (jv (9 : Int64)), none]) S_X8_isIn q1996 dX8_isYear_6 rfl rfl (Nat.le_of_ble_eq_true rfl) (Nat.le_of_ble_eq_true rfl) ?_
            refine mx_lload_n dX8_isIn_0 rfl rfl ?_
            refine mx_lload_n dX8_isIn_1 rfl rfl ?_
            refine mx_lif_lt (tgt := 17) dX8_isIn_2 dX8_isIn_3 rfl (fun c12 => ?_) (fun c12 => ?_)
            · have H := H.1 c12
              refine mx_iconst dX8_isIn_17 ic_0 ?_
              refine mx_zretK rfl dX8_isIn_18 (Or.inl rfl) ?_
              refine mx_zretK rfl dX8_isYear_9 (Or.inl rfl) ?_
              refine mx_if_eq (tgt := 55) dX8_bin_44 rfl (fun _ => ?_) (fun _ => absurd ‹_› (by decide))
              refine mx_aload_n dX8_bin_55 rfl rfl ?_
              refine mx_iconst dX8_bin_56 ic_5 ?_
              refine mx_callV 8 (y' := mi_X8_refuse) (vs := [iv (5 : Int32)]) (st := []) (al' := [some (rv a0), some (iv (5 : Int32))]) cl_8 V_X8_refuse (Or.inl q1999) dX8_bin_57 rfl rfl (Nat.le_of_ble_eq_true rfl) (Nat.le_of_ble_eq_true rfl) (ly8_k La0_h2) ?_
              refine mx_aload_n dX8_refuse_0 rfl rfl ?_
              refine mx_iload_n dX8_refuse_1 rfl rfl ?_
              refine mx_putI 8 0 (ref := "PrairiePoolModel") cl_8 (Nat.le_of_ble_eq_true rfl) (Or.inl q1627) (Or.inl rfl) dX8_refuse_2 (Or.inl rfl) rfl (ly8_k La0_h2) ?_
              refine mx_nmI  (fun h13 eh13 Xh13 Kh13 Lh13 => ?_)
              have H := H h13 eh13 Xh13
              have Kh13 := Kh13.trans Kh2
              have Lh13 := Lh13.trans Lh2
              have La0_h13 := La0_h2.ext Xh13
              refine mx_iconst dX8_refuse_5 ic_m1 ?_
              refine mx_iretK rfl dX8_refuse_6 ?_
              exact mx_iret rfl dX8_bin_60 H
            · have H := H.2 c12
              refine mx_lload_n dX8_isIn_6 rfl rfl ?_
              refine mx_lload dX8_isIn_7 rfl ?_
              refine mx_lif_gt (tgt := 17) dX8_isIn_9 dX8_isIn_10 rfl (fun c14 => ?_) (fun c14 => ?_)
              · have H := H.1 c14
                refine mx_iconst dX8_isIn_17 ic_0 ?_
                refine mx_zretK rfl dX8_isIn_18 (Or.inl rfl) ?_
                refine mx_zretK rfl dX8_isYear_9 (Or.inl rfl) ?_
                refine mx_if_eq (tgt := 55) dX8_bin_44 rfl (fun _ => ?_) (fun _ => absurd ‹_› (by decide))
                refine mx_aload_n dX8_bin_55 rfl rfl ?_
                refine mx_iconst dX8_bin_56 ic_5 ?_
                refine mx_callV 8 (y' := mi_X8_refuse) (vs := [iv (5 : Int32)]) (st := []) (al' := [some (rv a0), some (iv (5 : Int32))]) cl_8 V_X8_refuse (Or.inl q1999) dX8_bin_57 rfl rfl (Nat.le_of_ble_eq_true rfl) (Nat.le_of_ble_eq_true rfl) (ly8_k La0_h2) ?_
                refine mx_aload_n dX8_refuse_0 rfl rfl ?_
                refine mx_iload_n dX8_refuse_1 rfl rfl ?_
                refine mx_putI 8 0 (ref := "PrairiePoolModel") cl_8 (Nat.le_of_ble_eq_true rfl) (Or.inl q1627) (Or.inl rfl) dX8_refuse_2 (Or.inl rfl) rfl (ly8_k La0_h2) ?_
                refine mx_nmI  (fun h15 eh15 Xh15 Kh15 Lh15 => ?_)
                have H := H h15 eh15 Xh15
                have Kh15 := Kh15.trans Kh2
                have Lh15 := Lh15.trans Lh2
                have La0_h15 := La0_h2.ext Xh15
                refine mx_iconst dX8_refuse_5 ic_m1 ?_
                refine mx_iretK rfl dX8_refuse_6 ?_
                exact mx_iret rfl dX8_bin_60 H
              · have H := H.2 c14
                refine mx_iconst dX8_isIn_13 ic_1 ?_
                refine mx_goto (tgt := 18) dX8_isIn_14 rfl ?_
                refine mx_zretK rfl dX8_isIn_18 (Or.inr rfl) ?_
                refine mx_zretK rfl dX8_isYear_9 (Or.inr rfl) ?_
                refine mx_if_eq (tgt := 55) dX8_bin_44 rfl (fun _ => absurd ‹_› (by decide)) (fun _ => ?_)
                refine mx_iload dX8_bin_47 rfl ?_
                refine mx_callS (y' := mi_X8_isDay) (vs := [iv x5]) (st := []) (al' := [some (iv x5)]) S_X8_isDay q2028 dX8_bin_49 rfl rfl (Nat.le_of_ble_eq_true rfl) (Nat.le_of_ble_eq_true rfl) ?_
                refine mx_iload_n dX8_isDay_0 rfl rfl ?_
                refine mx_i2l dX8_isDay_1 ?_
                refine mx_lconst dX8_isDay_2 lc_0 ?_
                refine mx_ldc2 q2031 dX8_isDay_3 ?_
                refine mx_callS (y' := mi_X8_isIn) (vs := [jv x5.toInt64, jv (0 : Int64), jv (519 : Int64)]) (st := []) (al' := [some (jv x5.toInt64), none, some (jv (0 : Int64)), none, some (jv (519 : Int64)), none]) S_X8_isIn q1996 dX8_isDay_6 rfl rfl (Nat.le_of_ble_eq_true rfl) (Nat.le_of_ble_eq_true rfl) ?_
                refine mx_lload_n dX8_isIn_0 rfl rfl ?_
                refine mx_lload_n dX8_isIn_1 rfl rfl ?_
                refine mx_lif_lt (tgt := 17) dX8_isIn_2 dX8_isIn_3 rfl (fun c16 => ?_) (fun c16 => ?_)
                · have H := H.1 c16
                  refine mx_iconst dX8_isIn_17 ic_0 ?_
                  refine mx_zretK rfl dX8_isIn_18 (Or.inl rfl) ?_
                  refine mx_zretK rfl dX8_isDay_9 (Or.inl rfl) ?_
                  refine mx_if_ne (tgt := 61) dX8_bin_52 rfl (fun _ => absurd ‹_› (by decide)) (fun _ => ?_)
                  refine mx_aload_n dX8_bin_55 rfl rfl ?_
                  refine mx_iconst dX8_bin_56 ic_5 ?_
                  refine mx_callV 8 (y' := mi_X8_refuse) (vs := [iv (5 : Int32)]) (st := []) (al' := [some (rv a0), some (iv (5 : Int32))]) cl_8 V_X8_refuse (Or.inl q1999) dX8_bin_57 rfl rfl (Nat.le_of_ble_eq_true rfl) (Nat.le_of_ble_eq_true rfl) (ly8_k La0_h2) ?_
                  refine mx_aload_n dX8_refuse_0 rfl rfl ?_
                  refine mx_iload_n dX8_refuse_1 rfl rfl ?_
                  refine mx_putI 8 0 (ref := "PrairiePoolModel") cl_8 (Nat.le_of_ble_eq_true rfl) (Or.inl q1627) (Or.inl rfl) dX8_refuse_2 (Or.inl rfl) rfl (ly8_k La0_h2) ?_
                  refine mx_nmI  (fun h17 eh17 Xh17 Kh17 Lh17 => ?_)
                  have H := H h17 eh17 Xh17
                  have Kh17 := Kh17.trans Kh2
                  have Lh17 := Lh17.trans Lh2
                  have La0_h17 := La0_h2.ext Xh17
                  refine mx_iconst dX8_refuse_5 ic_m1 ?_
                  refine mx_iretK rfl dX8_refuse_6 ?_
                  exact mx_iret rfl dX8_bin_60 H
                · have H := H.2 c16
                  refine mx_lload_n dX8_isIn_6 rfl rfl ?_
                  refine mx_lload dX8_isIn_7 rfl ?_
                  refine mx_lif_gt (tgt := 17) dX8_isIn_9 dX8_isIn_10 rfl (fun c18 => ?_) (fun c18 => ?_)
                  · have H := H.1 c18
                    refine mx_iconst dX8_isIn_17 ic_0 ?_
                    refine mx_zretK rfl dX8_isIn_18 (Or.inl rfl) ?_
                    refine mx_zretK rfl dX8_isDay_9 (Or.inl rfl) ?_
                    refine mx_if_ne (tgt := 61) dX8_bin_52 rfl (fun _ => absurd ‹_› (by decide)) (fun _ => ?_)
                    refine mx_aload_n dX8_bin_55 rfl rfl ?_
                    refine mx_iconst dX8_bin_56 ic_5 ?_
                    refine mx_callV 8 (y' := mi_X8_refuse) (vs := [iv (5 : Int32)]) (st := []) (al' := [some (rv a0), some (iv (5 : Int32))]) cl_8 V_X8_refuse (Or.inl q1999) dX8_bin_57 rfl rfl (Nat.le_of_ble_eq_true rfl) (Nat.le_of_ble_eq_true rfl) (ly8_k La0_h2) ?_
                    refine mx_aload_n dX8_refuse_0 rfl rfl ?_
                    refine mx_iload_n dX8_refuse_1 rfl rfl ?_
                    refine mx_putI 8 0 (ref := "PrairiePoolModel") cl_8 (Nat.le_of_ble_eq_true rfl) (Or.inl q1627) (Or.inl rfl) dX8_refuse_2 (Or.inl rfl) rfl (ly8_k La0_h2) ?_
                    refine mx_nmI  (fun h19 eh19 Xh19 Kh19 Lh19 => ?_)
                    have H := H h19 eh19 Xh19
                    have Kh19 := Kh19.trans Kh2
                    have Lh19 := Lh19.trans Lh2
                    have La0_h19 := La0_h2.ext Xh19
                    refine mx_iconst dX8_refuse_5 ic_m1 ?_
                    refine mx_iretK rfl dX8_refuse_6 ?_
                    exact mx_iret rfl dX8_bin_60 H
                  · have H := H.2 c18
                    refine mx_iconst dX8_isIn_13 ic_1 ?_
                    refine mx_goto (tgt := 18) dX8_isIn_14 rfl ?_
                    refine mx_zretK rfl dX8_isIn_18 (Or.inr rfl) ?_
                    refine mx_zretK rfl dX8_isDay_9 (Or.inr rfl) ?_
                    refine mx_if_ne (tgt := 61) dX8_bin_52 rfl (fun _ => ?_) (fun _ => absurd ‹_› (by decide))
                    refine mx_aload_n dX8_bin_61 rfl rfl ?_
                    refine mx_iload dX8_bin_62 rfl ?_
                    refine mx_callV 8 (y' := mi_X8_play) (vs := [iv x5]) (st := []) (al' := [some (rv a0), some (iv x5), none]) cl_8 V_X8_play (Or.inl q2119) dX8_bin_64 rfl rfl (Nat.le_of_ble_eq_true rfl) (Nat.le_of_ble_eq_true rfl) (ly8_k La0_h2) ?_
                    refine ma_kv H (fun h20 Xh20 H => ?_) (fun x1 h1 X1 H => mt_out rfl H)
                    have H := H Xh20
                    have La0_h20 := La0_h2.ext Xh20
                    refine mx_iconst dX8_bin_67 ic_0 ?_
                    refine mx_istore (al' := [some (rv a0), some (iv x1), some (iv x2), some (iv x3), some (iv x4), some (iv x5), some (iv (0 : Int32)), none]) dX8_bin_68 (Nat.le_of_ble_eq_true rfl) rfl ?_
                    refine mx_iconst dX8_bin_70 ic_0 ?_
                    refine mx_istore (al' := [some (rv a0), some (iv x1), some (iv x2), some (iv x3), some (iv x4), some (iv x5), some (iv (0 : Int32)), some (iv (0 : Int32))]) dX8_bin_71 (Nat.le_of_ble_eq_true rfl) rfl ?_
                    exact mx_weak (al' := [some (rv a0), some (iv x1), some (iv x2), some (iv x3), some (iv x4), none, some (iv (0 : Int32)), some (iv (0 : Int32))]) ⟨rfl, ⟨rfl, ⟨rfl, ⟨rfl, ⟨rfl, ⟨rfl, ⟨rfl, trivial⟩⟩⟩⟩⟩⟩⟩ H
          · have H := H.2 c11
            refine mx_aload_n dX8_isWho_5 rfl rfl ?_
            refine mx_iload_n dX8_isWho_6 rfl rfl ?_
            refine mx_callV 8 (y' := mi_X8_isFarm) (vs := [iv x4]) (st := []) (al' := [some (rv a0), some (iv x4)]) cl_8 V_X8_isFarm (Or.inl q2014) dX8_isWho_7 rfl rfl (Nat.le_of_ble_eq_true rfl) (Nat.le_of_ble_eq_true rfl) (ly8_k La0_h2) ?_
            refine mx_iload_n dX8_isFarm_0 rfl rfl ?_
            refine mx_i2l dX8_isFarm_1 ?_
            refine mx_lconst dX8_isFarm_2 lc_0 ?_
            refine mx_aload_n dX8_isFarm_3 rfl rfl ?_
            refine mx_get 8 5 (ref := "PrairiePoolModel") cl_8 (Nat.le_of_ble_eq_true rfl) (Or.inl q1632) (Or.inl rfl) dX8_isFarm_4 (fv_8_5 _ _) (ly8_k La0_h2) ?_
            refine mx_ti ((ah_skIK eh2 (by decide)).trans (ah_skIK eh1 (by decide))) ?_
            refine mx_iconst dX8_isFarm_7 ic_1 ?_
            refine mx_isub dX8_isFarm_8 ?_
            refine mx_i2l dX8_isFarm_9 ?_
            refine mx_callS (y' := mi_X8_isIn) (vs := [jv x4.toInt64, jv (0 : Int64), jv ((ah_I h a0 5) - (1 : Int32)).toInt64]) (st := []) (al' := [some (jv x4.toInt64), none, some (jv (0 : Int64)), none, some (jv ((ah_I h a0 5) - (1 : Int32)).toInt64), none]) S_X8_isIn q1996 dX8_isFarm_10 rfl rfl (Nat.le_of_ble_eq_true rfl) (Nat.le_of_ble_eq_true rfl) ?_
            refine mx_lload_n dX8_isIn_0 rfl rfl ?_
            refine mx_lload_n dX8_isIn_1 rfl rfl ?_
            refine mx_lif_lt (tgt := 17) dX8_isIn_2 dX8_isIn_3 rfl (fun c22 => ?_) (fun c22 => ?_)
            · have H := H.1 c22
              refine mx_iconst dX8_isIn_17 ic_0 ?_
              refine mx_zretK rfl dX8_isIn_18 (Or.inl rfl) ?_
              refine mx_zretK rfl dX8_isFarm_13 (Or.inl rfl) ?_
              refine mx_if_eq (tgt := 17) dX8_isWho_10 rfl (fun _ => ?_) (fun _ => absurd ‹_› (by decide))
              refine mx_iconst dX8_isWho_17 ic_0 ?_
              refine mx_zretK rfl dX8_isWho_18 (Or.inl rfl) ?_
              refine mx_if_ne (tgt := 40) dX8_bin_31 rfl (fun _ => absurd ‹_› (by decide)) (fun _ => ?_)
              refine mx_aload_n dX8_bin_34 rfl rfl ?_
              refine mx_iconst dX8_bin_35 ic_2 ?_
              refine mx_callV 8 (y' := mi_X8_refuse) (vs := [iv (2 : Int32)]) (st := []) (al' := [some (rv a0), some (iv (2 : Int32))]) cl_8 V_X8_refuse (Or.inl q1999) dX8_bin_36 rfl rfl (Nat.le_of_ble_eq_true rfl) (Nat.le_of_ble_eq_true rfl) (ly8_k La0_h2) ?_
              refine mx_aload_n dX8_refuse_0 rfl rfl ?_
              refine mx_iload_n dX8_refuse_1 rfl rfl ?_
              refine mx_putI 8 0 (ref := "PrairiePoolModel") cl_8 (Nat.le_of_ble_eq_true rfl) (Or.inl q1627) (Or.inl rfl) dX8_refuse_2 (Or.inl rfl) rfl (ly8_k La0_h2) ?_
              refine mx_nmI  (fun h23 eh23 Xh23 Kh23 Lh23 => ?_)
              have H := H h23 eh23 Xh23
              have Kh23 := Kh23.trans Kh2
              have Lh23 := Lh23.trans Lh2
              have La0_h23 := La0_h2.ext Xh23
              refine mx_iconst dX8_refuse_5 ic_m1 ?_
              refine mx_iretK rfl dX8_refuse_6 ?_
              exact mx_iret rfl dX8_bin_39 H
            · have H := H.2 c22
              refine mx_lload_n dX8_isIn_6 rfl rfl ?_
              refine mx_lload dX8_isIn_7 rfl ?_
              refine mx_lif_gt (tgt := 17) dX8_isIn_9 dX8_isIn_10 rfl (fun c24 => ?_) (fun c24 => ?_)
              · have H := H.1 c24
                refine mx_iconst dX8_isIn_17 ic_0 ?_
                refine mx_zretK rfl dX8_isIn_18 (Or.inl rfl) ?_
                refine mx_zretK rfl dX8_isFarm_13 (Or.inl rfl) ?_
                refine mx_if_eq (tgt := 17) dX8_isWho_10 rfl (fun _ => ?_) (fun _ => absurd ‹_› (by decide))
                refine mx_iconst dX8_isWho_17 ic_0 ?_
                refine mx_zretK rfl dX8_isWho_18 (Or.inl rfl) ?_
                refine mx_if_ne (tgt := 40) dX8_bin_31 rfl (fun _ => absurd ‹_› (by decide)) (fun _ => ?_)
                refine mx_aload_n dX8_bin_34 rfl rfl ?_
                refine mx_iconst dX8_bin_35 ic_2 ?_
                refine mx_callV 8 (y' := mi_X8_refuse) (vs := [iv (2 : Int32)]) (st := []) (al' := [some (rv a0), some (iv (2 : Int32))]) cl_8 V_X8_refuse (Or.inl q1999) dX8_bin_36 rfl rfl (Nat.le_of_ble_eq_true rfl) (Nat.le_of_ble_eq_true rfl) (ly8_k La0_h2) ?_
                refine mx_aload_n dX8_refuse_0 rfl rfl ?_
                refine mx_iload_n dX8_refuse_1 rfl rfl ?_
                refine mx_putI 8 0 (ref := "PrairiePoolModel") cl_8 (Nat.le_of_ble_eq_true rfl) (Or.inl q1627) (Or.inl rfl) dX8_refuse_2 (Or.inl rfl) rfl (ly8_k La0_h2) ?_
                refine mx_nmI  (fun h25 eh25 Xh25 Kh25 Lh25 => ?_)
                have H := H h25 eh25 Xh25
                have Kh25 := Kh25.trans Kh2
                have Lh25 := Lh25.trans Lh2
                have La0_h25 := La0_h2.ext Xh25
                refine mx_iconst dX8_refuse_5 ic_m1 ?_
                refine mx_iretK rfl dX8_refuse_6 ?_
                exact mx_iret rfl dX8_bin_39 H
              · have H := H.2 c24
                refine mx_iconst dX8_isIn_13 ic_1 ?_
                refine mx_goto (tgt := 18) dX8_isIn_14 rfl ?_
                refine mx_zretK rfl dX8_isIn_18 (Or.inr rfl) ?_
                refine mx_zretK rfl dX8_isFarm_13 (Or.inr rfl) ?_
                refine mx_if_eq (tgt := 17) dX8_isWho_10 rfl (fun _ => absurd ‹_› (by decide)) (fun _ => ?_)
                refine mx_iconst dX8_isWho_13 ic_1 ?_
                refine mx_goto (tgt := 18) dX8_isWho_14 rfl ?_
                refine mx_zretK rfl dX8_isWho_18 (Or.inr rfl) ?_
                refine mx_if_ne (tgt := 40) dX8_bin_31 rfl (fun _ => ?_) (fun _ => absurd ‹_› (by decide))
                refine mx_iload_n dX8_bin_40 rfl rfl ?_
                refine mx_callS (y' := mi_X8_isYear) (vs := [iv x3]) (st := []) (al' := [some (iv x3)]) S_X8_isYear q2039 dX8_bin_41 rfl rfl (Nat.le_of_ble_eq_true rfl) (Nat.le_of_ble_eq_true rfl) ?_
                refine mx_iload_n dX8_isYear_0 rfl rfl ?_
                refine mx_i2l dX8_isYear_1 ?_
                refine mx_lconst dX8_isYear_2 lc_0 ?_
                refine mx_ldc2 q2042 dX8_isYear_3 ?_
                refine mx_callS (y' := mi_X8_isIn) (vs := [jv x3.toInt64, jv (0 : Int64), jv (9 : Int64)]) (st := []) (al' := [some (jv x3.toInt64), none, some (jv (0 : Int64)), none, some (jv (9 : Int64)), none]) S_X8_isIn q1996 dX8_isYear_6 rfl rfl (Nat.le_of_ble_eq_true rfl) (Nat.le_of_ble_eq_true rfl) ?_
                refine mx_lload_n dX8_isIn_0 rfl rfl ?_
                refine mx_lload_n dX8_isIn_1 rfl rfl ?_
                refine mx_lif_lt (tgt := 17) dX8_isIn_2 dX8_isIn_3 rfl (fun c26 => ?_) (fun c26 => ?_)
                · have H := H.1 c26
                  refine mx_iconst dX8_isIn_17 ic_0 ?_
                  refine mx_zretK rfl dX8_isIn_18 (Or.inl rfl) ?_
                  refine mx_zretK rfl dX8_isYear_9 (Or.inl rfl) ?_
                  refine mx_if_eq (tgt := 55) dX8_bin_44 rfl (fun _ => ?_) (fun _ => absurd ‹_› (by decide))
                  refine mx_aload_n dX8_bin_55 rfl rfl ?_
                  refine mx_iconst dX8_bin_56 ic_5 ?_
                  refine mx_callV 8 (y' := mi_X8_refuse) (vs := [iv (5 : Int32)]) (st := []) (al' := [some (rv a0), some (iv (5 : Int32))]) cl_8 V_X8_refuse (Or.inl q1999) dX8_bin_57 rfl rfl (Nat.le_of_ble_eq_true rfl) (Nat.le_of_ble_eq_true rfl) (ly8_k La0_h2) ?_
                  refine mx_aload_n dX8_refuse_0 rfl rfl ?_
                  refine mx_iload_n dX8_refuse_1 rfl rfl ?_
                  refine mx_putI 8 0 (ref := "PrairiePoolModel") cl_8 (Nat.le_of_ble_eq_true rfl) (Or.inl q1627) (Or.inl rfl) dX8_refuse_2 (Or.inl rfl) rfl (ly8_k La0_h2) ?_
                  refine mx_nmI  (fun h27 eh27 Xh27 Kh27 Lh27 => ?_)
                  have H := H h27 eh27 Xh27
                  have Kh27 := Kh27.trans Kh2
                  have Lh27 := Lh27.trans Lh2
                  have La0_h27 := La0_h2.ext Xh27
                  refine mx_iconst dX8_refuse_5 ic_m1 ?_
                  refine mx_iretK rfl dX8_refuse_6 ?_
                  exact mx_iret rfl dX8_bin_60 H
                · have H := H.2 c26
                  refine mx_lload_n dX8_isIn_6 rfl rfl ?_
                  refine mx_lload dX8_isIn_7 rfl ?_
                  refine mx_lif_gt (tgt := 17) dX8_isIn_9 dX8_isIn_10 rfl (fun c28 => ?_) (fun c28 => ?_)
                  · have H := H.1 c28
                    refine mx_iconst dX8_isIn_17 ic_0 ?_
                    refine mx_zretK rfl dX8_isIn_18 (Or.inl rfl) ?_
                    refine mx_zretK rfl dX8_isYear_9 (Or.inl rfl) ?_
                    refine mx_if_eq (tgt := 55) dX8_bin_44 rfl (fun _ => ?_) (fun _ => absurd ‹_› (by decide))
                    refine mx_aload_n dX8_bin_55 rfl rfl ?_
                    refine mx_iconst dX8_bin_56 ic_5 ?_
                    refine mx_callV 8 (y' := mi_X8_refuse) (vs := [iv (5 : Int32)]) (st := []) (al' := [some (rv a0), some (iv (5 : Int32))]) cl_8 V_X8_refuse (Or.inl q1999) dX8_bin_57 rfl rfl (Nat.le_of_ble_eq_true rfl) (Nat.le_of_ble_eq_true rfl) (ly8_k La0_h2) ?_
                    refine mx_aload_n dX8_refuse_0 rfl rfl ?_
                    refine mx_iload_n dX8_refuse_1 rfl rfl ?_
                    refine mx_putI 8 0 (ref := "PrairiePoolModel") cl_8 (Nat.le_of_ble_eq_true rfl) (Or.inl q1627) (Or.inl rfl) dX8_refuse_2 (Or.inl rfl) rfl (ly8_k La0_h2) ?_
                    refine mx_nmI  (fun h29 eh29 Xh29 Kh29 Lh29 => ?_)
                    have H := H h29 eh29 Xh29
                    have Kh29 := Kh29.trans Kh2
                    have Lh29 := Lh29.trans Lh2
                    have La0_h29 := La0_h2.ext Xh29
                    refine mx_iconst dX8_refuse_5 ic_m1 ?_
                    refine mx_iretK rfl dX8_refuse_6 ?_
                    exact mx_iret rfl dX8_bin_60 H
                  · have H := H.2 c28
                    refine mx_iconst dX8_isIn_13 ic_1 ?_
                    refine mx_goto (tgt := 18) dX8_isIn_14 rfl ?_
                    refine mx_zretK rfl dX8_isIn_18 (Or.inr rfl) ?_
                    refine mx_zretK rfl dX8_isYear_9 (Or.inr rfl) ?_
                    refine mx_if_eq (tgt := 55) dX8_bin_44 rfl (fun _ => absurd ‹_› (by decide)) (fun _ => ?_)
                    refine mx_iload dX8_bin_47 rfl ?_
                    refine mx_callS (y' := mi_X8_isDay) (vs := [iv x5]) (st := []) (al' := [some (iv x5)]) S_X8_isDay q2028 dX8_bin_49 rfl rfl (Nat.le_of_ble_eq_true rfl) (Nat.le_of_ble_eq_true rfl) ?_
                    refine mx_iload_n dX8_isDay_0 rfl rfl ?_
                    refine mx_i2l dX8_isDay_1 ?_
                    refine mx_lconst dX8_isDay_2 lc_0 ?_
                    refine mx_ldc2 q2031 dX8_isDay_3 ?_
                    refine mx_callS (y' := mi_X8_isIn) (vs := [jv x5.toInt64, jv (0 : Int64), jv (519 : Int64)]) (st := []) (al' := [some (jv x5.toInt64), none, some (jv (0 : Int64)), none, some (jv (519 : Int64)), none]) S_X8_isIn q1996 dX8_isDay_6 rfl rfl (Nat.le_of_ble_eq_true rfl) (Nat.le_of_ble_eq_true rfl) ?_
                    refine mx_lload_n dX8_isIn_0 rfl rfl ?_
                    refine mx_lload_n dX8_isIn_1 rfl rfl ?_
                    refine mx_lif_lt (tgt := 17) dX8_isIn_2 dX8_isIn_3 rfl (fun c30 => ?_) (fun c30 => ?_)
                    · have H := H.1 c30
                      refine mx_iconst dX8_isIn_17 ic_0 ?_
                      refine mx_zretK rfl dX8_isIn_18 (Or.inl rfl) ?_
                      refine mx_zretK rfl dX8_isDay_9 (Or.inl rfl) ?_
                      refine mx_if_ne (tgt := 61) dX8_bin_52 rfl (fun _ => absurd ‹_› (by decide)) (fun _ => ?_)
                      refine mx_aload_n dX8_bin_55 rfl rfl ?_
                      refine mx_iconst dX8_bin_56 ic_5 ?_
                      refine mx_callV 8 (y' := mi_X8_refuse) (vs := [iv (5 : Int32)]) (st := []) (al' := [some (rv a0), some (iv (5 : Int32))]) cl_8 V_X8_refuse (Or.inl q1999) dX8_bin_57 rfl rfl (Nat.le_of_ble_eq_true rfl) (Nat.le_of_ble_eq_true rfl) (ly8_k La0_h2) ?_
                      refine mx_aload_n dX8_refuse_0 rfl rfl ?_
                      refine mx_iload_n dX8_refuse_1 rfl rfl ?_
                      refine mx_putI 8 0 (ref := "PrairiePoolModel") cl_8 (Nat.le_of_ble_eq_true rfl) (Or.inl q1627) (Or.inl rfl) dX8_refuse_2 (Or.inl rfl) rfl (ly8_k La0_h2) ?_
                      refine mx_nmI  (fun h31 eh31 Xh31 Kh31 Lh31 => ?_)
                      have H := H h31 eh31 Xh31
                      have Kh31 := Kh31.trans Kh2
                      have Lh31 := Lh31.trans Lh2
                      have La0_h31 := La0_h2.ext Xh31
                      refine mx_iconst dX8_refuse_5 ic_m1 ?_
                      refine mx_iretK rfl dX8_refuse_6 ?_
                      exact mx_iret rfl dX8_bin_60 H
                    · have H := H.2 c30
                      refine mx_lload_n dX8_isIn_6 rfl rfl ?_
                      refine mx_lload dX8_isIn_7 rfl ?_
                      refine mx_lif_gt (tgt := 17) dX8_isIn_9 dX8_isIn_10 rfl (fun c32 => ?_) (fun c32 => ?_)
                      · have H := H.1 c32
                        refine mx_iconst dX8_isIn_17 ic_0 ?_
                        refine mx_zretK rfl dX8_isIn_18 (Or.inl rfl) ?_
                        refine mx_zretK rfl dX8_isDay_9 (Or.inl rfl) ?_
                        refine mx_if_ne (tgt := 61) dX8_bin_52 rfl (fun _ => absurd ‹_› (by decide)) (fun _ => ?_)
                        refine mx_aload_n dX8_bin_55 rfl rfl ?_
                        refine mx_iconst dX8_bin_56 ic_5 ?_
                        refine mx_callV 8 (y' := mi_X8_refuse) (vs := [iv (5 : Int32)]) (st := []) (al' := [some (rv a0), some (iv (5 : Int32))]) cl_8 V_X8_refuse (Or.inl q1999) dX8_bin_57 rfl rfl (Nat.le_of_ble_eq_true rfl) (Nat.le_of_ble_eq_true rfl) (ly8_k La0_h2) ?_
                        refine mx_aload_n dX8_refuse_0 rfl rfl ?_
                        refine mx_iload_n dX8_refuse_1 rfl rfl ?_
                        refine mx_putI 8 0 (ref := "PrairiePoolModel") cl_8 (Nat.le_of_ble_eq_true rfl) (Or.inl q1627) (Or.inl rfl) dX8_refuse_2 (Or.inl rfl) rfl (ly8_k La0_h2) ?_
                        refine mx_nmI  (fun h33 eh33 Xh33 Kh33 Lh33 => ?_)
                        have H := H h33 eh33 Xh33
                        have Kh33 := Kh33.trans Kh2
                        have Lh33 := Lh33.trans Lh2
                        have La0_h33 := La0_h2.ext Xh33
                        refine mx_iconst dX8_refuse_5 ic_m1 ?_
                        refine mx_iretK rfl dX8_refuse_6 ?_
                        exact mx_iret rfl dX8_bin_60 H
                      · have H := H.2 c32
                        refine mx_iconst dX8_isIn_13 ic_1 ?_
                        refine mx_goto (tgt := 18) dX8_isIn_14 rfl ?_
                        refine mx_zretK rfl dX8_isIn_18 (Or.inr rfl) ?_
                        refine mx_zretK rfl dX8_isDay_9 (Or.inr rfl) ?_
                        refine mx_if_ne (tgt := 61) dX8_bin_52 rfl (fun _ => ?_) (fun _ => absurd ‹_› (by decide))
                        refine mx_aload_n dX8_bin_61 rfl rfl ?_
                        refine mx_iload dX8_bin_62 rfl ?_
                        refine mx_callV 8 (y' := mi_X8_play) (vs := [iv x5]) (st := []) (al' := [some (rv a0), some (iv x5), none]) cl_8 V_X8_play (Or.inl q2119) dX8_bin_64 rfl rfl (Nat.le_of_ble_eq_true rfl) (Nat.le_of_ble_eq_true rfl) (ly8_k La0_h2) ?_
                        refine ma_kv H (fun h34 Xh34 H => ?_) (fun x1 h1 X1 H => mt_out rfl H)
                        have H := H Xh34
                        have La0_h34 := La0_h2.ext Xh34
                        refine mx_iconst dX8_bin_67 ic_0 ?_
                        refine mx_istore (al' := [some (rv a0), some (iv x1), some (iv x2), some (iv x3), some (iv x4), some (iv x5), some (iv (0 : Int32)), none]) dX8_bin_68 (Nat.le_of_ble_eq_true rfl) rfl ?_
                        refine mx_iconst dX8_bin_70 ic_0 ?_
                        refine mx_istore (al' := [some (rv a0), some (iv x1), some (iv x2), some (iv x3), some (iv x4), some (iv x5), some (iv (0 : Int32)), some (iv (0 : Int32))]) dX8_bin_71 (Nat.le_of_ble_eq_true rfl) rfl ?_
                        exact mx_weak (al' := [some (rv a0), some (iv x1), some (iv x2), some (iv x3), some (iv x4), none, some (iv (0 : Int32)), some (iv (0 : Int32))]) ⟨rfl, ⟨rfl, ⟨rfl, ⟨rfl, ⟨rfl, ⟨rfl, ⟨rfl, trivial⟩⟩⟩⟩⟩⟩⟩ H
theorem v_X8_bin_73 {G : ma_G} {d : Nat} {a0 : Nat} {x1 : Int32} {x2 : Int32} {x3 : Int32} {x4 : Int32} {x6 : Int32} {x7 : Int32} {h : ah_T} {Q : Option ma_V → ah_T → Prop} {E : Nat → ah_T → Prop} (La0_h : LY8 h a0) (H : ((20 : Int32) ≤ x7 → Q (some (iv x6)) h) ∧ (¬ (20 : Int32) ≤ x7 → (x4 = (-1 : Int32) → vp_in (((20 : Int32) * (((((6 : Int32) * x1) + x2) * (10 : Int32)) + x3)) + x7) 9600 ∧ MX G mi_X8_bin (d + 3) 73 [some (rv a0), some (iv x1), some (iv x2), some (iv x3), some (iv x4), none, some (iv (x6 + (ah_I h (a0 + 23) (((20 : Int32) * (((((6 : Int32) * x1) + x2) * (10 : Int32)) + x3)) + x7).toNatClampNeg))), some (iv (x7 + (1 : Int32)))] [] h Q E) ∧ (¬ x4 = (-1 : Int32) → (¬ x4 = x7 → MX G mi_X8_bin (d + 3) 73 [some (rv a0), some (iv x1), some (iv x2), some (iv x3), some (iv x4), none, some (iv (x6 + (0 : Int32))), some (iv (x7 + (1 : Int32)))] [] h Q E) ∧ (x4 = x7 → vp_in (((20 : Int32) * (((((6 : Int32) * x1) + x2) * (10 : Int32)) + x3)) + x7) 9600 ∧ MX G mi_X8_bin (d + 3) 73 [some (rv a0), some (iv x1), some (iv x2), some (iv x3), some (iv x4), none, some (iv (x6 + (ah_I h (a0 + 23) (((20 : Int32) * (((((6 : Int32) * x1) + x2) * (10 : Int32)) + x3)) + x7).toNatClampNeg))), some (iv (x7 + (1 : Int32)))] [] h Q E)))) : MX G mi_X8_bin (d + 3) 73 [some (rv a0), some (iv x1), some (iv x2), some (iv x3), some (iv x4), none, some (iv x6), some (iv x7)] [] h Q E := by
  refine mx_iload dX8_bin_73 rfl ?_
  refine mx_bipush dX8_bin_75 ib_20 ?_
  refine mx_icmp_ge (tgt := 122) dX8_bin_77 rfl (fun c1 => ?_) (fun c1 => ?_)
  · have H := H.1 c1
    refine mx_iload dX8_bin_122 rfl ?_
    exact mx_iret rfl dX8_bin_124 H
  · have H := H.2 c1
    refine mx_iload dX8_bin_80 rfl ?_
    refine mx_iload dX8_bin_82 rfl ?_
    refine mx_iconst dX8_bin_84 ic_m1 ?_
    refine mx_icmp_eq (tgt := 95) dX8_bin_85 rfl (fun c2 => ?_) (fun c2 => ?_)
    · have H := H.1 c2
      refine mx_aload_n dX8_bin_95 rfl rfl ?_
      refine mx_get 8 30 (ref := "PrairiePoolModel") cl_8 (Nat.le_of_ble_eq_true rfl) (Or.inl q1657) (Or.inl rfl) dX8_bin_96 (fv_8_30 _ _) (ly8_k La0_h) ?_
      refine mx_tr (ly8_R_0_30 La0_h) ?_
      refine mx_iload_n dX8_bin_99 rfl rfl ?_
      refine mx_iload_n dX8_bin_100 rfl rfl ?_
      refine mx_iload_n dX8_bin_101 rfl rfl ?_
      refine mx_callS (y' := mi_X8_binAt) (vs := [iv x1, iv x2, iv x3]) (st := [rv (a0 + 23), iv x6]) (al' := [some (iv x1), some (iv x2), some (iv x3)]) S_X8_binAt q2131 dX8_bin_102 rfl rfl (Nat.le_of_ble_eq_true rfl) (Nat.le_of_ble_eq_true rfl) ?_
      refine mx_bipush dX8_binAt_0 ib_20 ?_
      refine mx_bipush dX8_binAt_2 ib_6 ?_
      refine mx_iload_n dX8_binAt_4 rfl rfl ?_
      refine mx_imul dX8_binAt_5 ?_
      refine mx_iload_n dX8_binAt_6 rfl rfl ?_
      refine mx_iadd dX8_binAt_7 ?_
      refine mx_bipush dX8_binAt_8 ib_10 ?_
      refine mx_imul dX8_binAt_10 ?_
      refine mx_iload_n dX8_binAt_11 rfl rfl ?_
      refine mx_iadd dX8_binAt_12 ?_
      refine mx_imul dX8_binAt_13 ?_
      refine mx_iretK rfl dX8_binAt_14 ?_
      refine mx_iload dX8_bin_105 rfl ?_
      refine mx_iadd dX8_bin_107 ?_
      obtain ⟨k3, H⟩ := H
      refine my_iald dX8_bin_108 rfl (ly8_A_23 La0_h k3) ?_
      refine mx_goto (tgt := 113) dX8_bin_109 rfl ?_
      refine mx_iadd dX8_bin_113 ?_
      refine mx_istore (al' := [some (rv a0), some (iv x1), some (iv x2), some (iv x3), some (iv x4), none, some (iv (x6 + (ah_I h (a0 + 23) (((20 : Int32) * (((((6 : Int32) * x1) + x2) * (10 : Int32)) + x3)) + x7).toNatClampNeg))), some (iv x7)]) dX8_bin_114 (Nat.le_of_ble_eq_true rfl) rfl ?_
      refine mx_iinc (al' := [some (rv a0), some (iv x1), some (iv x2), some (iv x3), some (iv x4), none, some (iv (x6 + (ah_I h (a0 + 23) (((20 : Int32) * (((((6 : Int32) * x1) + x2) * (10 : Int32)) + x3)) + x7).toNatClampNeg))), some (iv (x7 + (1 : Int32)))]) dX8_bin_116 rfl ic_1 rfl ?_
      refine mx_goto (tgt := 73) dX8_bin_119 rfl ?_
      exact mx_weak (al' := [some (rv a0), some (iv x1), some (iv x2), some (iv x3), some (iv x4), none, some (iv (x6 + (ah_I h (a0 + 23) (((20 : Int32) * (((((6 : Int32) * x1) + x2) * (10 : Int32)) + x3)) + x7).toNatClampNeg))), some (iv (x7 + (1 : Int32)))]) ⟨rfl, ⟨rfl, ⟨rfl, ⟨rfl, ⟨rfl, ⟨rfl, ⟨rfl, trivial⟩⟩⟩⟩⟩⟩⟩ H
    · have H := H.2 c2
      refine mx_iload dX8_bin_88 rfl ?_
      refine mx_iload dX8_bin_90 rfl ?_
      refine mx_icmp_ne (tgt := 112) dX8_bin_92 rfl (fun c4 => ?_) (fun c4 => ?_)
      · have H := H.1 c4
        refine mx_iconst dX8_bin_112 ic_0 ?_
        refine mx_iadd dX8_bin_113 ?_
        refine mx_istore (al' := [some (rv a0), some (iv x1), some (iv x2), some (iv x3), some (iv x4), none, some (iv (x6 + (0 : Int32))), some (iv x7)]) dX8_bin_114 (Nat.le_of_ble_eq_true rfl) rfl ?_
        refine mx_iinc (al' := [some (rv a0), some (iv x1), some (iv x2), some (iv x3), some (iv x4), none, some (iv (x6 + (0 : Int32))), some (iv (x7 + (1 : Int32)))]) dX8_bin_116 rfl ic_1 rfl ?_
        refine mx_goto (tgt := 73) dX8_bin_119 rfl ?_
        exact mx_weak (al' := [some (rv a0), some (iv x1), some (iv x2), some (iv x3), some (iv x4), none, some (iv (x6 + (0 : Int32))), some (iv (x7 + (1 : Int32)))]) ⟨rfl, ⟨rfl, ⟨rfl, ⟨rfl, ⟨rfl, ⟨rfl, ⟨rfl, trivial⟩⟩⟩⟩⟩⟩⟩ H
      · have H := H.2 c4
        refine mx_aload_n dX8_bin_95 rfl rfl ?_
        refine mx_get 8 30 (ref := "PrairiePoolModel") cl_8 (Nat.le_of_ble_eq_true rfl) (Or.inl q1657) (Or.inl rfl) dX8_bin_96 (fv_8_30 _ _) (ly8_k La0_h) ?_
        refine mx_tr (ly8_R_0_30 La0_h) ?_
        refine mx_iload_n dX8_bin_99 rfl rfl ?_
        refine mx_iload_n dX8_bin_100 rfl rfl ?_
        refine mx_iload_n dX8_bin_101 rfl rfl ?_
        refine mx_callS (y' := mi_X8_binAt) (vs := [iv x1, iv x2, iv x3]) (st := [rv (a0 + 23), iv x6]) (al' := [some (iv x1), some (iv x2), some (iv x3)]) S_X8_binAt q2131 dX8_bin_102 rfl rfl (Nat.le_of_ble_eq_true rfl) (Nat.le_of_ble_eq_true rfl) ?_
        refine mx_bipush dX8_binAt_0 ib_20 ?_
        refine mx_bipush dX8_binAt_2 ib_6 ?_
        refine mx_iload_n dX8_binAt_4 rfl rfl ?_
        refine mx_imul dX8_binAt_5 ?_
        refine mx_iload_n dX8_binAt_6 rfl rfl ?_
        refine mx_iadd dX8_binAt_7 ?_
        refine mx_bipush dX8_binAt_8 ib_10 ?_
        refine mx_imul dX8_binAt_10 ?_
        refine mx_iload_n dX8_binAt_11 rfl rfl ?_
        refine mx_iadd dX8_binAt_12 ?_
        refine mx_imul dX8_binAt_13 ?_
        refine mx_iretK rfl dX8_binAt_14 ?_
        refine mx_iload dX8_bin_105 rfl ?_
        refine mx_iadd dX8_bin_107 ?_
        obtain ⟨k5, H⟩ := H
        refine my_iald dX8_bin_108 rfl (ly8_A_23 La0_h k5) ?_
        refine mx_goto (tgt := 113) dX8_bin_109 rfl ?_
        refine mx_iadd dX8_bin_113 ?_
        refine mx_istore (al' := [some (rv a0), some (iv x1), some (iv x2), some (iv x3), some (iv x4), none, some (iv (x6 + (ah_I h (a0 + 23) (((20 : Int32) * (((((6 : Int32) * x1) + x2) * (10 : Int32)) + x3)) + x7).toNatClampNeg))), some (iv x7)]) dX8_bin_114 (Nat.le_of_ble_eq_true rfl) rfl ?_
        refine mx_iinc (al' := [some (rv a0), some (iv x1), some (iv x2), some (iv x3), some (iv x4), none, some (iv (x6 + (ah_I h (a0 + 23) (((20 : Int32) * (((((6 : Int32) * x1) + x2) * (10 : Int32)) + x3)) + x7).toNatClampNeg))), some (iv (x7 + (1 : Int32)))]) dX8_bin_116 rfl ic_1 rfl ?_
        refine mx_goto (tgt := 73) dX8_bin_119 rfl ?_
        exact mx_weak (al' := [some (rv a0), some (iv x1), some (iv x2), some (iv x3), some (iv x4), none, some (iv (x6 + (ah_I h (a0 + 23) (((20 : Int32) * (((((6 : Int32) * x1) + x2) * (10 : Int32)) + x3)) + x7).toNatClampNeg))), some (iv (x7 + (1 : Int32)))]) ⟨rfl, ⟨rfl, ⟨rfl, ⟨rfl, ⟨rfl, ⟨rfl, ⟨rfl, trivial⟩⟩⟩⟩⟩⟩⟩ H
theorem v_X8_isWho {G : ma_G} {d : Nat} {a0 : Nat} {x1 : Int32} {h : ah_T} {Q : Option ma_V → ah_T → Prop} {E : Nat → ah_T → Prop} (La0_h : LY8 h a0) (H : (x1 = (-1 : Int32) → Q (some (iv (1 : Int32))) h) ∧ (¬ x1 = (-1 : Int32) → (x1.toInt64 < (0 : Int64) → Q (some (iv (0 : Int32))) h) ∧ (¬ x1.toInt64 < (0 : Int64) → (((ah_I h a0 5) - (1 : Int32)).toInt64 < x1.toInt64 → Q (some (iv (0 : Int32))) h) ∧ (¬ ((ah_I h a0 5) - (1 : Int32)).toInt64 < x1.toInt64 → Q (some (iv (1 : Int32))) h)))) : MX G mi_X8_isWho (d + 2) 0 [some (rv a0), some (iv x1)] [] h Q E := by
  refine mx_iload_n dX8_isWho_0 rfl rfl ?_
  refine mx_iconst dX8_isWho_1 ic_m1 ?_
  refine mx_icmp_eq (tgt := 13) dX8_isWho_2 rfl (fun c1 => ?_) (fun c1 => ?_)
  · have H := H.1 c1
    refine mx_iconst dX8_isWho_13 ic_1 ?_
    refine mx_goto (tgt := 18) dX8_isWho_14 rfl ?_
    exact mx_zret rfl dX8_isWho_18 (Or.inr rfl) H
  · have H := H.2 c1
    refine mx_aload_n dX8_isWho_5 rfl rfl ?_
    refine mx_iload_n dX8_isWho_6 rfl rfl ?_
    refine mx_callV 8 (y' := mi_X8_isFarm) (vs := [iv x1]) (st := []) (al' := [some (rv a0), some (iv x1)]) cl_8 V_X8_isFarm (Or.inl q2014) dX8_isWho_7 rfl rfl (Nat.le_of_ble_eq_true rfl) (Nat.le_of_ble_eq_true rfl) (ly8_k La0_h) ?_
    refine mx_iload_n dX8_isFarm_0 rfl rfl ?_
    refine mx_i2l dX8_isFarm_1 ?_
    refine mx_lconst dX8_isFarm_2 lc_0 ?_
    refine mx_aload_n dX8_isFarm_3 rfl rfl ?_
    refine mx_get 8 5 (ref := "PrairiePoolModel") cl_8 (Nat.le_of_ble_eq_true rfl) (Or.inl q1632) (Or.inl rfl) dX8_isFarm_4 (fv_8_5 _ _) (ly8_k La0_h) ?_
    refine mx_iconst dX8_isFarm_7 ic_1 ?_
    refine mx_isub dX8_isFarm_8 ?_
    refine mx_i2l dX8_isFarm_9 ?_
    refine mx_callS (y' := mi_X8_isIn) (vs := [jv x1.toInt64, jv (0 : Int64), jv ((ah_I h a0 5) - (1 : Int32)).toInt64]) (st := []) (al' := [some (jv x1.toInt64), none, some (jv (0 : Int64)), none, some (jv ((ah_I h a0 5) - (1 : Int32)).toInt64), none]) S_X8_isIn q1996 dX8_isFarm_10 rfl rfl (Nat.le_of_ble_eq_true rfl) (Nat.le_of_ble_eq_true rfl) ?_
    refine mx_lload_n dX8_isIn_0 rfl rfl ?_
    refine mx_lload_n dX8_isIn_1 rfl rfl ?_
    refine mx_lif_lt (tgt := 17) dX8_isIn_2 dX8_isIn_3 rfl (fun c2 => ?_) (fun c2 => ?_)
    · have H := H.1 c2
      refine mx_iconst dX8_isIn_17 ic_0 ?_
      refine mx_zretK rfl dX8_isIn_18 (Or.inl rfl) ?_
      refine mx_zretK rfl dX8_isFarm_13 (Or.inl rfl) ?_
      refine mx_if_eq (tgt := 17) dX8_isWho_10 rfl (fun _ => ?_) (fun _ => absurd ‹_› (by decide))
      refine mx_iconst dX8_isWho_17 ic_0 ?_
      exact mx_zret rfl dX8_isWho_18 (Or.inl rfl) H
    · have H := H.2 c2
      refine mx_lload_n dX8_isIn_6 rfl rfl ?_
      refine mx_lload dX8_isIn_7 rfl ?_
      refine mx_lif_gt (tgt := 17) dX8_isIn_9 dX8_isIn_10 rfl (fun c3 => ?_) (fun c3 => ?_)
      · have H := H.1 c3
        refine mx_iconst dX8_isIn_17 ic_0 ?_
        refine mx_zretK rfl dX8_isIn_18 (Or.inl rfl) ?_
        refine mx_zretK rfl dX8_isFarm_13 (Or.inl rfl) ?_
        refine mx_if_eq (tgt := 17) dX8_isWho_10 rfl (fun _ => ?_) (fun _ => absurd ‹_› (by decide))
        refine mx_iconst dX8_isWho_17 ic_0 ?_
        exact mx_zret rfl dX8_isWho_18 (Or.inl rfl) H
      · have H := H.2 c3
        refine mx_iconst dX8_isIn_13 ic_1 ?_
        refine mx_goto (tgt := 18) dX8_isIn_14 rfl ?_
        refine mx_zretK rfl dX8_isIn_18 (Or.inr rfl) ?_
        refine mx_zretK rfl dX8_isFarm_13 (Or.inr rfl) ?_
        refine mx_if_eq (tgt := 17) dX8_isWho_10 rfl (fun _ => absurd ‹_› (by decide)) (fun _ => ?_)
        refine mx_iconst dX8_isWho_13 ic_1 ?_
        refine mx_goto (tgt := 18) dX8_isWho_14 rfl ?_
        exact mx_zret rfl dX8_isWho_18 (Or.inr rfl) H
theorem dX8_play_0 : decode mi_X8_play.2.1 0 = .ok (.iconst 0, 1) := by decide +kernel
theorem dX8_play_1 : decode mi_X8_play.2.1 1 = .ok (.istore_n 2, 1) := by decide +kernel
theorem dX8_play_2 : decode mi_X8_play.2.1 2 = .ok (.iload_n 2, 1) := by decide +kernel
theorem dX8_play_3 : decode mi_X8_play.2.1 3 = .ok (.sipush 9600, 3) := by decide +kernel
theorem dX8_play_6 : decode mi_X8_play.2.1 6 = .ok (.if_icmp .ge 16, 3) := by decide +kernel
theorem dX8_play_9 : decode mi_X8_play.2.1 9 = .ok (.aload_n 0, 1) := by decide +kernel
theorem dX8_play_10 : decode mi_X8_play.2.1 10 = .ok (.getfield 77, 3) := by decide +kernel
theorem dX8_play_13 : decode mi_X8_play.2.1 13 = .ok (.iload_n 2, 1) := by decide +kernel
theorem dX8_play_14 : decode mi_X8_play.2.1 14 = .ok (.iconst 0, 1) := by decide +kernel
theorem dX8_play_15 : decode mi_X8_play.2.1 15 = .ok (.iastore, 1) := by decide +kernel
theorem dX8_play_16 : decode mi_X8_play.2.1 16 = .ok (.iinc 2 1, 3) := by decide +kernel
theorem dX8_play_19 : decode mi_X8_play.2.1 19 = .ok (.goto (-17), 3) := by decide +kernel
theorem dX8_play_22 : decode mi_X8_play.2.1 22 = .ok (.iconst 0, 1) := by decide +kernel
theorem dX8_play_23 : decode mi_X8_play.2.1 23 = .ok (.istore_n 2, 1) := by decide +kernel
theorem dX8_play_24 : decode mi_X8_play.2.1 24 = .ok (.iload_n 2, 1) := by decide +kernel
theorem dX8_play_25 : decode mi_X8_play.2.1 25 = .ok (.sipush 2400, 3) := by decide +kernel
theorem dX8_play_28 : decode mi_X8_play.2.1 28 = .ok (.if_icmp .ge 16, 3) := by decide +kernel
theorem dX8_play_31 : decode mi_X8_play.2.1 31 = .ok (.aload_n 0, 1) := by decide +kernel
theorem dX8_play_32 : decode mi_X8_play.2.1 32 = .ok (.getfield 80, 3) := by decide +kernel
theorem dX8_play_35 : decode mi_X8_play.2.1 35 = .ok (.iload_n 2, 1) := by decide +kernel
theorem dX8_play_36 : decode mi_X8_play.2.1 36 = .ok (.iconst 0, 1) := by decide +kernel
theorem dX8_play_37 : decode mi_X8_play.2.1 37 = .ok (.iastore, 1) := by decide +kernel
theorem dX8_play_38 : decode mi_X8_play.2.1 38 = .ok (.iinc 2 1, 3) := by decide +kernel
theorem dX8_play_41 : decode mi_X8_play.2.1 41 = .ok (.goto (-17), 3) := by decide +kernel
theorem dX8_play_44 : decode mi_X8_play.2.1 44 = .ok (.iconst 0, 1) := by decide +kernel
theorem dX8_play_45 : decode mi_X8_play.2.1 45 = .ok (.istore_n 2, 1) := by decide +kernel
theorem dX8_play_46 : decode mi_X8_play.2.1 46 = .ok (.iload_n 2, 1) := by decide +kernel
theorem dX8_play_47 : decode mi_X8_play.2.1 47 = .ok (.bipush 20, 2) := by decide +kernel
theorem dX8_play_49 : decode mi_X8_play.2.1 49 = .ok (.if_icmp .ge 37, 3) := by decide +kernel
theorem dX8_play_52 : decode mi_X8_play.2.1 52 = .ok (.aload_n 0, 1) := by decide +kernel
theorem dX8_play_53 : decode mi_X8_play.2.1 53 = .ok (.getfield 92, 3) := by decide +kernel
theorem dX8_play_56 : decode mi_X8_play.2.1 56 = .ok (.iload_n 2, 1) := by decide +kernel
theorem dX8_play_57 : decode mi_X8_play.2.1 57 = .ok (.iconst 0, 1) := by decide +kernel
theorem dX8_play_58 : decode mi_X8_play.2.1 58 = .ok (.iastore, 1) := by decide +kernel
theorem dX8_play_59 : decode mi_X8_play.2.1 59 = .ok (.aload_n 0, 1) := by decide +kernel
theorem dX8_play_60 : decode mi_X8_play.2.1 60 = .ok (.getfield 95, 3) := by decide +kernel
theorem dX8_play_63 : decode mi_X8_play.2.1 63 = .ok (.iload_n 2, 1) := by decide +kernel
theorem dX8_play_64 : decode mi_X8_play.2.1 64 = .ok (.iconst 0, 1) := by decide +kernel
theorem dX8_play_65 : decode mi_X8_play.2.1 65 = .ok (.iastore, 1) := by decide +kernel
theorem dX8_play_66 : decode mi_X8_play.2.1 66 = .ok (.aload_n 0, 1) := by decide +kernel
theorem dX8_play_67 : decode mi_X8_play.2.1 67 = .ok (.getfield 98, 3) := by decide +kernel
theorem dX8_play_70 : decode mi_X8_play.2.1 70 = .ok (.iload_n 2, 1) := by decide +kernel
theorem dX8_play_71 : decode mi_X8_play.2.1 71 = .ok (.iconst 0, 1) := by decide +kernel
theorem dX8_play_72 : decode mi_X8_play.2.1 72 = .ok (.iastore, 1) := by decide +kernel
theorem dX8_play_73 : decode mi_X8_play.2.1 73 = .ok (.aload_n 0, 1) := by decide +kernel
theorem dX8_play_74 : decode mi_X8_play.2.1 74 = .ok (.getfield 101, 3) := by decide +kernel
theorem dX8_play_77 : decode mi_X8_play.2.1 77 = .ok (.iload_n 2, 1) := by decide +kernel
theorem dX8_play_78 : decode mi_X8_play.2.1 78 = .ok (.iconst 0, 1) := by decide +kernel
theorem dX8_play_79 : decode mi_X8_play.2.1 79 = .ok (.iastore, 1) := by decide +kernel
theorem dX8_play_80 : decode mi_X8_play.2.1 80 = .ok (.iinc 2 1, 3) := by decide +kernel
theorem dX8_play_83 : decode mi_X8_play.2.1 83 = .ok (.goto (-37), 3) := by decide +kernel
theorem dX8_play_86 : decode mi_X8_play.2.1 86 = .ok (.aload_n 0, 1) := by decide +kernel
theorem dX8_play_87 : decode mi_X8_play.2.1 87 = .ok (.iconst 0, 1) := by decide +kernel
theorem dX8_play_88 : decode mi_X8_play.2.1 88 = .ok (.putfield 371, 3) := by decide +kernel
theorem dX8_play_91 : decode mi_X8_play.2.1 91 = .ok (.iconst 0, 1) := by decide +kernel
theorem dX8_play_92 : decode mi_X8_play.2.1 92 = .ok (.istore_n 2, 1) := by decide +kernel
theorem dX8_play_93 : decode mi_X8_play.2.1 93 = .ok (.iload_n 2, 1) := by decide +kernel
theorem dX8_play_94 : decode mi_X8_play.2.1 94 = .ok (.aload_n 0, 1) := by decide +kernel
theorem dX8_play_95 : decode mi_X8_play.2.1 95 = .ok (.getfield 309, 3) := by decide +kernel
theorem dX8_play_98 : decode mi_X8_play.2.1 98 = .ok (.if_icmp .ge 59, 3) := by decide +kernel
theorem dX8_play_101 : decode mi_X8_play.2.1 101 = .ok (.aload_n 0, 1) := by decide +kernel
theorem dX8_play_102 : decode mi_X8_play.2.1 102 = .ok (.getfield 83, 3) := by decide +kernel
theorem dX8_play_105 : decode mi_X8_play.2.1 105 = .ok (.iload_n 2, 1) := by decide +kernel
theorem dX8_play_106 : decode mi_X8_play.2.1 106 = .ok (.iconst 0, 1) := by decide +kernel
theorem dX8_play_107 : decode mi_X8_play.2.1 107 = .ok (.iastore, 1) := by decide +kernel
theorem dX8_play_108 : decode mi_X8_play.2.1 108 = .ok (.aload_n 0, 1) := by decide +kernel
theorem dX8_play_109 : decode mi_X8_play.2.1 109 = .ok (.getfield 86, 3) := by decide +kernel
theorem dX8_play_112 : decode mi_X8_play.2.1 112 = .ok (.iload_n 2, 1) := by decide +kernel
theorem dX8_play_113 : decode mi_X8_play.2.1 113 = .ok (.iconst 0, 1) := by decide +kernel
theorem dX8_play_114 : decode mi_X8_play.2.1 114 = .ok (.iastore, 1) := by decide +kernel
theorem dX8_play_115 : decode mi_X8_play.2.1 115 = .ok (.aload_n 0, 1) := by decide +kernel
theorem dX8_play_116 : decode mi_X8_play.2.1 116 = .ok (.getfield 62, 3) := by decide +kernel
theorem dX8_play_119 : decode mi_X8_play.2.1 119 = .ok (.iload_n 2, 1) := by decide +kernel
theorem dX8_play_120 : decode mi_X8_play.2.1 120 = .ok (.iaload, 1) := by decide +kernel
theorem dX8_play_121 : decode mi_X8_play.2.1 121 = .ok (.iload_n 1, 1) := by decide +kernel
theorem dX8_play_122 : decode mi_X8_play.2.1 122 = .ok (.if_icmp .le 6, 3) := by decide +kernel
theorem dX8_play_125 : decode mi_X8_play.2.1 125 = .ok (.goto 26, 3) := by decide +kernel
theorem dX8_play_128 : decode mi_X8_play.2.1 128 = .ok (.aload_n 0, 1) := by decide +kernel
theorem dX8_play_129 : decode mi_X8_play.2.1 129 = .ok (.getfield 35, 3) := by decide +kernel
theorem dX8_play_132 : decode mi_X8_play.2.1 132 = .ok (.iload_n 2, 1) := by decide +kernel
theorem dX8_play_133 : decode mi_X8_play.2.1 133 = .ok (.iaload, 1) := by decide +kernel
theorem dX8_play_134 : decode mi_X8_play.2.1 134 = .ok (.ifCond .ne 12, 3) := by decide +kernel
theorem dX8_play_137 : decode mi_X8_play.2.1 137 = .ok (.aload_n 0, 1) := by decide +kernel
theorem dX8_play_138 : decode mi_X8_play.2.1 138 = .ok (.iload_n 2, 1) := by decide +kernel
theorem dX8_play_139 : decode mi_X8_play.2.1 139 = .ok (.iload_n 1, 1) := by decide +kernel
theorem dX8_play_140 : decode mi_X8_play.2.1 140 = .ok (.invokevirtual 382, 3) := by decide +kernel
theorem dX8_play_143 : decode mi_X8_play.2.1 143 = .ok (.goto 8, 3) := by decide +kernel
theorem dX8_play_146 : decode mi_X8_play.2.1 146 = .ok (.aload_n 0, 1) := by decide +kernel
theorem dX8_play_147 : decode mi_X8_play.2.1 147 = .ok (.iload_n 2, 1) := by decide +kernel
theorem dX8_play_148 : decode mi_X8_play.2.1 148 = .ok (.invokevirtual 386, 3) := by decide +kernel
theorem dX8_play_151 : decode mi_X8_play.2.1 151 = .ok (.iinc 2 1, 3) := by decide +kernel
theorem dX8_play_154 : decode mi_X8_play.2.1 154 = .ok (.goto (-61), 3) := by decide +kernel
theorem dX8_play_157 : decode mi_X8_play.2.1 157 = .ok (.return_, 1) := by decide +kernel
theorem v_X8_play {G : ma_G} {d : Nat} {a0 : Nat} {x1 : Int32} {h : ah_T} {Q : Option ma_V → ah_T → Prop} {E : Nat → ah_T → Prop} (La0_h : LY8 h a0) (H : MX G mi_X8_play (d + 1) 2 [some (rv a0), some (iv x1), some (iv (0 : Int32))] [] h Q E) : MX G mi_X8_play (d + 1) 0 [some (rv a0), some (iv x1), none] [] h Q E := by
  refine mx_iconst dX8_play_0 ic_0 ?_
  refine mx_istore_n (al' := [some (rv a0), some (iv x1), some (iv (0 : Int32))]) dX8_play_1 rfl (Nat.le_of_ble_eq_true rfl) rfl ?_
  exact mx_weak (al' := [some (rv a0), some (iv x1), some (iv (0 : Int32))]) ⟨rfl, ⟨rfl, ⟨rfl, trivial⟩⟩⟩ H
theorem v_X8_play_2 {G : ma_G} {d : Nat} {a0 : Nat} {x1 : Int32} {x2 : Int32} {h : ah_T} {Q : Option ma_V → ah_T → Prop} {E : Nat → ah_T → Prop} (La0_h : LY8 h a0) (H : ((9600 : Int32) ≤ x2 → MX G mi_X8_play (d + 1) 24 [some (rv a0), some (iv x1), some (iv (0 : Int32))] [] h Q E) ∧ (¬ (9600 : Int32) ≤ x2 → vp_in x2 9600 ∧ ∀ h3 : ah_T, h3 = ah_wI h (a0 + 23) x2.toNatClampNeg (0 : Int32) → ah_ext h h3 → MX G mi_X8_play (d + 1) 2 [some (rv a0), some (iv x1), some (iv (x2 + (1 : Int32)))] [] h3 Q E)) : MX G mi_X8_play (d + 1) 2 [some (rv a0), some (iv x1), some (iv x2)] [] h Q E := by
  refine mx_iload_n dX8_play_2 rfl rfl ?_
  refine mx_sipush dX8_play_3 is_9600 ?_
  refine mx_icmp_ge (tgt := 22) dX8_play_6 rfl (fun c1 => ?_) (fun c1 => ?_)
  · have H := H.1 c1
    refine mx_iconst dX8_play_22 ic_0 ?_
    refine mx_istore_n (al' := [some (rv a0), some (iv x1), some (iv (0 : Int32))]) dX8_play_23 rfl (Nat.le_of_ble_eq_true rfl) rfl ?_
    exact mx_weak (al' := [some (rv a0), some (iv x1), some (iv (0 : Int32))]) ⟨rfl, ⟨rfl, ⟨rfl, trivial⟩⟩⟩ H
  · have H := H.2 c1
    refine mx_aload_n dX8_play_9 rfl rfl ?_
    refine mx_get 8 30 (ref := "PrairiePoolModel") cl_8 (Nat.le_of_ble_eq_true rfl) (Or.inl q1657) (Or.inl rfl) dX8_play_10 (fv_8_30 _ _) (ly8_k La0_h) ?_
    refine mx_tr (ly8_R_0_30 La0_h) ?_
    refine mx_iload_n dX8_play_13 rfl rfl ?_
    refine mx_iconst dX8_play_14 ic_0 ?_
    obtain ⟨k2, H⟩ := H
    refine my_iast dX8_play_15 rfl (ly8_A_23 La0_h k2) ?_
    refine mx_nmI  (fun h3 eh3 Xh3 Kh3 Lh3 => ?_)
    have H := H h3 eh3 Xh3
    have La0_h3 := La0_h.ext Xh3
    refine mx_iinc (al' := [some (rv a0), some (iv x1), some (iv (x2 + (1 : Int32)))]) dX8_play_16 rfl ic_1 rfl ?_
    refine mx_goto (tgt := 2) dX8_play_19 rfl ?_
    exact mx_weak (al' := [some (rv a0), some (iv x1), some (iv (x2 + (1 : Int32)))]) ⟨rfl, ⟨rfl, ⟨rfl, trivial⟩⟩⟩ H
theorem v_X8_play_24 {G : ma_G} {d : Nat} {a0 : Nat} {x1 : Int32} {x2 : Int32} {h : ah_T} {Q : Option ma_V → ah_T → Prop} {E : Nat → ah_T → Prop} (La0_h : LY8 h a0) (H : ((2400 : Int32) ≤ x2 → MX G mi_X8_play (d + 1) 46 [some (rv a0), some (iv x1), some (iv (0 : Int32))] [] h Q E) ∧ (¬ (2400 : Int32) ≤ x2 → vp_in x2 2400 ∧ ∀ h3 : ah_T, h3 = ah_wI h (a0 + 24) x2.toNatClampNeg (0 : Int32) → ah_ext h h3 → MX G mi_X8_play (d + 1) 24 [some (rv a0), some (iv x1), some (iv (x2 + (1 : Int32)))] [] h3 Q E)) : MX G mi_X8_play (d + 1) 24 [some (rv a0), some (iv x1), some (iv x2)] [] h Q E := by
  refine mx_iload_n dX8_play_24 rfl rfl ?_
  refine mx_sipush dX8_play_25 is_2400 ?_
  refine mx_icmp_ge (tgt := 44) dX8_play_28 rfl (fun c1 => ?_) (fun c1 => ?_)
  · have H := H.1 c1
    refine mx_iconst dX8_play_44 ic_0 ?_
    refine mx_istore_n (al' := [some (rv a0), some (iv x1), some (iv (0 : Int32))]) dX8_play_45 rfl (Nat.le_of_ble_eq_true rfl) rfl ?_
    exact mx_weak (al' := [some (rv a0), some (iv x1), some (iv (0 : Int32))]) ⟨rfl, ⟨rfl, ⟨rfl, trivial⟩⟩⟩ H
  · have H := H.2 c1
    refine mx_aload_n dX8_play_31 rfl rfl ?_
    refine mx_get 8 31 (ref := "PrairiePoolModel") cl_8 (Nat.le_of_ble_eq_true rfl) (Or.inl q1658) (Or.inl rfl) dX8_play_32 (fv_8_31 _ _) (ly8_k La0_h) ?_
    refine mx_tr (ly8_R_0_31 La0_h) ?_
    refine mx_iload_n dX8_play_35 rfl rfl ?_
    refine mx_iconst dX8_play_36 ic_0 ?_
    obtain ⟨k2, H⟩ := H
    refine my_iast dX8_play_37 rfl (ly8_A_24 La0_h k2) ?_
    refine mx_nmI  (fun h3 eh3 Xh3 Kh3 Lh3 => ?_)
    have H := H h3 eh3 Xh3
    have La0_h3 := La0_h.ext Xh3
    refine mx_iinc (al' := [some (rv a0), some (iv x1), some (iv (x2 + (1 : Int32)))]) dX8_play_38 rfl ic_1 rfl ?_
    refine mx_goto (tgt := 24) dX8_play_41 rfl ?_
    exact mx_weak (al' := [some (rv a0), some (iv x1), some (iv (x2 + (1 : Int32)))]) ⟨rfl, ⟨rfl, ⟨rfl, trivial⟩⟩⟩ H
theorem v_X8_play_46 {G : ma_G} {d : Nat} {a0 : Nat} {x1 : Int32} {x2 : Int32} {h : ah_T} {Q : Option ma_V → ah_T → Prop} {E : Nat → ah_T → Prop} (La0_h : LY8 h a0) (H : ((20 : Int32) ≤ x2 → ∀ h2 : ah_T, h2 = ah_wI h a0 39 (0 : Int32) → ah_ext h h2 → MX G mi_X8_play (d + 1) 93 [some (rv a0), some (iv x1), some (iv (0 : Int32))] [] h2 Q E) ∧ (¬ (20 : Int32) ≤ x2 → vp_in x2 20 ∧ ∀ h4 : ah_T, h4 = ah_wI h (a0 + 28) x2.toNatClampNeg (0 : Int32) → ah_ext h h4 → ∀ h5 : ah_T, h5 = ah_wI h4 (a0 + 29) x2.toNatClampNeg (0 : Int32) → ah_ext h4 h5 → ∀ h6 : ah_T, h6 = ah_wI h5 (a0 + 30) x2.toNatClampNeg (0 : Int32) → ah_ext h5 h6 → ∀ h7 : ah_T, h7 = ah_wI h6 (a0 + 31) x2.toNatClampNeg (0 : Int32) → ah_ext h6 h7 → MX G mi_X8_play (d + 1) 46 [some (rv a0), some (iv x1), some (iv (x2 + (1 : Int32)))] [] h7 Q E)) : MX G mi_X8_play (d + 1) 46 [some (rv a0), some (iv x1), some (iv x2)] [] h Q E := by
  refine mx_iload_n dX8_play_46 rfl rfl ?_
  refine mx_bipush dX8_play_47 ib_20 ?_
  refine mx_icmp_ge (tgt := 86) dX8_play_49 rfl (fun c1 => ?_) (fun c1 => ?_)
  · have H := H.1 c1
    refine mx_aload_n dX8_play_86 rfl rfl ?_
    refine mx_iconst dX8_play_87 ic_0 ?_
    refine mx_putI 8 39 (ref := "PrairiePoolModel") cl_8 (Nat.le_of_ble_eq_true rfl) (Or.inl q1666) (Or.inl rfl) dX8_play_88 (Or.inl rfl) rfl (ly8_k La0_h) ?_
    refine mx_nmI  (fun h2 eh2 Xh2 Kh2 Lh2 => ?_)
    have H := H h2 eh2 Xh2
    have La0_h2 := La0_h.ext Xh2
    refine mx_iconst dX8_play_91 ic_0 ?_
    refine mx_istore_n (al' := [some (rv a0), some (iv x1), some (iv (0 : Int32))]) dX8_play_92 rfl (Nat.le_of_ble_eq_true rfl) rfl ?_
    exact mx_weak (al' := [some (rv a0), some (iv x1), some (iv (0 : Int32))]) ⟨rfl, ⟨rfl, ⟨rfl, trivial⟩⟩⟩ H
  · have H := H.2 c1
    refine mx_aload_n dX8_play_52 rfl rfl ?_
    refine mx_get 8 35 (ref := "PrairiePoolModel") cl_8 (Nat.le_of_ble_eq_true rfl) (Or.inl q1662) (Or.inl rfl) dX8_play_53 (fv_8_35 _ _) (ly8_k La0_h) ?_
    refine mx_tr (ly8_R_0_35 La0_h) ?_
    refine mx_iload_n dX8_play_56 rfl rfl ?_
    refine mx_iconst dX8_play_57 ic_0 ?_
    obtain ⟨k3, H⟩ := H
    refine my_iast dX8_play_58 rfl (ly8_A_28 La0_h k3) ?_
    refine mx_nmI  (fun h4 eh4 Xh4 Kh4 Lh4 => ?_)
    have H := H h4 eh4 Xh4
    have La0_h4 := La0_h.ext Xh4
    refine mx_aload_n dX8_play_59 rfl rfl ?_
    refine mx_get 8 36 (ref := "PrairiePoolModel") cl_8 (Nat.le_of_ble_eq_true rfl) (Or.inl q1663) (Or.inl rfl) dX8_play_60 (fv_8_36 _ _) (ly8_k La0_h4) ?_
    refine mx_tr (ly8_R_0_36 La0_h4) ?_
    refine mx_iload_n dX8_play_63 rfl rfl ?_
    refine mx_iconst dX8_play_64 ic_0 ?_
    refine my_iast dX8_play_65 rfl (ly8_A_29 La0_h4 k3) ?_
    refine mx_nmI  (fun h5 eh5 Xh5 Kh5 Lh5 => ?_)
    have H := H h5 eh5 Xh5
    have Kh5 := Kh5.trans Kh4
    have Lh5 := Lh5.trans Lh4
    have La0_h5 := La0_h4.ext Xh5
    refine mx_aload_n dX8_play_66 rfl rfl ?_
    refine mx_get 8 37 (ref := "PrairiePoolModel") cl_8 (Nat.le_of_ble_eq_true rfl) (Or.inl q1664) (Or.inl rfl) dX8_play_67 (fv_8_37 _ _) (ly8_k La0_h5) ?_
    refine mx_tr (ly8_R_0_37 La0_h5) ?_
    refine mx_iload_n dX8_play_70 rfl rfl ?_
    refine mx_iconst dX8_play_71 ic_0 ?_
    refine my_iast dX8_play_72 rfl (ly8_A_30 La0_h5 k3) ?_
    refine mx_nmI  (fun h6 eh6 Xh6 Kh6 Lh6 => ?_)
    have H := H h6 eh6 Xh6
    have Kh6 := Kh6.trans Kh5
    have Lh6 := Lh6.trans Lh5
    have La0_h6 := La0_h5.ext Xh6
    refine mx_aload_n dX8_play_73 rfl rfl ?_
    refine mx_get 8 38 (ref := "PrairiePoolModel") cl_8 (Nat.le_of_ble_eq_true rfl) (Or.inl q1665) (Or.inl rfl) dX8_play_74 (fv_8_38 _ _) (ly8_k La0_h6) ?_
    refine mx_tr (ly8_R_0_38 La0_h6) ?_
    refine mx_iload_n dX8_play_77 rfl rfl ?_
    refine mx_iconst dX8_play_78 ic_0 ?_
    refine my_iast dX8_play_79 rfl (ly8_A_31 La0_h6 k3) ?_
    refine mx_nmI  (fun h7 eh7 Xh7 Kh7 Lh7 => ?_)
    have H := H h7 eh7 Xh7
    have Kh7 := Kh7.trans Kh6
    have Lh7 := Lh7.trans Lh6
    have La0_h7 := La0_h6.ext Xh7
    refine mx_iinc (al' := [some (rv a0), some (iv x1), some (iv (x2 + (1 : Int32)))]) dX8_play_80 rfl ic_1 rfl ?_
    refine mx_goto (tgt := 46) dX8_play_83 rfl ?_
    exact mx_weak (al' := [some (rv a0), some (iv x1), some (iv (x2 + (1 : Int32)))]) ⟨rfl, ⟨rfl, ⟨rfl, trivial⟩⟩⟩ H
theorem v_X8_play_93 {G : ma_G} {d : Nat} {a0 : Nat} {x1 : Int32} {x2 : Int32} {h : ah_T} {Q : Option ma_V → ah_T → Prop} {E : Nat → ah_T → Prop} (La0_h : LY8 h a0) (H : ((ah_I h a0 7) ≤ x2 → Q none h) ∧ (¬ (ah_I h a0 7) ≤ x2 → vp_in x2 120 ∧ ∀ h3 : ah_T, h3 = ah_wI h (a0 + 25) x2.toNatClampNeg (0 : Int32) → ah_ext h h3 → ∀ h4 : ah_T, h4 = ah_wI h3 (a0 + 26) x2.toNatClampNeg (0 : Int32) → ah_ext h3 h4 → ((ah_I h (a0 + 18) x2.toNatClampNeg) ≤ x1 → (¬ (ah_I h (a0 + 9) x2.toNatClampNeg) = 0 → MX G mi_X8_playOther d 0 [some (rv a0), some (iv x2), none, none, none, none] [] h4 (Qv fun h7 => ah_ext h4 h7 → MX G mi_X8_play (d + 1) 93 [some (rv a0), some (iv x1), some (iv (x2 + (1 : Int32)))] [] h7 Q E) E) ∧ ((ah_I h (a0 + 9) x2.toNatClampNeg) = 0 → MX G mi_X8_playLoad d 0 [some (rv a0), some (iv x2), some (iv x1), none] [] h4 (Qv fun h9 => ah_ext h4 h9 → MX G mi_X8_play (d + 1) 93 [some (rv a0), some (iv x1), some (iv (x2 + (1 : Int32)))] [] h9 Q E) E)) ∧ (¬ (ah_I h (a0 + 18) x2.toNatClampNeg) ≤ x1 → MX G mi_X8_play (d + 1) 93 [some (rv a0), some (iv x1), some (iv (x2 + (1 : Int32)))] [] h4 Q E))) : MX G mi_X8_play (d + 1) 93 [some (rv a0), some (iv x1), some (iv x2)] [] h Q E := by
  refine mx_iload_n dX8_play_93 rfl rfl ?_
  refine mx_aload_n dX8_play_94 rfl rfl ?_
  refine mx_get 8 7 (ref := "PrairiePoolModel") cl_8 (Nat.le_of_ble_eq_true rfl) (Or.inl q1634) (Or.inl rfl) dX8_play_95 (fv_8_7 _ _) (ly8_k La0_h) ?_
  refine mx_icmp_ge (tgt := 157) dX8_play_98 rfl (fun c1 => ?_) (fun c1 => ?_)
  · have H := H.1 c1
    exact mx_vret rfl dX8_play_157 H
  · have H := H.2 c1
    refine mx_aload_n dX8_play_101 rfl rfl ?_
    refine mx_get 8 32 (ref := "PrairiePoolModel") cl_8 (Nat.le_of_ble_eq_true rfl) (Or.inl q1659) (Or.inl rfl) dX8_play_102 (fv_8_32 _ _) (ly8_k La0_h) ?_
    refine mx_tr (ly8_R_0_32 La0_h) ?_
    refine mx_iload_n dX8_play_105 rfl rfl ?_
    refine mx_iconst dX8_play_106 ic_0 ?_
    obtain ⟨k2, H⟩ := H
    refine my_iast dX8_play_107 rfl (ly8_A_25 La0_h k2) ?_
    refine mx_nmI  (fun h3 eh3 Xh3 Kh3 Lh3 => ?_)
    have H := H h3 eh3 Xh3
    have La0_h3 := La0_h.ext Xh3
    refine mx_aload_n dX8_play_108 rfl rfl ?_
    refine mx_get 8 33 (ref := "PrairiePoolModel") cl_8 (Nat.le_of_ble_eq_true rfl) (Or.inl q1660) (Or.inl rfl) dX8_play_109 (fv_8_33 _ _) (ly8_k La0_h3) ?_
    refine mx_tr (ly8_R_0_33 La0_h3) ?_
    refine mx_iload_n dX8_play_112 rfl rfl ?_
    refine mx_iconst dX8_play_113 ic_0 ?_
    refine my_iast dX8_play_114 rfl (ly8_A_26 La0_h3 k2) ?_
    refine mx_nmI  (fun h4 eh4 Xh4 Kh4 Lh4 => ?_)
    have H := H h4 eh4 Xh4
    have Kh4 := Kh4.trans Kh3
    have Lh4 := Lh4.trans Lh3
    have La0_h4 := La0_h3.ext Xh4
    refine mx_aload_n dX8_play_115 rfl rfl ?_
    refine mx_get 8 25 (ref := "PrairiePoolModel") cl_8 (Nat.le_of_ble_eq_true rfl) (Or.inl q1652) (Or.inl rfl) dX8_play_116 (fv_8_25 _ _) (ly8_k La0_h4) ?_
    refine mx_tr (ly8_R_0_25 La0_h4) ?_
    refine mx_iload_n dX8_play_119 rfl rfl ?_
    refine my_iald dX8_play_120 rfl (ly8_A_18 La0_h4 k2) ?_
    refine mx_ti ((ah_skIA eh4 (by omega)).trans (ah_skIA eh3 (by omega))) ?_
    refine mx_iload_n dX8_play_121 rfl rfl ?_
    refine mx_icmp_le (tgt := 128) dX8_play_122 rfl (fun c5 => ?_) (fun c5 => ?_)
    · have H := H.1 c5
      refine mx_aload_n dX8_play_128 rfl rfl ?_
      refine mx_get 8 16 (ref := "PrairiePoolModel") cl_8 (Nat.le_of_ble_eq_true rfl) (Or.inl q1643) (Or.inl rfl) dX8_play_129 (fv_8_16 _ _) (ly8_k La0_h4) ?_
      refine mx_tr (ly8_R_0_16 La0_h4) ?_
      refine mx_iload_n dX8_play_132 rfl rfl ?_
      refine my_iald dX8_play_133 rfl (ly8_A_9 La0_h4 k2) ?_
      refine mx_ti ((ah_skIA eh4 (by omega)).trans (ah_skIA eh3 (by omega))) ?_
      refine mx_if_ne (tgt := 146) dX8_play_134 rfl (fun c6 => ?_) (fun c6 => ?_)
      · have H := H.1 c6
        refine mx_aload_n dX8_play_146 rfl rfl ?_
        refine mx_iload_n dX8_play_147 rfl rfl ?_
        refine mx_callV 8 (y' := mi_X8_playOther) (vs := [iv x2]) (st := []) (al' := [some (rv a0), some (iv x2), none, none, none, none]) cl_8 V_X8_playOther (Or.inl q2135) dX8_play_148 rfl rfl (Nat.le_of_ble_eq_true rfl) (Nat.le_of_ble_eq_true rfl) (ly8_k La0_h4) ?_
        refine ma_kv H (fun h7 Xh7 H => ?_) (fun x1 h1 X1 H => mt_out rfl H)
        have H := H Xh7
        have La0_h7 := La0_h4.ext Xh7
        refine mx_iinc (al' := [some (rv a0), some (iv x1), some (iv (x2 + (1 : Int32)))]) dX8_play_151 rfl ic_1 rfl ?_
        refine mx_goto (tgt := 93) dX8_play_154 rfl ?_
        exact mx_weak (al' := [some (rv a0), some (iv x1), some (iv (x2 + (1 : Int32)))]) ⟨rfl, ⟨rfl, ⟨rfl, trivial⟩⟩⟩ H
      · have H := H.2 c6
        refine mx_aload_n dX8_play_137 rfl rfl ?_
        refine mx_iload_n dX8_play_138 rfl rfl ?_
        refine mx_iload_n dX8_play_139 rfl rfl ?_
        refine mx_callV 8 (y' := mi_X8_playLoad) (vs := [iv x2, iv x1]) (st := []) (al' := [some (rv a0), some (iv x2), some (iv x1), none]) cl_8 V_X8_playLoad (Or.inl q2123) dX8_play_140 rfl rfl (Nat.le_of_ble_eq_true rfl) (Nat.le_of_ble_eq_true rfl) (ly8_k La0_h4) ?_
        refine ma_kv H (fun h9 Xh9 H => ?_) (fun x1 h1 X1 H => mt_out rfl H)
        have H := H Xh9
        have La0_h9 := La0_h4.ext Xh9
        refine mx_goto (tgt := 151) dX8_play_143 rfl ?_
        refine mx_iinc (al' := [some (rv a0), some (iv x1), some (iv (x2 + (1 : Int32)))]) dX8_play_151 rfl ic_1 rfl ?_
        refine mx_goto (tgt := 93) dX8_play_154 rfl ?_
        exact mx_weak (al' := [some (rv a0), some (iv x1), some (iv (x2 + (1 : Int32)))]) ⟨rfl, ⟨rfl, ⟨rfl, trivial⟩⟩⟩ H
    · have H := H.2 c5
      refine mx_goto (tgt := 151) dX8_play_125 rfl ?_
      refine mx_iinc (al' := [some (rv a0), some (iv x1), some (iv (x2 + (1 : Int32)))]) dX8_play_151 rfl ic_1 rfl ?_
      refine mx_goto (tgt := 93) dX8_play_154 rfl ?_
      exact mx_weak (al' := [some (rv a0), some (iv x1), some (iv (x2 + (1 : Int32)))]) ⟨rfl, ⟨rfl, ⟨rfl, trivial⟩⟩⟩ H
theorem dX8_playLoad_0 : decode mi_X8_playLoad.2.1 0 = .ok (.aload_n 0, 1) := by decide +kernel
theorem dX8_playLoad_1 : decode mi_X8_playLoad.2.1 1 = .ok (.getfield 38, 3) := by decide +kernel
theorem dX8_playLoad_4 : decode mi_X8_playLoad.2.1 4 = .ok (.iload_n 1, 1) := by decide +kernel
theorem dX8_playLoad_5 : decode mi_X8_playLoad.2.1 5 = .ok (.iaload, 1) := by decide +kernel
theorem dX8_playLoad_6 : decode mi_X8_playLoad.2.1 6 = .ok (.istore_n 3, 1) := by decide +kernel
theorem dX8_playLoad_7 : decode mi_X8_playLoad.2.1 7 = .ok (.aload_n 0, 1) := by decide +kernel
theorem dX8_playLoad_8 : decode mi_X8_playLoad.2.1 8 = .ok (.getfield 89, 3) := by decide +kernel
theorem dX8_playLoad_11 : decode mi_X8_playLoad.2.1 11 = .ok (.iload_n 1, 1) := by decide +kernel
theorem dX8_playLoad_12 : decode mi_X8_playLoad.2.1 12 = .ok (.aload_n 0, 1) := by decide +kernel
theorem dX8_playLoad_13 : decode mi_X8_playLoad.2.1 13 = .ok (.iload_n 1, 1) := by decide +kernel
theorem dX8_playLoad_14 : decode mi_X8_playLoad.2.1 14 = .ok (.iload_n 2, 1) := by decide +kernel
theorem dX8_playLoad_15 : decode mi_X8_playLoad.2.1 15 = .ok (.invokevirtual 363, 3) := by decide +kernel
theorem dX8_playLoad_18 : decode mi_X8_playLoad.2.1 18 = .ok (.iastore, 1) := by decide +kernel
theorem dX8_playLoad_19 : decode mi_X8_playLoad.2.1 19 = .ok (.aload_n 0, 1) := by decide +kernel
theorem dX8_playLoad_20 : decode mi_X8_playLoad.2.1 20 = .ok (.getfield 83, 3) := by decide +kernel
theorem dX8_playLoad_23 : decode mi_X8_playLoad.2.1 23 = .ok (.iload_n 1, 1) := by decide +kernel
theorem dX8_playLoad_24 : decode mi_X8_playLoad.2.1 24 = .ok (.iconst 0, 1) := by decide +kernel
theorem dX8_playLoad_25 : decode mi_X8_playLoad.2.1 25 = .ok (.aload_n 0, 1) := by decide +kernel
theorem dX8_playLoad_26 : decode mi_X8_playLoad.2.1 26 = .ok (.aload_n 0, 1) := by decide +kernel
theorem dX8_playLoad_27 : decode mi_X8_playLoad.2.1 27 = .ok (.getfield 41, 3) := by decide +kernel
theorem dX8_playLoad_30 : decode mi_X8_playLoad.2.1 30 = .ok (.iload_n 1, 1) := by decide +kernel
theorem dX8_playLoad_31 : decode mi_X8_playLoad.2.1 31 = .ok (.iaload, 1) := by decide +kernel
theorem dX8_playLoad_32 : decode mi_X8_playLoad.2.1 32 = .ok (.invokevirtual 390, 3) := by decide +kernel
theorem dX8_playLoad_35 : decode mi_X8_playLoad.2.1 35 = .ok (.aload_n 0, 1) := by decide +kernel
theorem dX8_playLoad_36 : decode mi_X8_playLoad.2.1 36 = .ok (.iload_n 1, 1) := by decide +kernel
theorem dX8_playLoad_37 : decode mi_X8_playLoad.2.1 37 = .ok (.invokevirtual 347, 3) := by decide +kernel
theorem dX8_playLoad_40 : decode mi_X8_playLoad.2.1 40 = .ok (.iadd, 1) := by decide +kernel
theorem dX8_playLoad_41 : decode mi_X8_playLoad.2.1 41 = .ok (.aload_n 0, 1) := by decide +kernel
theorem dX8_playLoad_42 : decode mi_X8_playLoad.2.1 42 = .ok (.getfield 32, 3) := by decide +kernel
theorem dX8_playLoad_45 : decode mi_X8_playLoad.2.1 45 = .ok (.aload_n 0, 1) := by decide +kernel
theorem dX8_playLoad_46 : decode mi_X8_playLoad.2.1 46 = .ok (.getfield 41, 3) := by decide +kernel
theorem dX8_playLoad_49 : decode mi_X8_playLoad.2.1 49 = .ok (.iload_n 1, 1) := by decide +kernel
theorem dX8_playLoad_50 : decode mi_X8_playLoad.2.1 50 = .ok (.iaload, 1) := by decide +kernel
theorem dX8_playLoad_51 : decode mi_X8_playLoad.2.1 51 = .ok (.iaload, 1) := by decide +kernel
theorem dX8_playLoad_52 : decode mi_X8_playLoad.2.1 52 = .ok (.isub, 1) := by decide +kernel
theorem dX8_playLoad_53 : decode mi_X8_playLoad.2.1 53 = .ok (.invokestatic 393, 3) := by decide +kernel
theorem dX8_playLoad_56 : decode mi_X8_playLoad.2.1 56 = .ok (.iastore, 1) := by decide +kernel
theorem dX8_playLoad_57 : decode mi_X8_playLoad.2.1 57 = .ok (.aload_n 0, 1) := by decide +kernel
theorem dX8_playLoad_58 : decode mi_X8_playLoad.2.1 58 = .ok (.getfield 92, 3) := by decide +kernel
theorem dX8_playLoad_61 : decode mi_X8_playLoad.2.1 61 = .ok (.iload_n 3, 1) := by decide +kernel
theorem dX8_playLoad_62 : decode mi_X8_playLoad.2.1 62 = .ok (.dup2, 1) := by decide +kernel
theorem dX8_playLoad_63 : decode mi_X8_playLoad.2.1 63 = .ok (.iaload, 1) := by decide +kernel
theorem dX8_playLoad_64 : decode mi_X8_playLoad.2.1 64 = .ok (.aload_n 0, 1) := by decide +kernel
theorem dX8_playLoad_65 : decode mi_X8_playLoad.2.1 65 = .ok (.getfield 53, 3) := by decide +kernel
theorem dX8_playLoad_68 : decode mi_X8_playLoad.2.1 68 = .ok (.iload_n 1, 1) := by decide +kernel
theorem dX8_playLoad_69 : decode mi_X8_playLoad.2.1 69 = .ok (.iaload, 1) := by decide +kernel
theorem dX8_playLoad_70 : decode mi_X8_playLoad.2.1 70 = .ok (.aload_n 0, 1) := by decide +kernel
theorem dX8_playLoad_71 : decode mi_X8_playLoad.2.1 71 = .ok (.iload_n 1, 1) := by decide +kernel
theorem dX8_playLoad_72 : decode mi_X8_playLoad.2.1 72 = .ok (.invokevirtual 347, 3) := by decide +kernel
theorem dX8_playLoad_75 : decode mi_X8_playLoad.2.1 75 = .ok (.isub, 1) := by decide +kernel
theorem dX8_playLoad_76 : decode mi_X8_playLoad.2.1 76 = .ok (.iadd, 1) := by decide +kernel
theorem dX8_playLoad_77 : decode mi_X8_playLoad.2.1 77 = .ok (.iastore, 1) := by decide +kernel
theorem dX8_playLoad_78 : decode mi_X8_playLoad.2.1 78 = .ok (.aload_n 0, 1) := by decide +kernel
theorem dX8_playLoad_79 : decode mi_X8_playLoad.2.1 79 = .ok (.getfield 95, 3) := by decide +kernel
theorem dX8_playLoad_82 : decode mi_X8_playLoad.2.1 82 = .ok (.iload_n 3, 1) := by decide +kernel
theorem dX8_playLoad_83 : decode mi_X8_playLoad.2.1 83 = .ok (.dup2, 1) := by decide +kernel
theorem dX8_playLoad_84 : decode mi_X8_playLoad.2.1 84 = .ok (.iaload, 1) := by decide +kernel
theorem dX8_playLoad_85 : decode mi_X8_playLoad.2.1 85 = .ok (.aload_n 0, 1) := by decide +kernel
theorem dX8_playLoad_86 : decode mi_X8_playLoad.2.1 86 = .ok (.getfield 83, 3) := by decide +kernel
theorem dX8_playLoad_89 : decode mi_X8_playLoad.2.1 89 = .ok (.iload_n 1, 1) := by decide +kernel
theorem dX8_playLoad_90 : decode mi_X8_playLoad.2.1 90 = .ok (.iaload, 1) := by decide +kernel
theorem dX8_playLoad_91 : decode mi_X8_playLoad.2.1 91 = .ok (.iadd, 1) := by decide +kernel
theorem dX8_playLoad_92 : decode mi_X8_playLoad.2.1 92 = .ok (.iastore, 1) := by decide +kernel
theorem dX8_playLoad_93 : decode mi_X8_playLoad.2.1 93 = .ok (.aload_n 0, 1) := by decide +kernel
theorem dX8_playLoad_94 : decode mi_X8_playLoad.2.1 94 = .ok (.getfield 77, 3) := by decide +kernel
theorem dX8_playLoad_97 : decode mi_X8_playLoad.2.1 97 = .ok (.aload_n 0, 1) := by decide +kernel
theorem dX8_playLoad_98 : decode mi_X8_playLoad.2.1 98 = .ok (.getfield 41, 3) := by decide +kernel
theorem dX8_playLoad_101 : decode mi_X8_playLoad.2.1 101 = .ok (.iload_n 1, 1) := by decide +kernel
theorem dX8_playLoad_102 : decode mi_X8_playLoad.2.1 102 = .ok (.iaload, 1) := by decide +kernel
theorem dX8_playLoad_103 : decode mi_X8_playLoad.2.1 103 = .ok (.aload_n 0, 1) := by decide +kernel
theorem dX8_playLoad_104 : decode mi_X8_playLoad.2.1 104 = .ok (.getfield 89, 3) := by decide +kernel
theorem dX8_playLoad_107 : decode mi_X8_playLoad.2.1 107 = .ok (.iload_n 1, 1) := by decide +kernel
theorem dX8_playLoad_108 : decode mi_X8_playLoad.2.1 108 = .ok (.iaload, 1) := by decide +kernel
theorem dX8_playLoad_109 : decode mi_X8_playLoad.2.1 109 = .ok (.aload_n 0, 1) := by decide +kernel
theorem dX8_playLoad_110 : decode mi_X8_playLoad.2.1 110 = .ok (.getfield 50, 3) := by decide +kernel
theorem dX8_playLoad_113 : decode mi_X8_playLoad.2.1 113 = .ok (.iload_n 1, 1) := by decide +kernel
theorem dX8_playLoad_114 : decode mi_X8_playLoad.2.1 114 = .ok (.iaload, 1) := by decide +kernel
theorem dX8_playLoad_115 : decode mi_X8_playLoad.2.1 115 = .ok (.invokestatic 378, 3) := by decide +kernel
theorem dX8_playLoad_118 : decode mi_X8_playLoad.2.1 118 = .ok (.iload_n 3, 1) := by decide +kernel
theorem dX8_playLoad_119 : decode mi_X8_playLoad.2.1 119 = .ok (.iadd, 1) := by decide +kernel
theorem dX8_playLoad_120 : decode mi_X8_playLoad.2.1 120 = .ok (.dup2, 1) := by decide +kernel
theorem dX8_playLoad_121 : decode mi_X8_playLoad.2.1 121 = .ok (.iaload, 1) := by decide +kernel
theorem dX8_playLoad_122 : decode mi_X8_playLoad.2.1 122 = .ok (.aload_n 0, 1) := by decide +kernel
theorem dX8_playLoad_123 : decode mi_X8_playLoad.2.1 123 = .ok (.iload_n 1, 1) := by decide +kernel
theorem dX8_playLoad_124 : decode mi_X8_playLoad.2.1 124 = .ok (.invokevirtual 347, 3) := by decide +kernel
theorem dX8_playLoad_127 : decode mi_X8_playLoad.2.1 127 = .ok (.aload_n 0, 1) := by decide +kernel
theorem dX8_playLoad_128 : decode mi_X8_playLoad.2.1 128 = .ok (.getfield 83, 3) := by decide +kernel
theorem dX8_playLoad_131 : decode mi_X8_playLoad.2.1 131 = .ok (.iload_n 1, 1) := by decide +kernel
theorem dX8_playLoad_132 : decode mi_X8_playLoad.2.1 132 = .ok (.iaload, 1) := by decide +kernel
theorem dX8_playLoad_133 : decode mi_X8_playLoad.2.1 133 = .ok (.isub, 1) := by decide +kernel
theorem dX8_playLoad_134 : decode mi_X8_playLoad.2.1 134 = .ok (.iadd, 1) := by decide +kernel
theorem dX8_playLoad_135 : decode mi_X8_playLoad.2.1 135 = .ok (.iastore, 1) := by decide +kernel
theorem dX8_playLoad_136 : decode mi_X8_playLoad.2.1 136 = .ok (.return_, 1) := by decide +kernel
theorem v_X8_playLoad {G : ma_G} {d : Nat} {a0 : Nat} {x1 : Int32} {x2 : Int32} {h : ah_T} {Q : Option ma_V → ah_T → Prop} {E : Nat → ah_T → Prop} (La0_h : LY8 h a0) (H : vp_in x1 120 ∧ MX G mi_X8_gradeOf d 0 [some (rv a0), some (iv x1), some (iv x2), none, none, none, none, none, none, none] [] h (Qi fun r3 h2 => ah_ext h h2 → ∀ h4 : ah_T, h4 = ah_wI h2 (a0 + 27) x1.toNatClampNeg r3 → ah_ext h2 h4 → MX G mi_X8_inElevator d 0 [some (rv a0), some (iv (ah_I h2 (a0 + 11) x1.toNatClampNeg)), none, none] [] h4 (Qi fun r6 h5 => ah_ext h4 h5 → vp_in (ah_I h5 (a0 + 11) x1.toNatClampNeg) 8 ∧ ∀ h8 : ah_T, h8 = ah_wI h5 (a0 + 25) x1.toNatClampNeg (iMax (0 : Int32) ((r6 + ((ah_I h5 (a0 + 15) x1.toNatClampNeg) - (((ah_I h5 (a0 + 15) x1.toNatClampNeg) * (ah_I h5 (a0 + 16) x1.toNatClampNeg)) / (1000 : Int32)))) - (ah_I h5 (a0 + 8) (ah_I h5 (a0 + 11) x1.toNatClampNeg).toNatClampNeg))) → ah_ext h5 h8 → vp_in (ah_I h (a0 + 10) x1.toNatClampNeg) 20 ∧ ∀ h10 : ah_T, h10 = ah_wI h8 (a0 + 28) (ah_I h (a0 + 10) x1.toNatClampNeg).toNatClampNeg ((ah_I h5 (a0 + 28) (ah_I h (a0 + 10) x1.toNatClampNeg).toNatClampNeg) + ((ah_I h5 (a0 + 15) x1.toNatClampNeg) - ((ah_I h5 (a0 + 15) x1.toNatClampNeg) - (((ah_I h5 (a0 + 15) x1.toNatClampNeg) * (ah_I h5 (a0 + 16) x1.toNatClampNeg)) / (1000 : Int32))))) → ah_ext h8 h10 → ∀ h11 : ah_T, h11 = ah_wI h10 (a0 + 29) (ah_I h (a0 + 10) x1.toNatClampNeg).toNatClampNeg ((ah_I h5 (a0 + 29) (ah_I h (a0 + 10) x1.toNatClampNeg).toNatClampNeg) + (iMax (0 : Int32) ((r6 + ((ah_I h5 (a0 + 15) x1.toNatClampNeg) - (((ah_I h5 (a0 + 15) x1.toNatClampNeg) * (ah_I h5 (a0 + 16) x1.toNatClampNeg)) / (1000 : Int32)))) - (ah_I h5 (a0 + 8) (ah_I h5 (a0 + 11) x1.toNatClampNeg).toNatClampNeg)))) → ah_ext h10 h11 → vp_in (((20 : Int32) * (((((6 : Int32) * (ah_I h5 (a0 + 11) x1.toNatClampNeg)) + (ah_I h5 (a0 + 27) x1.toNatClampNeg)) * (10 : Int32)) + (ah_I h5 (a0 + 14) x1.toNatClampNeg))) + (ah_I h (a0 + 10) x1.toNatClampNeg)) 9600 ∧ ∀ h13 : ah_T, h13 = ah_wI h11 (a0 + 23) (((20 : Int32) * (((((6 : Int32) * (ah_I h5 (a0 + 11) x1.toNatClampNeg)) + (ah_I h5 (a0 + 27) x1.toNatClampNeg)) * (10 : Int32)) + (ah_I h5 (a0 + 14) x1.toNatClampNeg))) + (ah_I h (a0 + 10) x1.toNatClampNeg)).toNatClampNeg ((ah_I h5 (a0 + 23) (((20 : Int32) * (((((6 : Int32) * (ah_I h5 (a0 + 11) x1.toNatClampNeg)) + (ah_I h5 (a0 + 27) x1.toNatClampNeg)) * (10 : Int32)) + (ah_I h5 (a0 + 14) x1.toNatClampNeg))) + (ah_I h (a0 + 10) x1.toNatClampNeg)).toNatClampNeg) + (((ah_I h5 (a0 + 15) x1.toNatClampNeg) - (((ah_I h5 (a0 + 15) x1.toNatClampNeg) * (ah_I h5 (a0 + 16) x1.toNatClampNeg)) / (1000 : Int32))) - (iMax (0 : Int32) ((r6 + ((ah_I h5 (a0 + 15) x1.toNatClampNeg) - (((ah_I h5 (a0 + 15) x1.toNatClampNeg) * (ah_I h5 (a0 + 16) x1.toNatClampNeg)) / (1000 : Int32)))) - (ah_I h5 (a0 + 8) (ah_I h5 (a0 + 11) x1.toNatClampNeg).toNatClampNeg))))) → ah_ext h11 h13 → Q none h13) E) E) : MX G mi_X8_playLoad (d + 1) 0 [some (rv a0), some (iv x1), some (iv x2), none] [] h Q E := by
  refine mx_aload_n dX8_playLoad_0 rfl rfl ?_
  refine mx_get 8 17 (ref := "PrairiePoolModel") cl_8 (Nat.le_of_ble_eq_true rfl) (Or.inl q1644) (Or.inl rfl) dX8_playLoad_1 (fv_8_17 _ _) (ly8_k La0_h) ?_
  refine mx_tr (ly8_R_0_17 La0_h) ?_
  refine mx_iload_n dX8_playLoad_4 rfl rfl ?_
  obtain ⟨k1, H⟩ := H
  refine my_iald dX8_playLoad_5 rfl (ly8_A_10 La0_h k1) ?_
  refine mx_istore_n (al' := [some (rv a0), some (iv x1), some (iv x2), some (iv (ah_I h (a0 + 10) x1.toNatClampNeg))]) dX8_playLoad_6 rfl (Nat.le_of_ble_eq_true rfl) rfl ?_
  refine mx_aload_n dX8_playLoad_7 rfl rfl ?_
  refine mx_get 8 34 (ref := "PrairiePoolModel") cl_8 (Nat.le_of_ble_eq_true rfl) (Or.inl q1661) (Or.inl rfl) dX8_playLoad_8 (fv_8_34 _ _) (ly8_k La0_h) ?_
  refine mx_tr (ly8_R_0_34 La0_h) ?_
  refine mx_iload_n dX8_playLoad_11 rfl rfl ?_
  refine mx_aload_n dX8_playLoad_12 rfl rfl ?_
  refine mx_iload_n dX8_playLoad_13 rfl rfl ?_
  refine mx_iload_n dX8_playLoad_14 rfl rfl ?_
  refine mx_callV 8 (y' := mi_X8_gradeOf) (vs := [iv x1, iv x2]) (st := [iv x1, rv (a0 + 27)]) (al' := [some (rv a0), some (iv x1), some (iv x2), none, none, none, none, none, none, none]) cl_8 V_X8_gradeOf (Or.inl q2063) dX8_playLoad_15 rfl rfl (Nat.le_of_ble_eq_true rfl) (Nat.le_of_ble_eq_true rfl) (ly8_k La0_h) ?_
  refine ma_ki H (fun r3 h2 Xh2 H => ?_) (fun x1 h1 X1 H => mt_out rfl H)
  have H := H Xh2
  have La0_h2 := La0_h.ext Xh2
  refine my_iast dX8_playLoad_18 rfl (ly8_A_27 La0_h2 k1) ?_
  refine mx_nmI  (fun h4 eh4 Xh4 Kh4 Lh4 => ?_)
  have H := H h4 eh4 Xh4
  have La0_h4 := La0_h2.ext Xh4
  refine mx_aload_n dX8_playLoad_19 rfl rfl ?_
  refine mx_get 8 32 (ref := "PrairiePoolModel") cl_8 (Nat.le_of_ble_eq_true rfl) (Or.inl q1659) (Or.inl rfl) dX8_playLoad_20 (fv_8_32 _ _) (ly8_k La0_h4) ?_
  refine mx_tr (ly8_R_0_32 La0_h4) ?_
  refine mx_iload_n dX8_playLoad_23 rfl rfl ?_
  refine mx_iconst dX8_playLoad_24 ic_0 ?_
  refine mx_aload_n dX8_playLoad_25 rfl rfl ?_
  refine mx_aload_n dX8_playLoad_26 rfl rfl ?_
  refine mx_get 8 18 (ref := "PrairiePoolModel") cl_8 (Nat.le_of_ble_eq_true rfl) (Or.inl q1645) (Or.inl rfl) dX8_playLoad_27 (fv_8_18 _ _) (ly8_k La0_h4) ?_
  refine mx_tr (ly8_R_0_18 La0_h4) ?_
  refine mx_iload_n dX8_playLoad_30 rfl rfl ?_
  refine my_iald dX8_playLoad_31 rfl (ly8_A_11 La0_h4 k1) ?_
  refine mx_ti (ah_skIA eh4 (by omega)) ?_
  refine mx_callV 8 (y' := mi_X8_inElevator) (vs := [iv (ah_I h2 (a0 + 11) x1.toNatClampNeg)]) (st := [iv (0 : Int32), iv x1, rv (a0 + 25)]) (al' := [some (rv a0), some (iv (ah_I h2 (a0 + 11) x1.toNatClampNeg)), none, none]) cl_8 V_X8_inElevator (Or.inl q2127) dX8_playLoad_32 rfl rfl (Nat.le_of_ble_eq_true rfl) (Nat.le_of_ble_eq_true rfl) (ly8_k La0_h4) ?_
  refine ma_ki H (fun r6 h5 Xh5 H => ?_) (fun x1 h1 X1 H => mt_out rfl H)
  have H := H Xh5
  have La0_h5 := La0_h4.ext Xh5
  refine mx_aload_n dX8_playLoad_35 rfl rfl ?_
  refine mx_iload_n dX8_playLoad_36 rfl rfl ?_
  refine mx_callV 8 (y' := mi_X8_net) (vs := [iv x1]) (st := [iv r6, iv (0 : Int32), iv x1, rv (a0 + 25)]) (al' := [some (rv a0), some (iv x1)]) cl_8 V_X8_net (Or.inl q2071) dX8_playLoad_37 rfl rfl (Nat.le_of_ble_eq_true rfl) (Nat.le_of_ble_eq_true rfl) (ly8_k La0_h5) ?_
  refine mx_aload_n dX8_net_0 rfl rfl ?_
  refine mx_get 8 22 (ref := "PrairiePoolModel") cl_8 (Nat.le_of_ble_eq_true rfl) (Or.inl q1649) (Or.inl rfl) dX8_net_1 (fv_8_22 _ _) (ly8_k La0_h5) ?_
  refine mx_tr (ly8_R_0_22 La0_h5) ?_
  refine mx_iload_n dX8_net_4 rfl rfl ?_
  refine my_iald dX8_net_5 rfl (ly8_A_15 La0_h5 k1) ?_
  refine mx_aload_n dX8_net_6 rfl rfl ?_
  refine mx_get 8 22 (ref := "PrairiePoolModel") cl_8 (Nat.le_of_ble_eq_true rfl) (Or.inl q1649) (Or.inl rfl) dX8_net_7 (fv_8_22 _ _) (ly8_k La0_h5) ?_
  refine mx_tr (ly8_R_0_22 La0_h5) ?_
  refine mx_iload_n dX8_net_10 rfl rfl ?_
  refine my_iald dX8_net_11 rfl (ly8_A_15 La0_h5 k1) ?_
  refine mx_aload_n dX8_net_12 rfl rfl ?_
  refine mx_get 8 23 (ref := "PrairiePoolModel") cl_8 (Nat.le_of_ble_eq_true rfl) (Or.inl q1650) (Or.inl rfl) dX8_net_13 (fv_8_23 _ _) (ly8_k La0_h5) ?_
  refine mx_tr (ly8_R_0_23 La0_h5) ?_
  refine mx_iload_n dX8_net_16 rfl rfl ?_
  refine my_iald dX8_net_17 rfl (ly8_A_16 La0_h5 k1) ?_
  refine mx_imul dX8_net_18 ?_
  refine mx_sipush dX8_net_19 is_1000 ?_
  refine mx_idiv dX8_net_22 (by decide) ?_
  refine mx_isub dX8_net_23 ?_
  refine mx_iretK rfl dX8_net_24 ?_
  refine mx_iadd dX8_playLoad_40 ?_
  refine mx_aload_n dX8_playLoad_41 rfl rfl ?_
  refine mx_get 8 15 (ref := "PrairiePoolModel") cl_8 (Nat.le_of_ble_eq_true rfl) (Or.inl q1642) (Or.inl rfl) dX8_playLoad_42 (fv_8_15 _ _) (ly8_k La0_h5) ?_
  refine mx_tr (ly8_R_0_15 La0_h5) ?_
  refine mx_aload_n dX8_playLoad_45 rfl rfl ?_
  refine mx_get 8 18 (ref := "PrairiePoolModel") cl_8 (Nat.le_of_ble_eq_true rfl) (Or.inl q1645) (Or.inl rfl) dX8_playLoad_46 (fv_8_18 _ _) (ly8_k La0_h5) ?_
  refine mx_tr (ly8_R_0_18 La0_h5) ?_
  refine mx_iload_n dX8_playLoad_49 rfl rfl ?_
  refine my_iald dX8_playLoad_50 rfl (ly8_A_11 La0_h5 k1) ?_
  obtain ⟨k7, H⟩ := H
  refine my_iald dX8_playLoad_51 rfl (ly8_A_8 La0_h5 k7) ?_
  refine mx_isub dX8_playLoad_52 ?_
  refine mx_callS (y' := mi_J8_max_2) (vs := [iv (0 : Int32), iv ((r6 + ((ah_I h5 (a0 + 15) x1.toNatClampNeg) - (((ah_I h5 (a0 + 15) x1.toNatClampNeg) * (ah_I h5 (a0 + 16) x1.toNatClampNeg)) / (1000 : Int32)))) - (ah_I h5 (a0 + 8) (ah_I h5 (a0 + 11) x1.toNatClampNeg).toNatClampNeg))]) (st := [iv x1, rv (a0 + 25)]) (al' := [some (iv (0 : Int32)), some (iv ((r6 + ((ah_I h5 (a0 + 15) x1.toNatClampNeg) - (((ah_I h5 (a0 + 15) x1.toNatClampNeg) * (ah_I h5 (a0 + 16) x1.toNatClampNeg)) / (1000 : Int32)))) - (ah_I h5 (a0 + 8) (ah_I h5 (a0 + 11) x1.toNatClampNeg).toNatClampNeg)))]) S_J8_max_2 q2134 dX8_playLoad_53 rfl rfl (Nat.le_of_ble_eq_true rfl) (Nat.le_of_ble_eq_true rfl) ?_
  refine pv_J8_max_2 ?_
  refine my_iast dX8_playLoad_56 rfl (ly8_A_25 La0_h5 k1) ?_
  refine mx_nmI  (fun h8 eh8 Xh8 Kh8 Lh8 => ?_)
  have H := H h8 eh8 Xh8
  have La0_h8 := La0_h5.ext Xh8
  refine mx_aload_n dX8_playLoad_57 rfl rfl ?_
  refine mx_get 8 35 (ref := "PrairiePoolModel") cl_8 (Nat.le_of_ble_eq_true rfl) (Or.inl q1662) (Or.inl rfl) dX8_playLoad_58 (fv_8_35 _ _) (ly8_k La0_h8) ?_
  refine mx_tr (ly8_R_0_35 La0_h8) ?_
  refine mx_iload_n dX8_playLoad_61 rfl rfl ?_
  refine mx_dup2_ir dX8_playLoad_62 ?_
  obtain ⟨k9, H⟩ := H
  refine my_iald dX8_playLoad_63 rfl (ly8_A_28 La0_h8 k9) ?_
  refine mx_ti (ah_skIA eh8 (by omega)) ?_
  refine mx_aload_n dX8_playLoad_64 rfl rfl ?_
  refine mx_get 8 22 (ref := "PrairiePoolModel") cl_8 (Nat.le_of_ble_eq_true rfl) (Or.inl q1649) (Or.inl rfl) dX8_playLoad_65 (fv_8_22 _ _) (ly8_k La0_h8) ?_
  refine mx_tr (ly8_R_0_22 La0_h8) ?_
  refine mx_iload_n dX8_playLoad_68 rfl rfl ?_
  refine my_iald dX8_playLoad_69 rfl (ly8_A_15 La0_h8 k1) ?_
  refine mx_ti (ah_skIA eh8 (by omega)) ?_
  refine mx_aload_n dX8_playLoad_70 rfl rfl ?_
  refine mx_iload_n dX8_playLoad_71 rfl rfl ?_
  refine mx_callV 8 (y' := mi_X8_net) (vs := [iv x1]) (st := [iv (ah_I h5 (a0 + 15) x1.toNatClampNeg), iv (ah_I h5 (a0 + 28) (ah_I h (a0 + 10) x1.toNatClampNeg).toNatClampNeg), iv (ah_I h (a0 + 10) x1.toNatClampNeg), rv (a0 + 28)]) (al' := [some (rv a0), some (iv x1)]) cl_8 V_X8_net (Or.inl q2071) dX8_playLoad_72 rfl rfl (Nat.le_of_ble_eq_true rfl) (Nat.le_of_ble_eq_true rfl) (ly8_k La0_h8) ?_
  refine mx_aload_n dX8_net_0 rfl rfl ?_
  refine mx_get 8 22 (ref := "PrairiePoolModel") cl_8 (Nat.le_of_ble_eq_true rfl) (Or.inl q1649) (Or.inl rfl) dX8_net_1 (fv_8_22 _ _) (ly8_k La0_h8) ?_
  refine mx_tr (ly8_R_0_22 La0_h8) ?_
  refine mx_iload_n dX8_net_4 rfl rfl ?_
  refine my_iald dX8_net_5 rfl (ly8_A_15 La0_h8 k1) ?_
  refine mx_ti (ah_skIA eh8 (by omega)) ?_
  refine mx_aload_n dX8_net_6 rfl rfl ?_
  refine mx_get 8 22 (ref := "PrairiePoolModel") cl_8 (Nat.le_of_ble_eq_true rfl) (Or.inl q1649) (Or.inl rfl) dX8_net_7 (fv_8_22 _ _) (ly8_k La0_h8) ?_
  refine mx_tr (ly8_R_0_22 La0_h8) ?_
  refine mx_iload_n dX8_net_10 rfl rfl ?_
  refine my_iald dX8_net_11 rfl (ly8_A_15 La0_h8 k1) ?_
  refine mx_ti (ah_skIA eh8 (by omega)) ?_
  refine mx_aload_n dX8_net_12 rfl rfl ?_
  refine mx_get 8 23 (ref := "PrairiePoolModel") cl_8 (Nat.le_of_ble_eq_true rfl) (Or.inl q1650) (Or.inl rfl) dX8_net_13 (fv_8_23 _ _) (ly8_k La0_h8) ?_
  refine mx_tr (ly8_R_0_23 La0_h8) ?_
  refine mx_iload_n dX8_net_16 rfl rfl ?_
  refine my_iald dX8_net_17 rfl (ly8_A_16 La0_h8 k1) ?_
  refine mx_ti (ah_skIA eh8 (by omega)) ?_
  refine mx_imul dX8_net_18 ?_
  refine mx_sipush dX8_net_19 is_1000 ?_
  refine mx_idiv dX8_net_22 (by decide) ?_
  refine mx_isub dX8_net_23 ?_
  refine mx_iretK rfl dX8_net_24 ?_
  refine mx_isub dX8_playLoad_75 ?_
  refine mx_iadd dX8_playLoad_76 ?_
  refine my_iast dX8_playLoad_77 rfl (ly8_A_28 La0_h8 k9) ?_
  refine mx_nmI  (fun h10 eh10 Xh10 Kh10 Lh10 => ?_)
  have H := H h10 eh10 Xh10
  have Kh10 := Kh10.trans Kh8
  have Lh10 := Lh10.trans Lh8
  have La0_h10 := La0_h8.ext Xh10
  refine mx_aload_n dX8_playLoad_78 rfl rfl ?_
  refine mx_get 8 36 (ref := "PrairiePoolModel") cl_8 (Nat.le_of_ble_eq_true rfl) (Or.inl q1663) (Or.inl rfl) dX8_playLoad_79 (fv_8_36 _ _) (ly8_k La0_h10) ?_
  refine mx_tr (ly8_R_0_36 La0_h10) ?_
  refine mx_iload_n dX8_playLoad_82 rfl rfl ?_
  refine mx_dup2_ir dX8_playLoad_83 ?_
  refine my_iald dX8_playLoad_84 rfl (ly8_A_29 La0_h10 k9) ?_
  refine mx_ti ((ah_skIA eh10 (by omega)).trans (ah_skIA eh8 (by omega))) ?_
  refine mx_aload_n dX8_playLoad_85 rfl rfl ?_
  refine mx_get 8 32 (ref := "PrairiePoolModel") cl_8 (Nat.le_of_ble_eq_true rfl) (Or.inl q1659) (Or.inl rfl) dX8_playLoad_86 (fv_8_32 _ _) (ly8_k La0_h10) ?_
  refine mx_tr (ly8_R_0_32 La0_h10) ?_
  refine mx_iload_n dX8_playLoad_89 rfl rfl ?_
  refine my_iald dX8_playLoad_90 rfl (ly8_A_25 La0_h10 k1) ?_
  refine mx_ti ((ah_skIA eh10 (by omega)).trans (ah_hitI eh8)) ?_
  refine mx_iadd dX8_playLoad_91 ?_
  refine my_iast dX8_playLoad_92 rfl (ly8_A_29 La0_h10 k9) ?_
  refine mx_nmI  (fun h11 eh11 Xh11 Kh11 Lh11 => ?_)
  have H := H h11 eh11 Xh11
  have Kh11 := Kh11.trans Kh10
  have Lh11 := Lh11.trans Lh10
  have La0_h11 := La0_h10.ext Xh11
  refine mx_aload_n dX8_playLoad_93 rfl rfl ?_
  refine mx_get 8 30 (ref := "PrairiePoolModel") cl_8 (Nat.le_of_ble_eq_true rfl) (Or.inl q1657) (Or.inl rfl) dX8_playLoad_94 (fv_8_30 _ _) (ly8_k La0_h11) ?_
  refine mx_tr (ly8_R_0_30 La0_h11) ?_
  refine mx_aload_n dX8_playLoad_97 rfl rfl ?_
  refine mx_get 8 18 (ref := "PrairiePoolModel") cl_8 (Nat.le_of_ble_eq_true rfl) (Or.inl q1645) (Or.inl rfl) dX8_playLoad_98 (fv_8_18 _ _) (ly8_k La0_h11) ?_
  refine mx_tr (ly8_R_0_18 La0_h11) ?_
  refine mx_iload_n dX8_playLoad_101 rfl rfl ?_
  refine my_iald dX8_playLoad_102 rfl (ly8_A_11 La0_h11 k1) ?_
  refine mx_ti (((ah_skIA eh11 (by omega)).trans (ah_skIA eh10 (by omega))).trans (ah_skIA eh8 (by omega))) ?_
  refine mx_aload_n dX8_playLoad_103 rfl rfl ?_
  refine mx_get 8 34 (ref := "PrairiePoolModel") cl_8 (Nat.le_of_ble_eq_true rfl) (Or.inl q1661) (Or.inl rfl) dX8_playLoad_104 (fv_8_34 _ _) (ly8_k La0_h11) ?_
  refine mx_tr (ly8_R_0_34 La0_h11) ?_
  refine mx_iload_n dX8_playLoad_107 rfl rfl ?_
  refine my_iald dX8_playLoad_108 rfl (ly8_A_27 La0_h11 k1) ?_
  refine mx_ti (((ah_skIA eh11 (by omega)).trans (ah_skIA eh10 (by omega))).trans (ah_skIA eh8 (by omega))) ?_
  refine mx_aload_n dX8_playLoad_109 rfl rfl ?_
  refine mx_get 8 21 (ref := "PrairiePoolModel") cl_8 (Nat.le_of_ble_eq_true rfl) (Or.inl q1648) (Or.inl rfl) dX8_playLoad_110 (fv_8_21 _ _) (ly8_k La0_h11) ?_
  refine mx_tr (ly8_R_0_21 La0_h11) ?_
  refine mx_iload_n dX8_playLoad_113 rfl rfl ?_
  refine my_iald dX8_playLoad_114 rfl (ly8_A_14 La0_h11 k1) ?_
  refine mx_ti (((ah_skIA eh11 (by omega)).trans (ah_skIA eh10 (by omega))).trans (ah_skIA eh8 (by omega))) ?_
  refine mx_callS (y' := mi_X8_binAt) (vs := [iv (ah_I h5 (a0 + 11) x1.toNatClampNeg), iv (ah_I h5 (a0 + 27) x1.toNatClampNeg), iv (ah_I h5 (a0 + 14) x1.toNatClampNeg)]) (st := [rv (a0 + 23)]) (al' := [some (iv (ah_I h5 (a0 + 11) x1.toNatClampNeg)), some (iv (ah_I h5 (a0 + 27) x1.toNatClampNeg)), some (iv (ah_I h5 (a0 + 14) x1.toNatClampNeg))]) S_X8_binAt q2131 dX8_playLoad_115 rfl rfl (Nat.le_of_ble_eq_true rfl) (Nat.le_of_ble_eq_true rfl) ?_
  refine mx_bipush dX8_binAt_0 ib_20 ?_
  refine mx_bipush dX8_binAt_2 ib_6 ?_
  refine mx_iload_n dX8_binAt_4 rfl rfl ?_
  refine mx_imul dX8_binAt_5 ?_
  refine mx_iload_n dX8_binAt_6 rfl rfl ?_
  refine mx_iadd dX8_binAt_7 ?_
  refine mx_bipush dX8_binAt_8 ib_10 ?_
  refine mx_imul dX8_binAt_10 ?_
  refine mx_iload_n dX8_binAt_11 rfl rfl ?_
  refine mx_iadd dX8_binAt_12 ?_
  refine mx_imul dX8_binAt_13 ?_
  refine mx_iretK rfl dX8_binAt_14 ?_
  refine mx_iload_n dX8_playLoad_118 rfl rfl ?_
  refine mx_iadd dX8_playLoad_119 ?_
  refine mx_dup2_ir dX8_playLoad_120 ?_
  obtain ⟨k12, H⟩ := H
  refine my_iald dX8_playLoad_121 rfl (ly8_A_23 La0_h11 k12) ?_
  refine mx_ti (((ah_skIA eh11 (by omega)).trans (ah_skIA eh10 (by omega))).trans (ah_skIA eh8 (by omega))) ?_
  refine mx_aload_n dX8_playLoad_122 rfl rfl ?_
  refine mx_iload_n dX8_playLoad_123 rfl rfl ?_
  refine mx_callV 8 (y' := mi_X8_net) (vs := [iv x1]) (st := [iv (ah_I h5 (a0 + 23) (((20 : Int32) * (((((6 : Int32) * (ah_I h5 (a0 + 11) x1.toNatClampNeg)) + (ah_I h5 (a0 + 27) x1.toNatClampNeg)) * (10 : Int32)) + (ah_I h5 (a0 + 14) x1.toNatClampNeg))) + (ah_I h (a0 + 10) x1.toNatClampNeg)).toNatClampNeg), iv (((20 : Int32) * (((((6 : Int32) * (ah_I h5 (a0 + 11) x1.toNatClampNeg)) + (ah_I h5 (a0 + 27) x1.toNatClampNeg)) * (10 : Int32)) + (ah_I h5 (a0 + 14) x1.toNatClampNeg))) + (ah_I h (a0 + 10) x1.toNatClampNeg)), rv (a0 + 23)]) (al' := [some (rv a0), some (iv x1)]) cl_8 V_X8_net (Or.inl q2071) dX8_playLoad_124 rfl rfl (Nat.le_of_ble_eq_true rfl) (Nat.le_of_ble_eq_true rfl) (ly8_k La0_h11) ?_
  refine mx_aload_n dX8_net_0 rfl rfl ?_
  refine mx_get 8 22 (ref := "PrairiePoolModel") cl_8 (Nat.le_of_ble_eq_true rfl) (Or.inl q1649) (Or.inl rfl) dX8_net_1 (fv_8_22 _ _) (ly8_k La0_h11) ?_
  refine mx_tr (ly8_R_0_22 La0_h11) ?_
  refine mx_iload_n dX8_net_4 rfl rfl ?_
  refine my_iald dX8_net_5 rfl (ly8_A_15 La0_h11 k1) ?_
  refine mx_ti (((ah_skIA eh11 (by omega)).trans (ah_skIA eh10 (by omega))).trans (ah_skIA eh8 (by omega))) ?_
  refine mx_aload_n dX8_net_6 rfl rfl ?_
  refine mx_get 8 22 (ref := "PrairiePoolModel") cl_8 (Nat.le_of_ble_eq_true rfl) (Or.inl q1649) (Or.inl rfl) dX8_net_7 (fv_8_22 _ _) (ly8_k La0_h11) ?_
  refine mx_tr (ly8_R_0_22 La0_h11) ?_
  refine mx_iload_n dX8_net_10 rfl rfl ?_
  refine my_iald dX8_net_11 rfl (ly8_A_15 La0_h11 k1) ?_
  refine mx_ti (((ah_skIA eh11 (by omega)).trans (ah_skIA eh10 (by omega))).trans (ah_skIA eh8 (by omega))) ?_
  refine mx_aload_n dX8_net_12 rfl rfl ?_
  refine mx_get 8 23 (ref := "PrairiePoolModel") cl_8 (Nat.le_of_ble_eq_true rfl) (Or.inl q1650) (Or.inl rfl) dX8_net_13 (fv_8_23 _ _) (ly8_k La0_h11) ?_
  refine mx_tr (ly8_R_0_23 La0_h11) ?_
  refine mx_iload_n dX8_net_16 rfl rfl ?_
  refine my_iald dX8_net_17 rfl (ly8_A_16 La0_h11 k1) ?_
  refine mx_ti (((ah_skIA eh11 (by omega)).trans (ah_skIA eh10 (by omega))).trans (ah_skIA eh8 (by omega))) ?_
  refine mx_imul dX8_net_18 ?_
  refine mx_sipush dX8_net_19 is_1000 ?_
  refine mx_idiv dX8_net_22 (by decide) ?_
  refine mx_isub dX8_net_23 ?_
  refine mx_iretK rfl dX8_net_24 ?_
  refine mx_aload_n dX8_playLoad_127 rfl rfl ?_
  refine mx_get 8 32 (ref := "PrairiePoolModel") cl_8 (Nat.le_of_ble_eq_true rfl) (Or.inl q1659) (Or.inl rfl) dX8_playLoad_128 (fv_8_32 _ _) (ly8_k La0_h11) ?_
  refine mx_tr (ly8_R_0_32 La0_h11) ?_
  refine mx_iload_n dX8_playLoad_131 rfl rfl ?_
  refine my_iald dX8_playLoad_132 rfl (ly8_A_25 La0_h11 k1) ?_
  refine mx_ti (((ah_skIA eh11 (by omega)).trans (ah_skIA eh10 (by omega))).trans (ah_hitI eh8)) ?_
  refine mx_isub dX8_playLoad_133 ?_
  refine mx_iadd dX8_playLoad_134 ?_
  refine my_iast dX8_playLoad_135 rfl (ly8_A_23 La0_h11 k12) ?_
  refine mx_nmI  (fun h13 eh13 Xh13 Kh13 Lh13 => ?_)
  have H := H h13 eh13 Xh13
  have Kh13 := Kh13.trans Kh11
  have Lh13 := Lh13.trans Lh11
  have La0_h13 := La0_h11.ext Xh13
  exact mx_vret rfl dX8_playLoad_136 H
theorem dX8_inElevator_0 : decode mi_X8_inElevator.2.1 0 = .ok (.iconst 0, 1) := by decide +kernel
theorem dX8_inElevator_1 : decode mi_X8_inElevator.2.1 1 = .ok (.istore_n 2, 1) := by decide +kernel
theorem dX8_inElevator_2 : decode mi_X8_inElevator.2.1 2 = .ok (.iconst 0, 1) := by decide +kernel
theorem dX8_inElevator_3 : decode mi_X8_inElevator.2.1 3 = .ok (.istore_n 3, 1) := by decide +kernel
theorem dX8_inElevator_4 : decode mi_X8_inElevator.2.1 4 = .ok (.iload_n 3, 1) := by decide +kernel
theorem dX8_inElevator_5 : decode mi_X8_inElevator.2.1 5 = .ok (.sipush 1200, 3) := by decide +kernel
theorem dX8_inElevator_8 : decode mi_X8_inElevator.2.1 8 = .ok (.if_icmp .ge 25, 3) := by decide +kernel
theorem dX8_inElevator_11 : decode mi_X8_inElevator.2.1 11 = .ok (.iload_n 2, 1) := by decide +kernel
theorem dX8_inElevator_12 : decode mi_X8_inElevator.2.1 12 = .ok (.aload_n 0, 1) := by decide +kernel
theorem dX8_inElevator_13 : decode mi_X8_inElevator.2.1 13 = .ok (.getfield 77, 3) := by decide +kernel
theorem dX8_inElevator_16 : decode mi_X8_inElevator.2.1 16 = .ok (.iload_n 1, 1) := by decide +kernel
theorem dX8_inElevator_17 : decode mi_X8_inElevator.2.1 17 = .ok (.iconst 0, 1) := by decide +kernel
theorem dX8_inElevator_18 : decode mi_X8_inElevator.2.1 18 = .ok (.iconst 0, 1) := by decide +kernel
theorem dX8_inElevator_19 : decode mi_X8_inElevator.2.1 19 = .ok (.invokestatic 378, 3) := by decide +kernel
theorem dX8_inElevator_22 : decode mi_X8_inElevator.2.1 22 = .ok (.iload_n 3, 1) := by decide +kernel
theorem dX8_inElevator_23 : decode mi_X8_inElevator.2.1 23 = .ok (.iadd, 1) := by decide +kernel
theorem dX8_inElevator_24 : decode mi_X8_inElevator.2.1 24 = .ok (.iaload, 1) := by decide +kernel
theorem dX8_inElevator_25 : decode mi_X8_inElevator.2.1 25 = .ok (.iadd, 1) := by decide +kernel
theorem dX8_inElevator_26 : decode mi_X8_inElevator.2.1 26 = .ok (.istore_n 2, 1) := by decide +kernel
theorem dX8_inElevator_27 : decode mi_X8_inElevator.2.1 27 = .ok (.iinc 3 1, 3) := by decide +kernel
theorem dX8_inElevator_30 : decode mi_X8_inElevator.2.1 30 = .ok (.goto (-26), 3) := by decide +kernel
theorem dX8_inElevator_33 : decode mi_X8_inElevator.2.1 33 = .ok (.iload_n 2, 1) := by decide +kernel
theorem dX8_inElevator_34 : decode mi_X8_inElevator.2.1 34 = .ok (.ireturn, 1) := by decide +kernel
theorem v_X8_inElevator {G : ma_G} {d : Nat} {a0 : Nat} {x1 : Int32} {h : ah_T} {Q : Option ma_V → ah_T → Prop} {E : Nat → ah_T → Prop} (La0_h : LY8 h a0) (H : MX G mi_X8_inElevator (d + 1) 4 [some (rv a0), some (iv x1), some (iv (0 : Int32)), some (iv (0 : Int32))] [] h Q E) : MX G mi_X8_inElevator (d + 1) 0 [some (rv a0), some (iv x1), none, none] [] h Q E := by
  refine mx_iconst dX8_inElevator_0 ic_0 ?_
  refine mx_istore_n (al' := [some (rv a0), some (iv x1), some (iv (0 : Int32)), none]) dX8_inElevator_1 rfl (Nat.le_of_ble_eq_true rfl) rfl ?_
  refine mx_iconst dX8_inElevator_2 ic_0 ?_
  refine mx_istore_n (al' := [some (rv a0), some (iv x1), some (iv (0 : Int32)), some (iv (0 : Int32))]) dX8_inElevator_3 rfl (Nat.le_of_ble_eq_true rfl) rfl ?_
  exact mx_weak (al' := [some (rv a0), some (iv x1), some (iv (0 : Int32)), some (iv (0 : Int32))]) ⟨rfl, ⟨rfl, ⟨rfl, ⟨rfl, trivial⟩⟩⟩⟩ H
theorem v_X8_inElevator_4 {G : ma_G} {d : Nat} {a0 : Nat} {x1 : Int32} {x2 : Int32} {x3 : Int32} {h : ah_T} {Q : Option ma_V → ah_T → Prop} {E : Nat → ah_T → Prop} (La0_h : LY8 h a0) (H : ((1200 : Int32) ≤ x3 → Q (some (iv x2)) h) ∧ (¬ (1200 : Int32) ≤ x3 → vp_in (((20 : Int32) * (((((6 : Int32) * x1) + (0 : Int32)) * (10 : Int32)) + (0 : Int32))) + x3) 9600 ∧ MX G mi_X8_inElevator (d + 1) 4 [some (rv a0), some (iv x1), some (iv (x2 + (ah_I h (a0 + 23) (((20 : Int32) * (((((6 : Int32) * x1) + (0 : Int32)) * (10 : Int32)) + (0 : Int32))) + x3).toNatClampNeg))), some (iv (x3 + (1 : Int32)))] [] h Q E)) : MX G mi_X8_inElevator (d + 1) 4 [some (rv a0), some (iv x1), some (iv x2), some (iv x3)] [] h Q E := by
  refine mx_iload_n dX8_inElevator_4 rfl rfl ?_
  refine mx_sipush dX8_inElevator_5 is_1200 ?_
  refine mx_icmp_ge (tgt := 33) dX8_inElevator_8 rfl (fun c1 => ?_) (fun c1 => ?_)
  · have H := H.1 c1
    refine mx_iload_n dX8_inElevator_33 rfl rfl ?_
    exact mx_iret rfl dX8_inElevator_34 H
  · have H := H.2 c1
    refine mx_iload_n dX8_inElevator_11 rfl rfl ?_
    refine mx_aload_n dX8_inElevator_12 rfl rfl ?_
    refine mx_get 8 30 (ref := "PrairiePoolModel") cl_8 (Nat.le_of_ble_eq_true rfl) (Or.inl q1657) (Or.inl rfl) dX8_inElevator_13 (fv_8_30 _ _) (ly8_k La0_h) ?_
    refine mx_tr (ly8_R_0_30 La0_h) ?_
    refine mx_iload_n dX8_inElevator_16 rfl rfl ?_
    refine mx_iconst dX8_inElevator_17 ic_0 ?_
    refine mx_iconst dX8_inElevator_18 ic_0 ?_
    refine mx_callS (y' := mi_X8_binAt) (vs := [iv x1, iv (0 : Int32), iv (0 : Int32)]) (st := [rv (a0 + 23), iv x2]) (al' := [some (iv x1), some (iv (0 : Int32)), some (iv (0 : Int32))]) S_X8_binAt q2131 dX8_inElevator_19 rfl rfl (Nat.le_of_ble_eq_true rfl) (Nat.le_of_ble_eq_true rfl) ?_
    refine mx_bipush dX8_binAt_0 ib_20 ?_
    refine mx_bipush dX8_binAt_2 ib_6 ?_
    refine mx_iload_n dX8_binAt_4 rfl rfl ?_
    refine mx_imul dX8_binAt_5 ?_
    refine mx_iload_n dX8_binAt_6 rfl rfl ?_
    refine mx_iadd dX8_binAt_7 ?_
    refine mx_bipush dX8_binAt_8 ib_10 ?_
    refine mx_imul dX8_binAt_10 ?_
    refine mx_iload_n dX8_binAt_11 rfl rfl ?_
    refine mx_iadd dX8_binAt_12 ?_
    refine mx_imul dX8_binAt_13 ?_
    refine mx_iretK rfl dX8_binAt_14 ?_
    refine mx_iload_n dX8_inElevator_22 rfl rfl ?_
    refine mx_iadd dX8_inElevator_23 ?_
    obtain ⟨k2, H⟩ := H
    refine my_iald dX8_inElevator_24 rfl (ly8_A_23 La0_h k2) ?_
    refine mx_iadd dX8_inElevator_25 ?_
    refine mx_istore_n (al' := [some (rv a0), some (iv x1), some (iv (x2 + (ah_I h (a0 + 23) (((20 : Int32) * (((((6 : Int32) * x1) + (0 : Int32)) * (10 : Int32)) + (0 : Int32))) + x3).toNatClampNeg))), some (iv x3)]) dX8_inElevator_26 rfl (Nat.le_of_ble_eq_true rfl) rfl ?_
    refine mx_iinc (al' := [some (rv a0), some (iv x1), some (iv (x2 + (ah_I h (a0 + 23) (((20 : Int32) * (((((6 : Int32) * x1) + (0 : Int32)) * (10 : Int32)) + (0 : Int32))) + x3).toNatClampNeg))), some (iv (x3 + (1 : Int32)))]) dX8_inElevator_27 rfl ic_1 rfl ?_
    refine mx_goto (tgt := 4) dX8_inElevator_30 rfl ?_
    exact mx_weak (al' := [some (rv a0), some (iv x1), some (iv (x2 + (ah_I h (a0 + 23) (((20 : Int32) * (((((6 : Int32) * x1) + (0 : Int32)) * (10 : Int32)) + (0 : Int32))) + x3).toNatClampNeg))), some (iv (x3 + (1 : Int32)))]) ⟨rfl, ⟨rfl, ⟨rfl, ⟨rfl, trivial⟩⟩⟩⟩ H
theorem v_X8_binAt {G : ma_G} {d : Nat} {x0 : Int32} {x1 : Int32} {x2 : Int32} {h : ah_T} {Q : Option ma_V → ah_T → Prop} {E : Nat → ah_T → Prop}  (H : Q (some (iv ((20 : Int32) * (((((6 : Int32) * x0) + x1) * (10 : Int32)) + x2)))) h) : MX G mi_X8_binAt d 0 [some (iv x0), some (iv x1), some (iv x2)] [] h Q E := by
  refine mx_bipush dX8_binAt_0 ib_20 ?_
  refine mx_bipush dX8_binAt_2 ib_6 ?_
  refine mx_iload_n dX8_binAt_4 rfl rfl ?_
  refine mx_imul dX8_binAt_5 ?_
  refine mx_iload_n dX8_binAt_6 rfl rfl ?_
  refine mx_iadd dX8_binAt_7 ?_
  refine mx_bipush dX8_binAt_8 ib_10 ?_
  refine mx_imul dX8_binAt_10 ?_
  refine mx_iload_n dX8_binAt_11 rfl rfl ?_
  refine mx_iadd dX8_binAt_12 ?_
  refine mx_imul dX8_binAt_13 ?_
  exact mx_iret rfl dX8_binAt_14 H
theorem dX8_playOther_0 : decode mi_X8_playOther.2.1 0 = .ok (.aload_n 0, 1) := by decide +kernel
theorem dX8_playOther_1 : decode mi_X8_playOther.2.1 1 = .ok (.getfield 35, 3) := by decide +kernel
theorem dX8_playOther_4 : decode mi_X8_playOther.2.1 4 = .ok (.iload_n 1, 1) := by decide +kernel
theorem dX8_playOther_5 : decode mi_X8_playOther.2.1 5 = .ok (.iaload, 1) := by decide +kernel
theorem dX8_playOther_6 : decode mi_X8_playOther.2.1 6 = .ok (.iconst 2, 1) := by decide +kernel
theorem dX8_playOther_7 : decode mi_X8_playOther.2.1 7 = .ok (.if_icmp .ne 7, 3) := by decide +kernel
theorem dX8_playOther_10 : decode mi_X8_playOther.2.1 10 = .ok (.iconst 1, 1) := by decide +kernel
theorem dX8_playOther_11 : decode mi_X8_playOther.2.1 11 = .ok (.goto 4, 3) := by decide +kernel
theorem dX8_playOther_14 : decode mi_X8_playOther.2.1 14 = .ok (.iconst 0, 1) := by decide +kernel
theorem dX8_playOther_15 : decode mi_X8_playOther.2.1 15 = .ok (.istore_n 2, 1) := by decide +kernel
theorem dX8_playOther_16 : decode mi_X8_playOther.2.1 16 = .ok (.aload_n 0, 1) := by decide +kernel
theorem dX8_playOther_17 : decode mi_X8_playOther.2.1 17 = .ok (.getfield 41, 3) := by decide +kernel
theorem dX8_playOther_20 : decode mi_X8_playOther.2.1 20 = .ok (.iload_n 1, 1) := by decide +kernel
theorem dX8_playOther_21 : decode mi_X8_playOther.2.1 21 = .ok (.iaload, 1) := by decide +kernel
theorem dX8_playOther_22 : decode mi_X8_playOther.2.1 22 = .ok (.aload_n 0, 1) := by decide +kernel
theorem dX8_playOther_23 : decode mi_X8_playOther.2.1 23 = .ok (.getfield 47, 3) := by decide +kernel
theorem dX8_playOther_26 : decode mi_X8_playOther.2.1 26 = .ok (.iload_n 1, 1) := by decide +kernel
theorem dX8_playOther_27 : decode mi_X8_playOther.2.1 27 = .ok (.iaload, 1) := by decide +kernel
theorem dX8_playOther_28 : decode mi_X8_playOther.2.1 28 = .ok (.aload_n 0, 1) := by decide +kernel
theorem dX8_playOther_29 : decode mi_X8_playOther.2.1 29 = .ok (.getfield 50, 3) := by decide +kernel
theorem dX8_playOther_32 : decode mi_X8_playOther.2.1 32 = .ok (.iload_n 1, 1) := by decide +kernel
theorem dX8_playOther_33 : decode mi_X8_playOther.2.1 33 = .ok (.iaload, 1) := by decide +kernel
theorem dX8_playOther_34 : decode mi_X8_playOther.2.1 34 = .ok (.invokestatic 378, 3) := by decide +kernel
theorem dX8_playOther_37 : decode mi_X8_playOther.2.1 37 = .ok (.istore_n 3, 1) := by decide +kernel
theorem dX8_playOther_38 : decode mi_X8_playOther.2.1 38 = .ok (.aload_n 0, 1) := by decide +kernel
theorem dX8_playOther_39 : decode mi_X8_playOther.2.1 39 = .ok (.getfield 86, 3) := by decide +kernel
theorem dX8_playOther_42 : decode mi_X8_playOther.2.1 42 = .ok (.iload_n 1, 1) := by decide +kernel
theorem dX8_playOther_43 : decode mi_X8_playOther.2.1 43 = .ok (.aload_n 0, 1) := by decide +kernel
theorem dX8_playOther_44 : decode mi_X8_playOther.2.1 44 = .ok (.iload_n 3, 1) := by decide +kernel
theorem dX8_playOther_45 : decode mi_X8_playOther.2.1 45 = .ok (.aload_n 0, 1) := by decide +kernel
theorem dX8_playOther_46 : decode mi_X8_playOther.2.1 46 = .ok (.getfield 53, 3) := by decide +kernel
theorem dX8_playOther_49 : decode mi_X8_playOther.2.1 49 = .ok (.iload_n 1, 1) := by decide +kernel
theorem dX8_playOther_50 : decode mi_X8_playOther.2.1 50 = .ok (.iaload, 1) := by decide +kernel
theorem dX8_playOther_51 : decode mi_X8_playOther.2.1 51 = .ok (.iload_n 2, 1) := by decide +kernel
theorem dX8_playOther_52 : decode mi_X8_playOther.2.1 52 = .ok (.invokevirtual 396, 3) := by decide +kernel
theorem dX8_playOther_55 : decode mi_X8_playOther.2.1 55 = .ok (.iastore, 1) := by decide +kernel
theorem dX8_playOther_56 : decode mi_X8_playOther.2.1 56 = .ok (.iconst 0, 1) := by decide +kernel
theorem dX8_playOther_57 : decode mi_X8_playOther.2.1 57 = .ok (.istore 4, 2) := by decide +kernel
theorem dX8_playOther_59 : decode mi_X8_playOther.2.1 59 = .ok (.iload 4, 2) := by decide +kernel
theorem dX8_playOther_61 : decode mi_X8_playOther.2.1 61 = .ok (.aload_n 0, 1) := by decide +kernel
theorem dX8_playOther_62 : decode mi_X8_playOther.2.1 62 = .ok (.getfield 291, 3) := by decide +kernel
theorem dX8_playOther_65 : decode mi_X8_playOther.2.1 65 = .ok (.if_icmp .ge 144, 3) := by decide +kernel
theorem dX8_playOther_68 : decode mi_X8_playOther.2.1 68 = .ok (.aload_n 0, 1) := by decide +kernel
theorem dX8_playOther_69 : decode mi_X8_playOther.2.1 69 = .ok (.getfield 107, 3) := by decide +kernel
theorem dX8_playOther_72 : decode mi_X8_playOther.2.1 72 = .ok (.iload 4, 2) := by decide +kernel
theorem dX8_playOther_74 : decode mi_X8_playOther.2.1 74 = .ok (.laload, 1) := by decide +kernel
theorem dX8_playOther_75 : decode mi_X8_playOther.2.1 75 = .ok (.l2i, 1) := by decide +kernel
theorem dX8_playOther_76 : decode mi_X8_playOther.2.1 76 = .ok (.istore 5, 2) := by decide +kernel
theorem dX8_playOther_78 : decode mi_X8_playOther.2.1 78 = .ok (.iload_n 2, 1) := by decide +kernel
theorem dX8_playOther_79 : decode mi_X8_playOther.2.1 79 = .ok (.ifCond .eq 20, 3) := by decide +kernel
theorem dX8_playOther_82 : decode mi_X8_playOther.2.1 82 = .ok (.aload_n 0, 1) := by decide +kernel
theorem dX8_playOther_83 : decode mi_X8_playOther.2.1 83 = .ok (.getfield 80, 3) := by decide +kernel
theorem dX8_playOther_86 : decode mi_X8_playOther.2.1 86 = .ok (.iload_n 3, 1) := by decide +kernel
theorem dX8_playOther_87 : decode mi_X8_playOther.2.1 87 = .ok (.iload 4, 2) := by decide +kernel
theorem dX8_playOther_89 : decode mi_X8_playOther.2.1 89 = .ok (.iadd, 1) := by decide +kernel
theorem dX8_playOther_90 : decode mi_X8_playOther.2.1 90 = .ok (.dup2, 1) := by decide +kernel
theorem dX8_playOther_91 : decode mi_X8_playOther.2.1 91 = .ok (.iaload, 1) := by decide +kernel
theorem dX8_playOther_92 : decode mi_X8_playOther.2.1 92 = .ok (.iload 5, 2) := by decide +kernel
theorem dX8_playOther_94 : decode mi_X8_playOther.2.1 94 = .ok (.isub, 1) := by decide +kernel
theorem dX8_playOther_95 : decode mi_X8_playOther.2.1 95 = .ok (.iastore, 1) := by decide +kernel
theorem dX8_playOther_96 : decode mi_X8_playOther.2.1 96 = .ok (.goto 17, 3) := by decide +kernel
theorem dX8_playOther_99 : decode mi_X8_playOther.2.1 99 = .ok (.aload_n 0, 1) := by decide +kernel
theorem dX8_playOther_100 : decode mi_X8_playOther.2.1 100 = .ok (.getfield 77, 3) := by decide +kernel
theorem dX8_playOther_103 : decode mi_X8_playOther.2.1 103 = .ok (.iload_n 3, 1) := by decide +kernel
theorem dX8_playOther_104 : decode mi_X8_playOther.2.1 104 = .ok (.iload 4, 2) := by decide +kernel
theorem dX8_playOther_106 : decode mi_X8_playOther.2.1 106 = .ok (.iadd, 1) := by decide +kernel
theorem dX8_playOther_107 : decode mi_X8_playOther.2.1 107 = .ok (.dup2, 1) := by decide +kernel
theorem dX8_playOther_108 : decode mi_X8_playOther.2.1 108 = .ok (.iaload, 1) := by decide +kernel
theorem dX8_playOther_109 : decode mi_X8_playOther.2.1 109 = .ok (.iload 5, 2) := by decide +kernel
theorem dX8_playOther_111 : decode mi_X8_playOther.2.1 111 = .ok (.isub, 1) := by decide +kernel
theorem dX8_playOther_112 : decode mi_X8_playOther.2.1 112 = .ok (.iastore, 1) := by decide +kernel
theorem dX8_playOther_113 : decode mi_X8_playOther.2.1 113 = .ok (.aload_n 0, 1) := by decide +kernel
theorem dX8_playOther_114 : decode mi_X8_playOther.2.1 114 = .ok (.getfield 35, 3) := by decide +kernel
theorem dX8_playOther_117 : decode mi_X8_playOther.2.1 117 = .ok (.iload_n 1, 1) := by decide +kernel
theorem dX8_playOther_118 : decode mi_X8_playOther.2.1 118 = .ok (.iaload, 1) := by decide +kernel
theorem dX8_playOther_119 : decode mi_X8_playOther.2.1 119 = .ok (.iconst 1, 1) := by decide +kernel
theorem dX8_playOther_120 : decode mi_X8_playOther.2.1 120 = .ok (.if_icmp .ne 37, 3) := by decide +kernel
theorem dX8_playOther_123 : decode mi_X8_playOther.2.1 123 = .ok (.aload_n 0, 1) := by decide +kernel
theorem dX8_playOther_124 : decode mi_X8_playOther.2.1 124 = .ok (.getfield 80, 3) := by decide +kernel
theorem dX8_playOther_127 : decode mi_X8_playOther.2.1 127 = .ok (.aload_n 0, 1) := by decide +kernel
theorem dX8_playOther_128 : decode mi_X8_playOther.2.1 128 = .ok (.getfield 44, 3) := by decide +kernel
theorem dX8_playOther_131 : decode mi_X8_playOther.2.1 131 = .ok (.iload_n 1, 1) := by decide +kernel
theorem dX8_playOther_132 : decode mi_X8_playOther.2.1 132 = .ok (.iaload, 1) := by decide +kernel
theorem dX8_playOther_133 : decode mi_X8_playOther.2.1 133 = .ok (.aload_n 0, 1) := by decide +kernel
theorem dX8_playOther_134 : decode mi_X8_playOther.2.1 134 = .ok (.getfield 47, 3) := by decide +kernel
theorem dX8_playOther_137 : decode mi_X8_playOther.2.1 137 = .ok (.iload_n 1, 1) := by decide +kernel
theorem dX8_playOther_138 : decode mi_X8_playOther.2.1 138 = .ok (.iaload, 1) := by decide +kernel
theorem dX8_playOther_139 : decode mi_X8_playOther.2.1 139 = .ok (.aload_n 0, 1) := by decide +kernel
theorem dX8_playOther_140 : decode mi_X8_playOther.2.1 140 = .ok (.getfield 50, 3) := by decide +kernel
theorem dX8_playOther_143 : decode mi_X8_playOther.2.1 143 = .ok (.iload_n 1, 1) := by decide +kernel
theorem dX8_playOther_144 : decode mi_X8_playOther.2.1 144 = .ok (.iaload, 1) := by decide +kernel
theorem dX8_playOther_145 : decode mi_X8_playOther.2.1 145 = .ok (.invokestatic 378, 3) := by decide +kernel
theorem dX8_playOther_148 : decode mi_X8_playOther.2.1 148 = .ok (.iload 4, 2) := by decide +kernel
theorem dX8_playOther_150 : decode mi_X8_playOther.2.1 150 = .ok (.iadd, 1) := by decide +kernel
theorem dX8_playOther_151 : decode mi_X8_playOther.2.1 151 = .ok (.dup2, 1) := by decide +kernel
theorem dX8_playOther_152 : decode mi_X8_playOther.2.1 152 = .ok (.iaload, 1) := by decide +kernel
theorem dX8_playOther_153 : decode mi_X8_playOther.2.1 153 = .ok (.iload 5, 2) := by decide +kernel
theorem dX8_playOther_155 : decode mi_X8_playOther.2.1 155 = .ok (.iadd, 1) := by decide +kernel
theorem dX8_playOther_156 : decode mi_X8_playOther.2.1 156 = .ok (.iastore, 1) := by decide +kernel
theorem dX8_playOther_157 : decode mi_X8_playOther.2.1 157 = .ok (.aload_n 0, 1) := by decide +kernel
theorem dX8_playOther_158 : decode mi_X8_playOther.2.1 158 = .ok (.getfield 98, 3) := by decide +kernel
theorem dX8_playOther_161 : decode mi_X8_playOther.2.1 161 = .ok (.iload 4, 2) := by decide +kernel
theorem dX8_playOther_163 : decode mi_X8_playOther.2.1 163 = .ok (.dup2, 1) := by decide +kernel
theorem dX8_playOther_164 : decode mi_X8_playOther.2.1 164 = .ok (.iaload, 1) := by decide +kernel
theorem dX8_playOther_165 : decode mi_X8_playOther.2.1 165 = .ok (.iload_n 2, 1) := by decide +kernel
theorem dX8_playOther_166 : decode mi_X8_playOther.2.1 166 = .ok (.ifCond .eq 8, 3) := by decide +kernel
theorem dX8_playOther_169 : decode mi_X8_playOther.2.1 169 = .ok (.iload 5, 2) := by decide +kernel
theorem dX8_playOther_171 : decode mi_X8_playOther.2.1 171 = .ok (.goto 4, 3) := by decide +kernel
theorem dX8_playOther_174 : decode mi_X8_playOther.2.1 174 = .ok (.iconst 0, 1) := by decide +kernel
theorem dX8_playOther_175 : decode mi_X8_playOther.2.1 175 = .ok (.iadd, 1) := by decide +kernel
theorem dX8_playOther_176 : decode mi_X8_playOther.2.1 176 = .ok (.iastore, 1) := by decide +kernel
theorem dX8_playOther_177 : decode mi_X8_playOther.2.1 177 = .ok (.aload_n 0, 1) := by decide +kernel
theorem dX8_playOther_178 : decode mi_X8_playOther.2.1 178 = .ok (.getfield 101, 3) := by decide +kernel
theorem dX8_playOther_181 : decode mi_X8_playOther.2.1 181 = .ok (.iload 4, 2) := by decide +kernel
theorem dX8_playOther_183 : decode mi_X8_playOther.2.1 183 = .ok (.dup2, 1) := by decide +kernel
theorem dX8_playOther_184 : decode mi_X8_playOther.2.1 184 = .ok (.iaload, 1) := by decide +kernel
theorem dX8_playOther_185 : decode mi_X8_playOther.2.1 185 = .ok (.aload_n 0, 1) := by decide +kernel
theorem dX8_playOther_186 : decode mi_X8_playOther.2.1 186 = .ok (.getfield 35, 3) := by decide +kernel
theorem dX8_playOther_189 : decode mi_X8_playOther.2.1 189 = .ok (.iload_n 1, 1) := by decide +kernel
theorem dX8_playOther_190 : decode mi_X8_playOther.2.1 190 = .ok (.iaload, 1) := by decide +kernel
theorem dX8_playOther_191 : decode mi_X8_playOther.2.1 191 = .ok (.iconst 3, 1) := by decide +kernel
theorem dX8_playOther_192 : decode mi_X8_playOther.2.1 192 = .ok (.if_icmp .ne 8, 3) := by decide +kernel
theorem dX8_playOther_195 : decode mi_X8_playOther.2.1 195 = .ok (.iload 5, 2) := by decide +kernel
theorem dX8_playOther_197 : decode mi_X8_playOther.2.1 197 = .ok (.goto 4, 3) := by decide +kernel
theorem dX8_playOther_200 : decode mi_X8_playOther.2.1 200 = .ok (.iconst 0, 1) := by decide +kernel
theorem dX8_playOther_201 : decode mi_X8_playOther.2.1 201 = .ok (.iadd, 1) := by decide +kernel
theorem dX8_playOther_202 : decode mi_X8_playOther.2.1 202 = .ok (.iastore, 1) := by decide +kernel
theorem dX8_playOther_203 : decode mi_X8_playOther.2.1 203 = .ok (.iinc 4 1, 3) := by decide +kernel
theorem dX8_playOther_206 : decode mi_X8_playOther.2.1 206 = .ok (.goto (-147), 3) := by decide +kernel
theorem dX8_playOther_209 : decode mi_X8_playOther.2.1 209 = .ok (.return_, 1) := by decide +kernel
theorem v_X8_playOther {G : ma_G} {d : Nat} {a0 : Nat} {x1 : Int32} {h : ah_T} {Q : Option ma_V → ah_T → Prop} {E : Nat → ah_T → Prop} (La0_h : LY8 h a0) (H : vp_in x1 120 ∧ (¬ (ah_I h (a0 + 9) x1.toNatClampNeg) = (2 : Int32) → MX G mi_X8_playOther (d + 1) 15 [some (rv a0), some (iv x1), none, none, none, none] [iv (0 : Int32)] h Q E) ∧ ((ah_I h (a0 + 9) x1.toNatClampNeg) = (2 : Int32) → MX G mi_X8_playOther (d + 1) 15 [some (rv a0), some (iv x1), none, none, none, none] [iv (1 : Int32)] h Q E)) : MX G mi_X8_playOther (d + 1) 0 [some (rv a0), some (iv x1), none, none, none, none] [] h Q E := by
  refine mx_aload_n dX8_playOther_0 rfl rfl ?_
  refine mx_get 8 16 (ref := "PrairiePoolModel") cl_8 (Nat.le_of_ble_eq_true rfl) (Or.inl q1643) (Or.inl rfl) dX8_playOther_1 (fv_8_16 _ _) (ly8_k La0_h) ?_
  refine mx_tr (ly8_R_0_16 La0_h) ?_
  refine mx_iload_n dX8_playOther_4 rfl rfl ?_
  obtain ⟨k1, H⟩ := H
  refine my_iald dX8_playOther_5 rfl (ly8_A_9 La0_h k1) ?_
  refine mx_iconst dX8_playOther_6 ic_2 ?_
  refine mx_icmp_ne (tgt := 14) dX8_playOther_7 rfl (fun c2 => ?_) (fun c2 => ?_)
  · have H := H.1 c2
    refine mx_iconst dX8_playOther_14 ic_0 ?_
    exact mx_weak (al' := [some (rv a0), some (iv x1), none, none, none, none]) ⟨rfl, ⟨rfl, trivial⟩⟩ H
  · have H := H.2 c2
    refine mx_iconst dX8_playOther_10 ic_1 ?_
    refine mx_goto (tgt := 15) dX8_playOther_11 rfl ?_
    exact mx_weak (al' := [some (rv a0), some (iv x1), none, none, none, none]) ⟨rfl, ⟨rfl, trivial⟩⟩ H
theorem v_X8_playOther_15 {G : ma_G} {d : Nat} {a0 : Nat} {x1 : Int32} {z0 : Int32} {h : ah_T} {Q : Option ma_V → ah_T → Prop} {E : Nat → ah_T → Prop} (La0_h : LY8 h a0) (H : vp_in x1 120 ∧ MX G mi_X8_takeBin d 0 [some (rv a0), some (iv ((20 : Int32) * (((((6 : Int32) * (ah_I h (a0 + 11) x1.toNatClampNeg)) + (ah_I h (a0 + 13) x1.toNatClampNeg)) * (10 : Int32)) + (ah_I h (a0 + 14) x1.toNatClampNeg)))), some (iv (ah_I h (a0 + 15) x1.toNatClampNeg)), some (iv z0), none, none] [] h (Qi fun r3 h2 => ah_ext h h2 → ∀ h4 : ah_T, h4 = ah_wI h2 (a0 + 26) x1.toNatClampNeg r3 → ah_ext h2 h4 → MX G mi_X8_playOther (d + 1) 59 [some (rv a0), some (iv x1), some (iv z0), some (iv ((20 : Int32) * (((((6 : Int32) * (ah_I h (a0 + 11) x1.toNatClampNeg)) + (ah_I h (a0 + 13) x1.toNatClampNeg)) * (10 : Int32)) + (ah_I h (a0 + 14) x1.toNatClampNeg)))), some (iv (0 : Int32)), none] [] h4 Q E) E) : MX G mi_X8_playOther (d + 1) 15 [some (rv a0), some (iv x1), none, none, none, none] [iv z0] h Q E := by
  refine mx_istore_n (al' := [some (rv a0), some (iv x1), some (iv z0), none, none, none]) dX8_playOther_15 rfl (Nat.le_of_ble_eq_true rfl) rfl ?_
  refine mx_aload_n dX8_playOther_16 rfl rfl ?_
  refine mx_get 8 18 (ref := "PrairiePoolModel") cl_8 (Nat.le_of_ble_eq_true rfl) (Or.inl q1645) (Or.inl rfl) dX8_playOther_17 (fv_8_18 _ _) (ly8_k La0_h) ?_
  refine mx_tr (ly8_R_0_18 La0_h) ?_
  refine mx_iload_n dX8_playOther_20 rfl rfl ?_
  obtain ⟨k1, H⟩ := H
  refine my_iald dX8_playOther_21 rfl (ly8_A_11 La0_h k1) ?_
  refine mx_aload_n dX8_playOther_22 rfl rfl ?_
  refine mx_get 8 20 (ref := "PrairiePoolModel") cl_8 (Nat.le_of_ble_eq_true rfl) (Or.inl q1647) (Or.inl rfl) dX8_playOther_23 (fv_8_20 _ _) (ly8_k La0_h) ?_
  refine mx_tr (ly8_R_0_20 La0_h) ?_
  refine mx_iload_n dX8_playOther_26 rfl rfl ?_
  refine my_iald dX8_playOther_27 rfl (ly8_A_13 La0_h k1) ?_
  refine mx_aload_n dX8_playOther_28 rfl rfl ?_
  refine mx_get 8 21 (ref := "PrairiePoolModel") cl_8 (Nat.le_of_ble_eq_true rfl) (Or.inl q1648) (Or.inl rfl) dX8_playOther_29 (fv_8_21 _ _) (ly8_k La0_h) ?_
  refine mx_tr (ly8_R_0_21 La0_h) ?_
  refine mx_iload_n dX8_playOther_32 rfl rfl ?_
  refine my_iald dX8_playOther_33 rfl (ly8_A_14 La0_h k1) ?_
  refine mx_callS (y' := mi_X8_binAt) (vs := [iv (ah_I h (a0 + 11) x1.toNatClampNeg), iv (ah_I h (a0 + 13) x1.toNatClampNeg), iv (ah_I h (a0 + 14) x1.toNatClampNeg)]) (st := []) (al' := [some (iv (ah_I h (a0 + 11) x1.toNatClampNeg)), some (iv (ah_I h (a0 + 13) x1.toNatClampNeg)), some (iv (ah_I h (a0 + 14) x1.toNatClampNeg))]) S_X8_binAt q2131 dX8_playOther_34 rfl rfl (Nat.le_of_ble_eq_true rfl) (Nat.le_of_ble_eq_true rfl) ?_
  refine mx_bipush dX8_binAt_0 ib_20 ?_
  refine mx_bipush dX8_binAt_2 ib_6 ?_
  refine mx_iload_n dX8_binAt_4 rfl rfl ?_
  refine mx_imul dX8_binAt_5 ?_
  refine mx_iload_n dX8_binAt_6 rfl rfl ?_
  refine mx_iadd dX8_binAt_7 ?_
  refine mx_bipush dX8_binAt_8 ib_10 ?_
  refine mx_imul dX8_binAt_10 ?_
  refine mx_iload_n dX8_binAt_11 rfl rfl ?_
  refine mx_iadd dX8_binAt_12 ?_
  refine mx_imul dX8_binAt_13 ?_
  refine mx_iretK rfl dX8_binAt_14 ?_
  refine mx_istore_n (al' := [some (rv a0), some (iv x1), some (iv z0), some (iv ((20 : Int32) * (((((6 : Int32) * (ah_I h (a0 + 11) x1.toNatClampNeg)) + (ah_I h (a0 + 13) x1.toNatClampNeg)) * (10 : Int32)) + (ah_I h (a0 + 14) x1.toNatClampNeg)))), none, none]) dX8_playOther_37 rfl (Nat.le_of_ble_eq_true rfl) rfl ?_
  refine mx_aload_n dX8_playOther_38 rfl rfl ?_
  refine mx_get 8 33 (ref := "PrairiePoolModel") cl_8 (Nat.le_of_ble_eq_true rfl) (Or.inl q1660) (Or.inl rfl) dX8_playOther_39 (fv_8_33 _ _) (ly8_k La0_h) ?_
  refine mx_tr (ly8_R_0_33 La0_h) ?_
  refine mx_iload_n dX8_playOther_42 rfl rfl ?_
  refine mx_aload_n dX8_playOther_43 rfl rfl ?_
  refine mx_iload_n dX8_playOther_44 rfl rfl ?_
  refine mx_aload_n dX8_playOther_45 rfl rfl ?_
  refine mx_get 8 22 (ref := "PrairiePoolModel") cl_8 (Nat.le_of_ble_eq_true rfl) (Or.inl q1649) (Or.inl rfl) dX8_playOther_46 (fv_8_22 _ _) (ly8_k La0_h) ?_
  refine mx_tr (ly8_R_0_22 La0_h) ?_
  refine mx_iload_n dX8_playOther_49 rfl rfl ?_
  refine my_iald dX8_playOther_50 rfl (ly8_A_15 La0_h k1) ?_
  refine mx_iload_n dX8_playOther_51 rfl rfl ?_
  refine mx_callV 8 (y' := mi_X8_takeBin) (vs := [iv ((20 : Int32) * (((((6 : Int32) * (ah_I h (a0 + 11) x1.toNatClampNeg)) + (ah_I h (a0 + 13) x1.toNatClampNeg)) * (10 : Int32)) + (ah_I h (a0 + 14) x1.toNatClampNeg))), iv (ah_I h (a0 + 15) x1.toNatClampNeg), iv z0]) (st := [iv x1, rv (a0 + 26)]) (al' := [some (rv a0), some (iv ((20 : Int32) * (((((6 : Int32) * (ah_I h (a0 + 11) x1.toNatClampNeg)) + (ah_I h (a0 + 13) x1.toNatClampNeg)) * (10 : Int32)) + (ah_I h (a0 + 14) x1.toNatClampNeg)))), some (iv (ah_I h (a0 + 15) x1.toNatClampNeg)), some (iv z0), none, none]) cl_8 V_X8_takeBin (Or.inl q2139) dX8_playOther_52 rfl rfl (Nat.le_of_ble_eq_true rfl) (Nat.le_of_ble_eq_true rfl) (ly8_k La0_h) ?_
  refine ma_ki H (fun r3 h2 Xh2 H => ?_) (fun x1 h1 X1 H => mt_out rfl H)
  have H := H Xh2
  have La0_h2 := La0_h.ext Xh2
  refine my_iast dX8_playOther_55 rfl (ly8_A_26 La0_h2 k1) ?_
  refine mx_nmI  (fun h4 eh4 Xh4 Kh4 Lh4 => ?_)
  have H := H h4 eh4 Xh4
  have La0_h4 := La0_h2.ext Xh4
  refine mx_iconst dX8_playOther_56 ic_0 ?_
  refine mx_istore (al' := [some (rv a0), some (iv x1), some (iv z0), some (iv ((20 : Int32) * (((((6 : Int32) * (ah_I h (a0 + 11) x1.toNatClampNeg)) + (ah_I h (a0 + 13) x1.toNatClampNeg)) * (10 : Int32)) + (ah_I h (a0 + 14) x1.toNatClampNeg)))), some (iv (0 : Int32)), none]) dX8_playOther_57 (Nat.le_of_ble_eq_true rfl) rfl ?_
  exact mx_weak (al' := [some (rv a0), some (iv x1), some (iv z0), some (iv ((20 : Int32) * (((((6 : Int32) * (ah_I h (a0 + 11) x1.toNatClampNeg)) + (ah_I h (a0 + 13) x1.toNatClampNeg)) * (10 : Int32)) + (ah_I h (a0 + 14) x1.toNatClampNeg)))), some (iv (0 : Int32)), none]) ⟨rfl, ⟨rfl, ⟨rfl, ⟨rfl, ⟨rfl, trivial⟩⟩⟩⟩⟩ H
theorem v_X8_playOther_59 {G : ma_G} {d : Nat} {a0 : Nat} {x1 : Int32} {x2 : Int32} {x3 : Int32} {x4 : Int32} {h : ah_T} {Q : Option ma_V → ah_T → Prop} {E : Nat → ah_T → Prop} (La0_h : LY8 h a0) (H : ((ah_I h a0 5) ≤ x4 → Q none h) ∧ (¬ (ah_I h a0 5) ≤ x4 → vp_in x4 20 ∧ (x2 = 0 → vp_in (x3 + x4) 9600 ∧ ∀ h5 : ah_T, h5 = ah_wI h (a0 + 23) (x3 + x4).toNatClampNeg ((ah_I h (a0 + 23) (x3 + x4).toNatClampNeg) - (ah_J h (a0 + 33) x4.toNatClampNeg).toInt32) → ah_ext h h5 → MX G mi_X8_playOther (d + 1) 113 [some (rv a0), some (iv x1), some (iv x2), some (iv x3), some (iv x4), some (iv (ah_J h (a0 + 33) x4.toNatClampNeg).toInt32)] [] h5 Q E) ∧ (¬ x2 = 0 → vp_in (x3 + x4) 2400 ∧ ∀ h7 : ah_T, h7 = ah_wI h (a0 + 24) (x3 + x4).toNatClampNeg ((ah_I h (a0 + 24) (x3 + x4).toNatClampNeg) - (ah_J h (a0 + 33) x4.toNatClampNeg).toInt32) → ah_ext h h7 → MX G mi_X8_playOther (d + 1) 113 [some (rv a0), some (iv x1), some (iv x2), some (iv x3), some (iv x4), some (iv (ah_J h (a0 + 33) x4.toNatClampNeg).toInt32)] [] h7 Q E))) : MX G mi_X8_playOther (d + 1) 59 [some (rv a0), some (iv x1), some (iv x2), some (iv x3), some (iv x4), none] [] h Q E := by
  refine mx_iload dX8_playOther_59 rfl ?_
  refine mx_aload_n dX8_playOther_61 rfl rfl ?_
  refine mx_get 8 5 (ref := "PrairiePoolModel") cl_8 (Nat.le_of_ble_eq_true rfl) (Or.inl q1632) (Or.inl rfl) dX8_playOther_62 (fv_8_5 _ _) (ly8_k La0_h) ?_
  refine mx_icmp_ge (tgt := 209) dX8_playOther_65 rfl (fun c1 => ?_) (fun c1 => ?_)
  · have H := H.1 c1
    exact mx_vret rfl dX8_playOther_209 H
  · have H := H.2 c1
    refine mx_aload_n dX8_playOther_68 rfl rfl ?_
    refine mx_get 8 41 (ref := "PrairiePoolModel") cl_8 (Nat.le_of_ble_eq_true rfl) (Or.inl q1668) (Or.inl rfl) dX8_playOther_69 (fv_8_41 _ _) (ly8_k La0_h) ?_
    refine mx_tr (ly8_R_0_41 La0_h) ?_
    refine mx_iload dX8_playOther_72 rfl ?_
    obtain ⟨k2, H⟩ := H
    refine my_lald dX8_playOther_74 rfl (ly8_A_33 La0_h k2) ?_
    refine mx_l2i dX8_playOther_75 ?_
    refine mx_istore (al' := [some (rv a0), some (iv x1), some (iv x2), some (iv x3), some (iv x4), some (iv (ah_J h (a0 + 33) x4.toNatClampNeg).toInt32)]) dX8_playOther_76 (Nat.le_of_ble_eq_true rfl) rfl ?_
    refine mx_iload_n dX8_playOther_78 rfl rfl ?_
    refine mx_if_eq (tgt := 99) dX8_playOther_79 rfl (fun c3 => ?_) (fun c3 => ?_)
    · have H := H.1 c3
      refine mx_aload_n dX8_playOther_99 rfl rfl ?_
      refine mx_get 8 30 (ref := "PrairiePoolModel") cl_8 (Nat.le_of_ble_eq_true rfl) (Or.inl q1657) (Or.inl rfl) dX8_playOther_100 (fv_8_30 _ _) (ly8_k La0_h) ?_
      refine mx_tr (ly8_R_0_30 La0_h) ?_
      refine mx_iload_n dX8_playOther_103 rfl rfl ?_
      refine mx_iload dX8_playOther_104 rfl ?_
      refine mx_iadd dX8_playOther_106 ?_
      refine mx_dup2_ir dX8_playOther_107 ?_
      obtain ⟨k4, H⟩ := H
      refine my_iald dX8_playOther_108 rfl (ly8_A_23 La0_h k4) ?_
      refine mx_iload dX8_playOther_109 rfl ?_
      refine mx_isub dX8_playOther_111 ?_
      refine my_iast dX8_playOther_112 rfl (ly8_A_23 La0_h k4) ?_
      refine mx_nmI  (fun h5 eh5 Xh5 Kh5 Lh5 => ?_)
      have H := H h5 eh5 Xh5
      have La0_h5 := La0_h.ext Xh5
      exact mx_weak (al' := [some (rv a0), some (iv x1), some (iv x2), some (iv x3), some (iv x4), some (iv (ah_J h (a0 + 33) x4.toNatClampNeg).toInt32)]) ⟨rfl, ⟨rfl, ⟨rfl, ⟨rfl, ⟨rfl, ⟨rfl, trivial⟩⟩⟩⟩⟩⟩ H
    · have H := H.2 c3
      refine mx_aload_n dX8_playOther_82 rfl rfl ?_
      refine mx_get 8 31 (ref := "PrairiePoolModel") cl_8 (Nat.le_of_ble_eq_true rfl) (Or.inl q1658) (Or.inl rfl) dX8_playOther_83 (fv_8_31 _ _) (ly8_k La0_h) ?_
      refine mx_tr (ly8_R_0_31 La0_h) ?_
      refine mx_iload_n dX8_playOther_86 rfl rfl ?_
      refine mx_iload dX8_playOther_87 rfl ?_
      refine mx_iadd dX8_playOther_89 ?_
      refine mx_dup2_ir dX8_playOther_90 ?_
      obtain ⟨k6, H⟩ := H
      refine my_iald dX8_playOther_91 rfl (ly8_A_24 La0_h k6) ?_
      refine mx_iload dX8_playOther_92 rfl ?_
      refine mx_isub dX8_playOther_94 ?_
      refine my_iast dX8_playOther_95 rfl (ly8_A_24 La0_h k6) ?_
      refine mx_nmI  (fun h7 eh7 Xh7 Kh7 Lh7 => ?_)
      have H := H h7 eh7 Xh7
      have La0_h7 := La0_h.ext Xh7
      refine mx_goto (tgt := 113) dX8_playOther_96 rfl ?_
      exact mx_weak (al' := [some (rv a0), some (iv x1), some (iv x2), some (iv x3), some (iv x4), some (iv (ah_J h (a0 + 33) x4.toNatClampNeg).toInt32)]) ⟨rfl, ⟨rfl, ⟨rfl, ⟨rfl, ⟨rfl, ⟨rfl, trivial⟩⟩⟩⟩⟩⟩ H
theorem v_X8_playOther_113 {G : ma_G} {d : Nat} {a0 : Nat} {x1 : Int32} {x2 : Int32} {x3 : Int32} {x4 : Int32} {x5 : Int32} {h : ah_T} {Q : Option ma_V → ah_T → Prop} {E : Nat → ah_T → Prop} (La0_h : LY8 h a0) (H : vp_in x1 120 ∧ (¬ (ah_I h (a0 + 9) x1.toNatClampNeg) = (1 : Int32) → vp_in x4 20 ∧ (x2 = 0 → MX G mi_X8_playOther (d + 1) 175 [some (rv a0), some (iv x1), some (iv x2), some (iv x3), some (iv x4), some (iv x5)] [iv (0 : Int32), iv (ah_I h (a0 + 30) x4.toNatClampNeg), iv x4, rv (a0 + 30)] h Q E) ∧ (¬ x2 = 0 → MX G mi_X8_playOther (d + 1) 175 [some (rv a0), some (iv x1), some (iv x2), some (iv x3), some (iv x4), some (iv x5)] [iv x5, iv (ah_I h (a0 + 30) x4.toNatClampNeg), iv x4, rv (a0 + 30)] h Q E)) ∧ ((ah_I h (a0 + 9) x1.toNatClampNeg) = (1 : Int32) → vp_in (((20 : Int32) * (((((6 : Int32) * (ah_I h (a0 + 12) x1.toNatClampNeg)) + (ah_I h (a0 + 13) x1.toNatClampNeg)) * (10 : Int32)) + (ah_I h (a0 + 14) x1.toNatClampNeg))) + x4) 2400 ∧ ∀ h6 : ah_T, h6 = ah_wI h (a0 + 24) (((20 : Int32) * (((((6 : Int32) * (ah_I h (a0 + 12) x1.toNatClampNeg)) + (ah_I h (a0 + 13) x1.toNatClampNeg)) * (10 : Int32)) + (ah_I h (a0 + 14) x1.toNatClampNeg))) + x4).toNatClampNeg ((ah_I h (a0 + 24) (((20 : Int32) * (((((6 : Int32) * (ah_I h (a0 + 12) x1.toNatClampNeg)) + (ah_I h (a0 + 13) x1.toNatClampNeg)) * (10 : Int32)) + (ah_I h (a0 + 14) x1.toNatClampNeg))) + x4).toNatClampNeg) + x5) → ah_ext h h6 → vp_in x4 20 ∧ (x2 = 0 → MX G mi_X8_playOther (d + 1) 175 [some (rv a0), some (iv x1), some (iv x2), some (iv x3), some (iv x4), some (iv x5)] [iv (0 : Int32), iv (ah_I h (a0 + 30) x4.toNatClampNeg), iv x4, rv (a0 + 30)] h6 Q E) ∧ (¬ x2 = 0 → MX G mi_X8_playOther (d + 1) 175 [some (rv a0), some (iv x1), some (iv x2), some (iv x3), some (iv x4), some (iv x5)] [iv x5, iv (ah_I h (a0 + 30) x4.toNatClampNeg), iv x4, rv (a0 + 30)] h6 Q E))) : MX G mi_X8_playOther (d + 1) 113 [some (rv a0), some (iv x1), some (iv x2), some (iv x3), some (iv x4), some (iv x5)] [] h Q E := by
  refine mx_aload_n dX8_playOther_113 rfl rfl ?_
  refine mx_get 8 16 (ref := "PrairiePoolModel") cl_8 (Nat.le_of_ble_eq_true rfl) (Or.inl q1643) (Or.inl rfl) dX8_playOther_114 (fv_8_16 _ _) (ly8_k La0_h) ?_
  refine mx_tr (ly8_R_0_16 La0_h) ?_
  refine mx_iload_n dX8_playOther_117 rfl rfl ?_
  obtain ⟨k1, H⟩ := H
  refine my_iald dX8_playOther_118 rfl (ly8_A_9 La0_h k1) ?_
  refine mx_iconst dX8_playOther_119 ic_1 ?_
  refine mx_icmp_ne (tgt := 157) dX8_playOther_120 rfl (fun c2 => ?_) (fun c2 => ?_)
  · have H := H.1 c2
    refine mx_aload_n dX8_playOther_157 rfl rfl ?_
    refine mx_get 8 37 (ref := "PrairiePoolModel") cl_8 (Nat.le_of_ble_eq_true rfl) (Or.inl q1664) (Or.inl rfl) dX8_playOther_158 (fv_8_37 _ _) (ly8_k La0_h) ?_
    refine mx_tr (ly8_R_0_37 La0_h) ?_
    refine mx_iload dX8_playOther_161 rfl ?_
    refine mx_dup2_ir dX8_playOther_163 ?_
    obtain ⟨k3, H⟩ := H
    refine my_iald dX8_playOther_164 rfl (ly8_A_30 La0_h k3) ?_
    refine mx_iload_n dX8_playOther_165 rfl rfl ?_
    refine mx_if_eq (tgt := 174) dX8_playOther_166 rfl (fun c4 => ?_) (fun c4 => ?_)
    · have H := H.1 c4
      refine mx_iconst dX8_playOther_174 ic_0 ?_
      exact mx_weak (al' := [some (rv a0), some (iv x1), some (iv x2), some (iv x3), some (iv x4), some (iv x5)]) ⟨rfl, ⟨rfl, ⟨rfl, ⟨rfl, ⟨rfl, ⟨rfl, trivial⟩⟩⟩⟩⟩⟩ H
    · have H := H.2 c4
      refine mx_iload dX8_playOther_169 rfl ?_
      refine mx_goto (tgt := 175) dX8_playOther_171 rfl ?_
      exact mx_weak (al' := [some (rv a0), some (iv x1), some (iv x2), some (iv x3), some (iv x4), some (iv x5)]) ⟨rfl, ⟨rfl, ⟨rfl, ⟨rfl, ⟨rfl, ⟨rfl, trivial⟩⟩⟩⟩⟩⟩ H
  · have H := H.2 c2
    refine mx_aload_n dX8_playOther_123 rfl rfl ?_
    refine mx_get 8 31 (ref := "PrairiePoolModel") cl_8 (Nat.le_of_ble_eq_true rfl) (Or.inl q1658) (Or.inl rfl) dX8_playOther_124 (fv_8_31 _ _) (ly8_k La0_h) ?_
    refine mx_tr (ly8_R_0_31 La0_h) ?_
    refine mx_aload_n dX8_playOther_127 rfl rfl ?_
    refine mx_get 8 19 (ref := "PrairiePoolModel") cl_8 (Nat.le_of_ble_eq_true rfl) (Or.inl q1646) (Or.inl rfl) dX8_playOther_128 (fv_8_19 _ _) (ly8_k La0_h) ?_
    refine mx_tr (ly8_R_0_19 La0_h) ?_
    refine mx_iload_n dX8_playOther_131 rfl rfl ?_
    refine my_iald dX8_playOther_132 rfl (ly8_A_12 La0_h k1) ?_
    refine mx_aload_n dX8_playOther_133 rfl rfl ?_
    refine mx_get 8 20 (ref := "PrairiePoolModel") cl_8 (Nat.le_of_ble_eq_true rfl) (Or.inl q1647) (Or.inl rfl) dX8_playOther_134 (fv_8_20 _ _) (ly8_k La0_h) ?_
    refine mx_tr (ly8_R_0_20 La0_h) ?_
    refine mx_iload_n dX8_playOther_137 rfl rfl ?_
    refine my_iald dX8_playOther_138 rfl (ly8_A_13 La0_h k1) ?_
    refine mx_aload_n dX8_playOther_139 rfl rfl ?_
    refine mx_get 8 21 (ref := "PrairiePoolModel") cl_8 (Nat.le_of_ble_eq_true rfl) (Or.inl q1648) (Or.inl rfl) dX8_playOther_140 (fv_8_21 _ _) (ly8_k La0_h) ?_
    refine mx_tr (ly8_R_0_21 La0_h) ?_
    refine mx_iload_n dX8_playOther_143 rfl rfl ?_
    refine my_iald dX8_playOther_144 rfl (ly8_A_14 La0_h k1) ?_
    refine mx_callS (y' := mi_X8_binAt) (vs := [iv (ah_I h (a0 + 12) x1.toNatClampNeg), iv (ah_I h (a0 + 13) x1.toNatClampNeg), iv (ah_I h (a0 + 14) x1.toNatClampNeg)]) (st := [rv (a0 + 24)]) (al' := [some (iv (ah_I h (a0 + 12) x1.toNatClampNeg)), some (iv (ah_I h (a0 + 13) x1.toNatClampNeg)), some (iv (ah_I h (a0 + 14) x1.toNatClampNeg))]) S_X8_binAt q2131 dX8_playOther_145 rfl rfl (Nat.le_of_ble_eq_true rfl) (Nat.le_of_ble_eq_true rfl) ?_
    refine mx_bipush dX8_binAt_0 ib_20 ?_
    refine mx_bipush dX8_binAt_2 ib_6 ?_
    refine mx_iload_n dX8_binAt_4 rfl rfl ?_
    refine mx_imul dX8_binAt_5 ?_
    refine mx_iload_n dX8_binAt_6 rfl rfl ?_
    refine mx_iadd dX8_binAt_7 ?_
    refine mx_bipush dX8_binAt_8 ib_10 ?_
    refine mx_imul dX8_binAt_10 ?_
    refine mx_iload_n dX8_binAt_11 rfl rfl ?_
    refine mx_iadd dX8_binAt_12 ?_
    refine mx_imul dX8_binAt_13 ?_
    refine mx_iretK rfl dX8_binAt_14 ?_
    refine mx_iload dX8_playOther_148 rfl ?_
    refine mx_iadd dX8_playOther_150 ?_
    refine mx_dup2_ir dX8_playOther_151 ?_
    obtain ⟨k5, H⟩ := H
    refine my_iald dX8_playOther_152 rfl (ly8_A_24 La0_h k5) ?_
    refine mx_iload dX8_playOther_153 rfl ?_
    refine mx_iadd dX8_playOther_155 ?_
    refine my_iast dX8_playOther_156 rfl (ly8_A_24 La0_h k5) ?_
    refine mx_nmI  (fun h6 eh6 Xh6 Kh6 Lh6 => ?_)
    have H := H h6 eh6 Xh6
    have La0_h6 := La0_h.ext Xh6
    refine mx_aload_n dX8_playOther_157 rfl rfl ?_
    refine mx_get 8 37 (ref := "PrairiePoolModel") cl_8 (Nat.le_of_ble_eq_true rfl) (Or.inl q1664) (Or.inl rfl) dX8_playOther_158 (fv_8_37 _ _) (ly8_k La0_h6) ?_
    refine mx_tr (ly8_R_0_37 La0_h6) ?_
    refine mx_iload dX8_playOther_161 rfl ?_
    refine mx_dup2_ir dX8_playOther_163 ?_
    obtain ⟨k7, H⟩ := H
    refine my_iald dX8_playOther_164 rfl (ly8_A_30 La0_h6 k7) ?_
    refine mx_ti (ah_skIA eh6 (by omega)) ?_
    refine mx_iload_n dX8_playOther_165 rfl rfl ?_
    refine mx_if_eq (tgt := 174) dX8_playOther_166 rfl (fun c8 => ?_) (fun c8 => ?_)
    · have H := H.1 c8
      refine mx_iconst dX8_playOther_174 ic_0 ?_
      exact mx_weak (al' := [some (rv a0), some (iv x1), some (iv x2), some (iv x3), some (iv x4), some (iv x5)]) ⟨rfl, ⟨rfl, ⟨rfl, ⟨rfl, ⟨rfl, ⟨rfl, trivial⟩⟩⟩⟩⟩⟩ H
    · have H := H.2 c8
      refine mx_iload dX8_playOther_169 rfl ?_
      refine mx_goto (tgt := 175) dX8_playOther_171 rfl ?_
      exact mx_weak (al' := [some (rv a0), some (iv x1), some (iv x2), some (iv x3), some (iv x4), some (iv x5)]) ⟨rfl, ⟨rfl, ⟨rfl, ⟨rfl, ⟨rfl, ⟨rfl, trivial⟩⟩⟩⟩⟩⟩ H
theorem v_X8_playOther_175 {G : ma_G} {d : Nat} {a0 : Nat} {x1 : Int32} {x2 : Int32} {x3 : Int32} {x4 : Int32} {x5 : Int32} {z0 : Int32} {z1 : Int32} {h : ah_T} {Q : Option ma_V → ah_T → Prop} {E : Nat → ah_T → Prop} (La0_h : LY8 h a0) (H : vp_in x4 20 ∧ ∀ h2 : ah_T, h2 = ah_wI h (a0 + 30) x4.toNatClampNeg (z1 + z0) → ah_ext h h2 → vp_in x1 120 ∧ (¬ (ah_I h (a0 + 9) x1.toNatClampNeg) = (3 : Int32) → ∀ h5 : ah_T, h5 = ah_wI h2 (a0 + 31) x4.toNatClampNeg ((ah_I h (a0 + 31) x4.toNatClampNeg) + (0 : Int32)) → ah_ext h2 h5 → MX G mi_X8_playOther (d + 1) 59 [some (rv a0), some (iv x1), some (iv x2), some (iv x3), some (iv (x4 + (1 : Int32))), none] [] h5 Q E) ∧ ((ah_I h (a0 + 9) x1.toNatClampNeg) = (3 : Int32) → ∀ h6 : ah_T, h6 = ah_wI h2 (a0 + 31) x4.toNatClampNeg ((ah_I h (a0 + 31) x4.toNatClampNeg) + x5) → ah_ext h2 h6 → MX G mi_X8_playOther (d + 1) 59 [some (rv a0), some (iv x1), some (iv x2), some (iv x3), some (iv (x4 + (1 : Int32))), none] [] h6 Q E)) : MX G mi_X8_playOther (d + 1) 175 [some (rv a0), some (iv x1), some (iv x2), some (iv x3), some (iv x4), some (iv x5)] [iv z0, iv z1, iv x4, rv (a0 + 30)] h Q E := by
  refine mx_iadd dX8_playOther_175 ?_
  obtain ⟨k1, H⟩ := H
  refine my_iast dX8_playOther_176 rfl (ly8_A_30 La0_h k1) ?_
  refine mx_nmI  (fun h2 eh2 Xh2 Kh2 Lh2 => ?_)
  have H := H h2 eh2 Xh2
  have La0_h2 := La0_h.ext Xh2
  refine mx_aload_n dX8_playOther_177 rfl rfl ?_
  refine mx_get 8 38 (ref := "PrairiePoolModel") cl_8 (Nat.le_of_ble_eq_true rfl) (Or.inl q1665) (Or.inl rfl) dX8_playOther_178 (fv_8_38 _ _) (ly8_k La0_h2) ?_
  refine mx_tr (ly8_R_0_38 La0_h2) ?_
  refine mx_iload dX8_playOther_181 rfl ?_
  refine mx_dup2_ir dX8_playOther_183 ?_
  refine my_iald dX8_playOther_184 rfl (ly8_A_31 La0_h2 k1) ?_
  refine mx_ti (ah_skIA eh2 (by omega)) ?_
  refine mx_aload_n dX8_playOther_185 rfl rfl ?_
  refine mx_get 8 16 (ref := "PrairiePoolModel") cl_8 (Nat.le_of_ble_eq_true rfl) (Or.inl q1643) (Or.inl rfl) dX8_playOther_186 (fv_8_16 _ _) (ly8_k La0_h2) ?_
  refine mx_tr (ly8_R_0_16 La0_h2) ?_
  refine mx_iload_n dX8_playOther_189 rfl rfl ?_
  obtain ⟨k3, H⟩ := H
  refine my_iald dX8_playOther_190 rfl (ly8_A_9 La0_h2 k3) ?_
  refine mx_ti (ah_skIA eh2 (by omega)) ?_
  refine mx_iconst dX8_playOther_191 ic_3 ?_
  refine mx_icmp_ne (tgt := 200) dX8_playOther_192 rfl (fun c4 => ?_) (fun c4 => ?_)
  · have H := H.1 c4
    refine mx_iconst dX8_playOther_200 ic_0 ?_
    refine mx_iadd dX8_playOther_201 ?_
    refine my_iast dX8_playOther_202 rfl (ly8_A_31 La0_h2 k1) ?_
    refine mx_nmI  (fun h5 eh5 Xh5 Kh5 Lh5 => ?_)
    have H := H h5 eh5 Xh5
    have Kh5 := Kh5.trans Kh2
    have Lh5 := Lh5.trans Lh2
    have La0_h5 := La0_h2.ext Xh5
    refine mx_iinc (al' := [some (rv a0), some (iv x1), some (iv x2), some (iv x3), some (iv (x4 + (1 : Int32))), some (iv x5)]) dX8_playOther_203 rfl ic_1 rfl ?_
    refine mx_goto (tgt := 59) dX8_playOther_206 rfl ?_
    exact mx_weak (al' := [some (rv a0), some (iv x1), some (iv x2), some (iv x3), some (iv (x4 + (1 : Int32))), none]) ⟨rfl, ⟨rfl, ⟨rfl, ⟨rfl, ⟨rfl, trivial⟩⟩⟩⟩⟩ H
  · have H := H.2 c4
    refine mx_iload dX8_playOther_195 rfl ?_
    refine mx_goto (tgt := 201) dX8_playOther_197 rfl ?_
    refine mx_iadd dX8_playOther_201 ?_
    refine my_iast dX8_playOther_202 rfl (ly8_A_31 La0_h2 k1) ?_
    refine mx_nmI  (fun h6 eh6 Xh6 Kh6 Lh6 => ?_)
    have H := H h6 eh6 Xh6
    have Kh6 := Kh6.trans Kh2
    have Lh6 := Lh6.trans Lh2
    have La0_h6 := La0_h2.ext Xh6
    refine mx_iinc (al' := [some (rv a0), some (iv x1), some (iv x2), some (iv x3), some (iv (x4 + (1 : Int32))), some (iv x5)]) dX8_playOther_203 rfl ic_1 rfl ?_
    refine mx_goto (tgt := 59) dX8_playOther_206 rfl ?_
    exact mx_weak (al' := [some (rv a0), some (iv x1), some (iv x2), some (iv x3), some (iv (x4 + (1 : Int32))), none]) ⟨rfl, ⟨rfl, ⟨rfl, ⟨rfl, ⟨rfl, trivial⟩⟩⟩⟩⟩ H
theorem dX8_takeBin_0 : decode mi_X8_takeBin.2.1 0 = .ok (.iconst 0, 1) := by decide +kernel
theorem dX8_takeBin_1 : decode mi_X8_takeBin.2.1 1 = .ok (.istore 4, 2) := by decide +kernel
theorem dX8_takeBin_3 : decode mi_X8_takeBin.2.1 3 = .ok (.iconst 0, 1) := by decide +kernel
theorem dX8_takeBin_4 : decode mi_X8_takeBin.2.1 4 = .ok (.istore 5, 2) := by decide +kernel
theorem dX8_takeBin_6 : decode mi_X8_takeBin.2.1 6 = .ok (.iload 5, 2) := by decide +kernel
theorem dX8_takeBin_8 : decode mi_X8_takeBin.2.1 8 = .ok (.aload_n 0, 1) := by decide +kernel
theorem dX8_takeBin_9 : decode mi_X8_takeBin.2.1 9 = .ok (.getfield 291, 3) := by decide +kernel
theorem dX8_takeBin_12 : decode mi_X8_takeBin.2.1 12 = .ok (.if_icmp .ge 56, 3) := by decide +kernel
theorem dX8_takeBin_15 : decode mi_X8_takeBin.2.1 15 = .ok (.aload_n 0, 1) := by decide +kernel
theorem dX8_takeBin_16 : decode mi_X8_takeBin.2.1 16 = .ok (.getfield 104, 3) := by decide +kernel
theorem dX8_takeBin_19 : decode mi_X8_takeBin.2.1 19 = .ok (.iload 5, 2) := by decide +kernel
theorem dX8_takeBin_21 : decode mi_X8_takeBin.2.1 21 = .ok (.iload_n 3, 1) := by decide +kernel
theorem dX8_takeBin_22 : decode mi_X8_takeBin.2.1 22 = .ok (.ifCond .eq 16, 3) := by decide +kernel
theorem dX8_takeBin_25 : decode mi_X8_takeBin.2.1 25 = .ok (.aload_n 0, 1) := by decide +kernel
theorem dX8_takeBin_26 : decode mi_X8_takeBin.2.1 26 = .ok (.getfield 80, 3) := by decide +kernel
theorem dX8_takeBin_29 : decode mi_X8_takeBin.2.1 29 = .ok (.iload_n 1, 1) := by decide +kernel
theorem dX8_takeBin_30 : decode mi_X8_takeBin.2.1 30 = .ok (.iload 5, 2) := by decide +kernel
theorem dX8_takeBin_32 : decode mi_X8_takeBin.2.1 32 = .ok (.iadd, 1) := by decide +kernel
theorem dX8_takeBin_33 : decode mi_X8_takeBin.2.1 33 = .ok (.iaload, 1) := by decide +kernel
theorem dX8_takeBin_34 : decode mi_X8_takeBin.2.1 34 = .ok (.i2l, 1) := by decide +kernel
theorem dX8_takeBin_35 : decode mi_X8_takeBin.2.1 35 = .ok (.goto 13, 3) := by decide +kernel
theorem dX8_takeBin_38 : decode mi_X8_takeBin.2.1 38 = .ok (.aload_n 0, 1) := by decide +kernel
theorem dX8_takeBin_39 : decode mi_X8_takeBin.2.1 39 = .ok (.getfield 77, 3) := by decide +kernel
theorem dX8_takeBin_42 : decode mi_X8_takeBin.2.1 42 = .ok (.iload_n 1, 1) := by decide +kernel
theorem dX8_takeBin_43 : decode mi_X8_takeBin.2.1 43 = .ok (.iload 5, 2) := by decide +kernel
theorem dX8_takeBin_45 : decode mi_X8_takeBin.2.1 45 = .ok (.iadd, 1) := by decide +kernel
theorem dX8_takeBin_46 : decode mi_X8_takeBin.2.1 46 = .ok (.iaload, 1) := by decide +kernel
theorem dX8_takeBin_47 : decode mi_X8_takeBin.2.1 47 = .ok (.i2l, 1) := by decide +kernel
theorem dX8_takeBin_48 : decode mi_X8_takeBin.2.1 48 = .ok (.lastore, 1) := by decide +kernel
theorem dX8_takeBin_49 : decode mi_X8_takeBin.2.1 49 = .ok (.iload 4, 2) := by decide +kernel
theorem dX8_takeBin_51 : decode mi_X8_takeBin.2.1 51 = .ok (.aload_n 0, 1) := by decide +kernel
theorem dX8_takeBin_52 : decode mi_X8_takeBin.2.1 52 = .ok (.getfield 104, 3) := by decide +kernel
theorem dX8_takeBin_55 : decode mi_X8_takeBin.2.1 55 = .ok (.iload 5, 2) := by decide +kernel
theorem dX8_takeBin_57 : decode mi_X8_takeBin.2.1 57 = .ok (.laload, 1) := by decide +kernel
theorem dX8_takeBin_58 : decode mi_X8_takeBin.2.1 58 = .ok (.l2i, 1) := by decide +kernel
theorem dX8_takeBin_59 : decode mi_X8_takeBin.2.1 59 = .ok (.iadd, 1) := by decide +kernel
theorem dX8_takeBin_60 : decode mi_X8_takeBin.2.1 60 = .ok (.istore 4, 2) := by decide +kernel
theorem dX8_takeBin_62 : decode mi_X8_takeBin.2.1 62 = .ok (.iinc 5 1, 3) := by decide +kernel
theorem dX8_takeBin_65 : decode mi_X8_takeBin.2.1 65 = .ok (.goto (-59), 3) := by decide +kernel
theorem dX8_takeBin_68 : decode mi_X8_takeBin.2.1 68 = .ok (.iload_n 2, 1) := by decide +kernel
theorem dX8_takeBin_69 : decode mi_X8_takeBin.2.1 69 = .ok (.iload 4, 2) := by decide +kernel
theorem dX8_takeBin_71 : decode mi_X8_takeBin.2.1 71 = .ok (.invokestatic 366, 3) := by decide +kernel
theorem dX8_takeBin_74 : decode mi_X8_takeBin.2.1 74 = .ok (.istore 5, 2) := by decide +kernel
theorem dX8_takeBin_76 : decode mi_X8_takeBin.2.1 76 = .ok (.aload_n 0, 1) := by decide +kernel
theorem dX8_takeBin_77 : decode mi_X8_takeBin.2.1 77 = .ok (.dup, 1) := by decide +kernel
theorem dX8_takeBin_78 : decode mi_X8_takeBin.2.1 78 = .ok (.getfield 371, 3) := by decide +kernel
theorem dX8_takeBin_81 : decode mi_X8_takeBin.2.1 81 = .ok (.iload_n 2, 1) := by decide +kernel
theorem dX8_takeBin_82 : decode mi_X8_takeBin.2.1 82 = .ok (.iload 5, 2) := by decide +kernel
theorem dX8_takeBin_84 : decode mi_X8_takeBin.2.1 84 = .ok (.isub, 1) := by decide +kernel
theorem dX8_takeBin_85 : decode mi_X8_takeBin.2.1 85 = .ok (.iadd, 1) := by decide +kernel
theorem dX8_takeBin_86 : decode mi_X8_takeBin.2.1 86 = .ok (.putfield 371, 3) := by decide +kernel
theorem dX8_takeBin_89 : decode mi_X8_takeBin.2.1 89 = .ok (.aload_n 0, 1) := by decide +kernel
theorem dX8_takeBin_90 : decode mi_X8_takeBin.2.1 90 = .ok (.iload 5, 2) := by decide +kernel
theorem dX8_takeBin_92 : decode mi_X8_takeBin.2.1 92 = .ok (.i2l, 1) := by decide +kernel
theorem dX8_takeBin_93 : decode mi_X8_takeBin.2.1 93 = .ok (.invokevirtual 374, 3) := by decide +kernel
theorem dX8_takeBin_96 : decode mi_X8_takeBin.2.1 96 = .ok (.iload 5, 2) := by decide +kernel
theorem dX8_takeBin_98 : decode mi_X8_takeBin.2.1 98 = .ok (.ireturn, 1) := by decide +kernel
theorem v_X8_takeBin {G : ma_G} {d : Nat} {a0 : Nat} {x1 : Int32} {x2 : Int32} {x3 : Int32} {h : ah_T} {Q : Option ma_V → ah_T → Prop} {E : Nat → ah_T → Prop} (La0_h : LY8 h a0) (H : MX G mi_X8_takeBin (d + 1) 6 [some (rv a0), some (iv x1), some (iv x2), some (iv x3), some (iv (0 : Int32)), some (iv (0 : Int32))] [] h Q E) : MX G mi_X8_takeBin (d + 1) 0 [some (rv a0), some (iv x1), some (iv x2), some (iv x3), none, none] [] h Q E := by
  refine mx_iconst dX8_takeBin_0 ic_0 ?_
  refine mx_istore (al' := [some (rv a0), some (iv x1), some (iv x2), some (iv x3), some (iv (0 : Int32)), none]) dX8_takeBin_1 (Nat.le_of_ble_eq_true rfl) rfl ?_
  refine mx_iconst dX8_takeBin_3 ic_0 ?_
  refine mx_istore (al' := [some (rv a0), some (iv x1), some (iv x2), some (iv x3), some (iv (0 : Int32)), some (iv (0 : Int32))]) dX8_takeBin_4 (Nat.le_of_ble_eq_true rfl) rfl ?_
  exact mx_weak (al' := [some (rv a0), some (iv x1), some (iv x2), some (iv x3), some (iv (0 : Int32)), some (iv (0 : Int32))]) ⟨rfl, ⟨rfl, ⟨rfl, ⟨rfl, ⟨rfl, ⟨rfl, trivial⟩⟩⟩⟩⟩⟩ H
theorem v_X8_takeBin_6 {G : ma_G} {d : Nat} {a0 : Nat} {x1 : Int32} {x2 : Int32} {x3 : Int32} {x4 : Int32} {x5 : Int32} {h : ah_T} {Q : Option ma_V → ah_T → Prop} {E : Nat → ah_T → Prop} (La0_h : LY8 h a0) (H : ((ah_I h a0 5) ≤ x5 → ∀ h2 : ah_T, h2 = ah_wI h a0 39 ((ah_I h a0 39) + (x2 - (iMin x2 x4))) → ah_ext h h2 → MX G mi_X8_parts d 0 [some (rv a0), some (jv (iMin x2 x4).toInt64), none, none, none, none, none, none, none] [] h2 (Qv fun h3 => ah_ext h2 h3 → Q (some (iv (iMin x2 x4))) h3) E) ∧ (¬ (ah_I h a0 5) ≤ x5 → (x3 = 0 → vp_in (x1 + x5) 9600 ∧ vp_in x5 20 ∧ ∀ h8 : ah_T, h8 = ah_wJ h (a0 + 32) x5.toNatClampNeg (ah_I h (a0 + 23) (x1 + x5).toNatClampNeg).toInt64 → ah_ext h h8 → MX G mi_X8_takeBin (d + 1) 6 [some (rv a0), some (iv x1), some (iv x2), some (iv x3), some (iv (x4 + (ah_I h (a0 + 23) (x1 + x5).toNatClampNeg).toInt64.toInt32)), some (iv (x5 + (1 : Int32)))] [] h8 Q E) ∧ (¬ x3 = 0 → vp_in (x1 + x5) 2400 ∧ vp_in x5 20 ∧ ∀ h11 : ah_T, h11 = ah_wJ h (a0 + 32) x5.toNatClampNeg (ah_I h (a0 + 24) (x1 + x5).toNatClampNeg).toInt64 → ah_ext h h11 → MX G mi_X8_takeBin (d + 1) 6 [some (rv a0), some (iv x1), some (iv x2), some (iv x3), some (iv (x4 + (ah_I h (a0 + 24) (x1 + x5).toNatClampNeg).toInt64.toInt32)), some (iv (x5 + (1 : Int32)))] [] h11 Q E))) : MX G mi_X8_takeBin (d + 1) 6 [some (rv a0), some (iv x1), some (iv x2), some (iv x3), some (iv x4), some (iv x5)] [] h Q E := by
  refine mx_iload dX8_takeBin_6 rfl ?_
  refine mx_aload_n dX8_takeBin_8 rfl rfl ?_
  refine mx_get 8 5 (ref := "PrairiePoolModel") cl_8 (Nat.le_of_ble_eq_true rfl) (Or.inl q1632) (Or.inl rfl) dX8_takeBin_9 (fv_8_5 _ _) (ly8_k La0_h) ?_
  refine mx_icmp_ge (tgt := 68) dX8_takeBin_12 rfl (fun c1 => ?_) (fun c1 => ?_)
  · have H := H.1 c1
    refine mx_iload_n dX8_takeBin_68 rfl rfl ?_
    refine mx_iload dX8_takeBin_69 rfl ?_
    refine mx_callS (y' := mi_J8_min_2) (vs := [iv x2, iv x4]) (st := []) (al' := [some (iv x2), some (iv x4)]) S_J8_min_2 q2143 dX8_takeBin_71 rfl rfl (Nat.le_of_ble_eq_true rfl) (Nat.le_of_ble_eq_true rfl) ?_
    refine pv_J8_min_2 ?_
    refine mx_istore (al' := [some (rv a0), some (iv x1), some (iv x2), some (iv x3), some (iv x4), some (iv (iMin x2 x4))]) dX8_takeBin_74 (Nat.le_of_ble_eq_true rfl) rfl ?_
    refine mx_aload_n dX8_takeBin_76 rfl rfl ?_
    refine mx_dup_r dX8_takeBin_77 ?_
    refine mx_get 8 39 (ref := "PrairiePoolModel") cl_8 (Nat.le_of_ble_eq_true rfl) (Or.inl q1666) (Or.inl rfl) dX8_takeBin_78 (fv_8_39 _ _) (ly8_k La0_h) ?_
    refine mx_iload_n dX8_takeBin_81 rfl rfl ?_
    refine mx_iload dX8_takeBin_82 rfl ?_
    refine mx_isub dX8_takeBin_84 ?_
    refine mx_iadd dX8_takeBin_85 ?_
    refine mx_putI 8 39 (ref := "PrairiePoolModel") cl_8 (Nat.le_of_ble_eq_true rfl) (Or.inl q1666) (Or.inl rfl) dX8_takeBin_86 (Or.inl rfl) rfl (ly8_k La0_h) ?_
    refine mx_nmI  (fun h2 eh2 Xh2 Kh2 Lh2 => ?_)
    have H := H h2 eh2 Xh2
    have La0_h2 := La0_h.ext Xh2
    refine mx_aload_n dX8_takeBin_89 rfl rfl ?_
    refine mx_iload dX8_takeBin_90 rfl ?_
    refine mx_i2l dX8_takeBin_92 ?_
    refine mx_callV 8 (y' := mi_X8_parts) (vs := [jv (iMin x2 x4).toInt64]) (st := []) (al' := [some (rv a0), some (jv (iMin x2 x4).toInt64), none, none, none, none, none, none, none]) cl_8 V_X8_parts (Or.inl q2144) dX8_takeBin_93 rfl rfl (Nat.le_of_ble_eq_true rfl) (Nat.le_of_ble_eq_true rfl) (ly8_k La0_h2) ?_
    refine ma_kv H (fun h3 Xh3 H => ?_) (fun x1 h1 X1 H => mt_out rfl H)
    have H := H Xh3
    have La0_h3 := La0_h2.ext Xh3
    refine mx_iload dX8_takeBin_96 rfl ?_
    exact mx_iret rfl dX8_takeBin_98 H
  · have H := H.2 c1
    refine mx_aload_n dX8_takeBin_15 rfl rfl ?_
    refine mx_get 8 40 (ref := "PrairiePoolModel") cl_8 (Nat.le_of_ble_eq_true rfl) (Or.inl q1667) (Or.inl rfl) dX8_takeBin_16 (fv_8_40 _ _) (ly8_k La0_h) ?_
    refine mx_tr (ly8_R_0_40 La0_h) ?_
    refine mx_iload dX8_takeBin_19 rfl ?_
    refine mx_iload_n dX8_takeBin_21 rfl rfl ?_
    refine mx_if_eq (tgt := 38) dX8_takeBin_22 rfl (fun c5 => ?_) (fun c5 => ?_)
    · have H := H.1 c5
      refine mx_aload_n dX8_takeBin_38 rfl rfl ?_
      refine mx_get 8 30 (ref := "PrairiePoolModel") cl_8 (Nat.le_of_ble_eq_true rfl) (Or.inl q1657) (Or.inl rfl) dX8_takeBin_39 (fv_8_30 _ _) (ly8_k La0_h) ?_
      refine mx_tr (ly8_R_0_30 La0_h) ?_
      refine mx_iload_n dX8_takeBin_42 rfl rfl ?_
      refine mx_iload dX8_takeBin_43 rfl ?_
      refine mx_iadd dX8_takeBin_45 ?_
      obtain ⟨k6, H⟩ := H
      refine my_iald dX8_takeBin_46 rfl (ly8_A_23 La0_h k6) ?_
      refine mx_i2l dX8_takeBin_47 ?_
      obtain ⟨k7, H⟩ := H
      refine my_last dX8_takeBin_48 rfl (ly8_A_32 La0_h k7) ?_
      refine mx_nmJ  (fun h8 eh8 Xh8 Kh8 Lh8 => ?_)
      have H := H h8 eh8 Xh8
      have La0_h8 := La0_h.ext Xh8
      refine mx_iload dX8_takeBin_49 rfl ?_
      refine mx_aload_n dX8_takeBin_51 rfl rfl ?_
      refine mx_get 8 40 (ref := "PrairiePoolModel") cl_8 (Nat.le_of_ble_eq_true rfl) (Or.inl q1667) (Or.inl rfl) dX8_takeBin_52 (fv_8_40 _ _) (ly8_k La0_h8) ?_
      refine mx_tr (ly8_R_0_40 La0_h8) ?_
      refine mx_iload dX8_takeBin_55 rfl ?_
      refine my_lald dX8_takeBin_57 rfl (ly8_A_32 La0_h8 k7) ?_
      refine mx_tj (ah_hitJ eh8) ?_
      refine mx_l2i dX8_takeBin_58 ?_
      refine mx_iadd dX8_takeBin_59 ?_
      refine mx_istore (al' := [some (rv a0), some (iv x1), some (iv x2), some (iv x3), some (iv (x4 + (ah_I h (a0 + 23) (x1 + x5).toNatClampNeg).toInt64.toInt32)), some (iv x5)]) dX8_takeBin_60 (Nat.le_of_ble_eq_true rfl) rfl ?_
      refine mx_iinc (al' := [some (rv a0), some (iv x1), some (iv x2), some (iv x3), some (iv (x4 + (ah_I h (a0 + 23) (x1 + x5).toNatClampNeg).toInt64.toInt32)), some (iv (x5 + (1 : Int32)))]) dX8_takeBin_62 rfl ic_1 rfl ?_
      refine mx_goto (tgt := 6) dX8_takeBin_65 rfl ?_
      exact mx_weak (al' := [some (rv a0), some (iv x1), some (iv x2), some (iv x3), some (iv (x4 + (ah_I h (a0 + 23) (x1 + x5).toNatClampNeg).toInt64.toInt32)), some (iv (x5 + (1 : Int32)))]) ⟨rfl, ⟨rfl, ⟨rfl, ⟨rfl, ⟨rfl, ⟨rfl, trivial⟩⟩⟩⟩⟩⟩ H
    · have H := H.2 c5
      refine mx_aload_n dX8_takeBin_25 rfl rfl ?_
      refine mx_get 8 31 (ref := "PrairiePoolModel") cl_8 (Nat.le_of_ble_eq_true rfl) (Or.inl q1658) (Or.inl rfl) dX8_takeBin_26 (fv_8_31 _ _) (ly8_k La0_h) ?_
      refine mx_tr (ly8_R_0_31 La0_h) ?_
      refine mx_iload_n dX8_takeBin_29 rfl rfl ?_
      refine mx_iload dX8_takeBin_30 rfl ?_
      refine mx_iadd dX8_takeBin_32 ?_
      obtain ⟨k9, H⟩ := H
      refine my_iald dX8_takeBin_33 rfl (ly8_A_24 La0_h k9) ?_
      refine mx_i2l dX8_takeBin_34 ?_
      refine mx_goto (tgt := 48) dX8_takeBin_35 rfl ?_
      obtain ⟨k10, H⟩ := H
      refine my_last dX8_takeBin_48 rfl (ly8_A_32 La0_h k10) ?_
      refine mx_nmJ  (fun h11 eh11 Xh11 Kh11 Lh11 => ?_)
      have H := H h11 eh11 Xh11
      have La0_h11 := La0_h.ext Xh11
      refine mx_iload dX8_takeBin_49 rfl ?_
      refine mx_aload_n dX8_takeBin_51 rfl rfl ?_
      refine mx_get 8 40 (ref := "PrairiePoolModel") cl_8 (Nat.le_of_ble_eq_true rfl) (Or.inl q1667) (Or.inl rfl) dX8_takeBin_52 (fv_8_40 _ _) (ly8_k La0_h11) ?_
      refine mx_tr (ly8_R_0_40 La0_h11) ?_
      refine mx_iload dX8_takeBin_55 rfl ?_
      refine my_lald dX8_takeBin_57 rfl (ly8_A_32 La0_h11 k10) ?_
      refine mx_tj (ah_hitJ eh11) ?_
      refine mx_l2i dX8_takeBin_58 ?_
      refine mx_iadd dX8_takeBin_59 ?_
      refine mx_istore (al' := [some (rv a0), some (iv x1), some (iv x2), some (iv x3), some (iv (x4 + (ah_I h (a0 + 24) (x1 + x5).toNatClampNeg).toInt64.toInt32)), some (iv x5)]) dX8_takeBin_60 (Nat.le_of_ble_eq_true rfl) rfl ?_
      refine mx_iinc (al' := [some (rv a0), some (iv x1), some (iv x2), some (iv x3), some (iv (x4 + (ah_I h (a0 + 24) (x1 + x5).toNatClampNeg).toInt64.toInt32)), some (iv (x5 + (1 : Int32)))]) dX8_takeBin_62 rfl ic_1 rfl ?_
      refine mx_goto (tgt := 6) dX8_takeBin_65 rfl ?_
      exact mx_weak (al' := [some (rv a0), some (iv x1), some (iv x2), some (iv x3), some (iv (x4 + (ah_I h (a0 + 24) (x1 + x5).toNatClampNeg).toInt64.toInt32)), some (iv (x5 + (1 : Int32)))]) ⟨rfl, ⟨rfl, ⟨rfl, ⟨rfl, ⟨rfl, ⟨rfl, trivial⟩⟩⟩⟩⟩⟩ H
theorem dX8_parts_0 : decode mi_X8_parts.2.1 0 = .ok (.lconst 0, 1) := by decide +kernel
theorem dX8_parts_1 : decode mi_X8_parts.2.1 1 = .ok (.lstore_n 3, 1) := by decide +kernel
theorem dX8_parts_2 : decode mi_X8_parts.2.1 2 = .ok (.iconst 0, 1) := by decide +kernel
theorem dX8_parts_3 : decode mi_X8_parts.2.1 3 = .ok (.istore 5, 2) := by decide +kernel
theorem dX8_parts_5 : decode mi_X8_parts.2.1 5 = .ok (.iload 5, 2) := by decide +kernel
theorem dX8_parts_7 : decode mi_X8_parts.2.1 7 = .ok (.aload_n 0, 1) := by decide +kernel
theorem dX8_parts_8 : decode mi_X8_parts.2.1 8 = .ok (.getfield 291, 3) := by decide +kernel
theorem dX8_parts_11 : decode mi_X8_parts.2.1 11 = .ok (.if_icmp .ge 19, 3) := by decide +kernel
theorem dX8_parts_14 : decode mi_X8_parts.2.1 14 = .ok (.lload_n 3, 1) := by decide +kernel
theorem dX8_parts_15 : decode mi_X8_parts.2.1 15 = .ok (.aload_n 0, 1) := by decide +kernel
theorem dX8_parts_16 : decode mi_X8_parts.2.1 16 = .ok (.getfield 104, 3) := by decide +kernel
theorem dX8_parts_19 : decode mi_X8_parts.2.1 19 = .ok (.iload 5, 2) := by decide +kernel
theorem dX8_parts_21 : decode mi_X8_parts.2.1 21 = .ok (.laload, 1) := by decide +kernel
theorem dX8_parts_22 : decode mi_X8_parts.2.1 22 = .ok (.ladd, 1) := by decide +kernel
theorem dX8_parts_23 : decode mi_X8_parts.2.1 23 = .ok (.lstore_n 3, 1) := by decide +kernel
theorem dX8_parts_24 : decode mi_X8_parts.2.1 24 = .ok (.iinc 5 1, 3) := by decide +kernel
theorem dX8_parts_27 : decode mi_X8_parts.2.1 27 = .ok (.goto (-22), 3) := by decide +kernel
theorem dX8_parts_30 : decode mi_X8_parts.2.1 30 = .ok (.lload_n 1, 1) := by decide +kernel
theorem dX8_parts_31 : decode mi_X8_parts.2.1 31 = .ok (.lstore 5, 2) := by decide +kernel
theorem dX8_parts_33 : decode mi_X8_parts.2.1 33 = .ok (.iconst 0, 1) := by decide +kernel
theorem dX8_parts_34 : decode mi_X8_parts.2.1 34 = .ok (.istore 7, 2) := by decide +kernel
theorem dX8_parts_36 : decode mi_X8_parts.2.1 36 = .ok (.iload 7, 2) := by decide +kernel
theorem dX8_parts_38 : decode mi_X8_parts.2.1 38 = .ok (.aload_n 0, 1) := by decide +kernel
theorem dX8_parts_39 : decode mi_X8_parts.2.1 39 = .ok (.getfield 291, 3) := by decide +kernel
theorem dX8_parts_42 : decode mi_X8_parts.2.1 42 = .ok (.if_icmp .ge 77, 3) := by decide +kernel
theorem dX8_parts_45 : decode mi_X8_parts.2.1 45 = .ok (.aload_n 0, 1) := by decide +kernel
theorem dX8_parts_46 : decode mi_X8_parts.2.1 46 = .ok (.getfield 107, 3) := by decide +kernel
theorem dX8_parts_49 : decode mi_X8_parts.2.1 49 = .ok (.iload 7, 2) := by decide +kernel
theorem dX8_parts_51 : decode mi_X8_parts.2.1 51 = .ok (.lload_n 3, 1) := by decide +kernel
theorem dX8_parts_52 : decode mi_X8_parts.2.1 52 = .ok (.lconst 0, 1) := by decide +kernel
theorem dX8_parts_53 : decode mi_X8_parts.2.1 53 = .ok (.lcmp, 1) := by decide +kernel
theorem dX8_parts_54 : decode mi_X8_parts.2.1 54 = .ok (.ifCond .ne 7, 3) := by decide +kernel
theorem dX8_parts_57 : decode mi_X8_parts.2.1 57 = .ok (.lconst 0, 1) := by decide +kernel
theorem dX8_parts_58 : decode mi_X8_parts.2.1 58 = .ok (.goto 14, 3) := by decide +kernel
theorem dX8_parts_61 : decode mi_X8_parts.2.1 61 = .ok (.lload_n 1, 1) := by decide +kernel
theorem dX8_parts_62 : decode mi_X8_parts.2.1 62 = .ok (.aload_n 0, 1) := by decide +kernel
theorem dX8_parts_63 : decode mi_X8_parts.2.1 63 = .ok (.getfield 104, 3) := by decide +kernel
theorem dX8_parts_66 : decode mi_X8_parts.2.1 66 = .ok (.iload 7, 2) := by decide +kernel
theorem dX8_parts_68 : decode mi_X8_parts.2.1 68 = .ok (.laload, 1) := by decide +kernel
theorem dX8_parts_69 : decode mi_X8_parts.2.1 69 = .ok (.lmul, 1) := by decide +kernel
theorem dX8_parts_70 : decode mi_X8_parts.2.1 70 = .ok (.lload_n 3, 1) := by decide +kernel
theorem dX8_parts_71 : decode mi_X8_parts.2.1 71 = .ok (.ldiv, 1) := by decide +kernel
theorem dX8_parts_72 : decode mi_X8_parts.2.1 72 = .ok (.lastore, 1) := by decide +kernel
theorem dX8_parts_73 : decode mi_X8_parts.2.1 73 = .ok (.aload_n 0, 1) := by decide +kernel
theorem dX8_parts_74 : decode mi_X8_parts.2.1 74 = .ok (.getfield 110, 3) := by decide +kernel
theorem dX8_parts_77 : decode mi_X8_parts.2.1 77 = .ok (.iload 7, 2) := by decide +kernel
theorem dX8_parts_79 : decode mi_X8_parts.2.1 79 = .ok (.lload_n 3, 1) := by decide +kernel
theorem dX8_parts_80 : decode mi_X8_parts.2.1 80 = .ok (.lconst 0, 1) := by decide +kernel
theorem dX8_parts_81 : decode mi_X8_parts.2.1 81 = .ok (.lcmp, 1) := by decide +kernel
theorem dX8_parts_82 : decode mi_X8_parts.2.1 82 = .ok (.ifCond .ne 7, 3) := by decide +kernel
theorem dX8_parts_85 : decode mi_X8_parts.2.1 85 = .ok (.lconst 0, 1) := by decide +kernel
theorem dX8_parts_86 : decode mi_X8_parts.2.1 86 = .ok (.goto 14, 3) := by decide +kernel
theorem dX8_parts_89 : decode mi_X8_parts.2.1 89 = .ok (.lload_n 1, 1) := by decide +kernel
theorem dX8_parts_90 : decode mi_X8_parts.2.1 90 = .ok (.aload_n 0, 1) := by decide +kernel
theorem dX8_parts_91 : decode mi_X8_parts.2.1 91 = .ok (.getfield 104, 3) := by decide +kernel
theorem dX8_parts_94 : decode mi_X8_parts.2.1 94 = .ok (.iload 7, 2) := by decide +kernel
theorem dX8_parts_96 : decode mi_X8_parts.2.1 96 = .ok (.laload, 1) := by decide +kernel
theorem dX8_parts_97 : decode mi_X8_parts.2.1 97 = .ok (.lmul, 1) := by decide +kernel
theorem dX8_parts_98 : decode mi_X8_parts.2.1 98 = .ok (.lload_n 3, 1) := by decide +kernel
theorem dX8_parts_99 : decode mi_X8_parts.2.1 99 = .ok (.lrem, 1) := by decide +kernel
theorem dX8_parts_100 : decode mi_X8_parts.2.1 100 = .ok (.lastore, 1) := by decide +kernel
theorem dX8_parts_101 : decode mi_X8_parts.2.1 101 = .ok (.lload 5, 2) := by decide +kernel
theorem dX8_parts_103 : decode mi_X8_parts.2.1 103 = .ok (.aload_n 0, 1) := by decide +kernel
theorem dX8_parts_104 : decode mi_X8_parts.2.1 104 = .ok (.getfield 107, 3) := by decide +kernel
theorem dX8_parts_107 : decode mi_X8_parts.2.1 107 = .ok (.iload 7, 2) := by decide +kernel
theorem dX8_parts_109 : decode mi_X8_parts.2.1 109 = .ok (.laload, 1) := by decide +kernel
theorem dX8_parts_110 : decode mi_X8_parts.2.1 110 = .ok (.lsub, 1) := by decide +kernel
theorem dX8_parts_111 : decode mi_X8_parts.2.1 111 = .ok (.lstore 5, 2) := by decide +kernel
theorem dX8_parts_113 : decode mi_X8_parts.2.1 113 = .ok (.iinc 7 1, 3) := by decide +kernel
theorem dX8_parts_116 : decode mi_X8_parts.2.1 116 = .ok (.goto (-80), 3) := by decide +kernel
theorem dX8_parts_119 : decode mi_X8_parts.2.1 119 = .ok (.lload_n 3, 1) := by decide +kernel
theorem dX8_parts_120 : decode mi_X8_parts.2.1 120 = .ok (.lconst 0, 1) := by decide +kernel
theorem dX8_parts_121 : decode mi_X8_parts.2.1 121 = .ok (.lcmp, 1) := by decide +kernel
theorem dX8_parts_122 : decode mi_X8_parts.2.1 122 = .ok (.ifCond .le 88, 3) := by decide +kernel
theorem dX8_parts_125 : decode mi_X8_parts.2.1 125 = .ok (.lload 5, 2) := by decide +kernel
theorem dX8_parts_127 : decode mi_X8_parts.2.1 127 = .ok (.lconst 0, 1) := by decide +kernel
theorem dX8_parts_128 : decode mi_X8_parts.2.1 128 = .ok (.lcmp, 1) := by decide +kernel
theorem dX8_parts_129 : decode mi_X8_parts.2.1 129 = .ok (.ifCond .le 81, 3) := by decide +kernel
theorem dX8_parts_132 : decode mi_X8_parts.2.1 132 = .ok (.iconst 0, 1) := by decide +kernel
theorem dX8_parts_133 : decode mi_X8_parts.2.1 133 = .ok (.istore 7, 2) := by decide +kernel
theorem dX8_parts_135 : decode mi_X8_parts.2.1 135 = .ok (.iconst 1, 1) := by decide +kernel
theorem dX8_parts_136 : decode mi_X8_parts.2.1 136 = .ok (.istore 8, 2) := by decide +kernel
theorem dX8_parts_138 : decode mi_X8_parts.2.1 138 = .ok (.iload 8, 2) := by decide +kernel
theorem dX8_parts_140 : decode mi_X8_parts.2.1 140 = .ok (.aload_n 0, 1) := by decide +kernel
theorem dX8_parts_141 : decode mi_X8_parts.2.1 141 = .ok (.getfield 291, 3) := by decide +kernel
theorem dX8_parts_144 : decode mi_X8_parts.2.1 144 = .ok (.if_icmp .ge 36, 3) := by decide +kernel
theorem dX8_parts_147 : decode mi_X8_parts.2.1 147 = .ok (.aload_n 0, 1) := by decide +kernel
theorem dX8_parts_148 : decode mi_X8_parts.2.1 148 = .ok (.getfield 110, 3) := by decide +kernel
theorem dX8_parts_151 : decode mi_X8_parts.2.1 151 = .ok (.iload 8, 2) := by decide +kernel
theorem dX8_parts_153 : decode mi_X8_parts.2.1 153 = .ok (.laload, 1) := by decide +kernel
theorem dX8_parts_154 : decode mi_X8_parts.2.1 154 = .ok (.aload_n 0, 1) := by decide +kernel
theorem dX8_parts_155 : decode mi_X8_parts.2.1 155 = .ok (.getfield 110, 3) := by decide +kernel
theorem dX8_parts_158 : decode mi_X8_parts.2.1 158 = .ok (.iload 7, 2) := by decide +kernel
theorem dX8_parts_160 : decode mi_X8_parts.2.1 160 = .ok (.laload, 1) := by decide +kernel
theorem dX8_parts_161 : decode mi_X8_parts.2.1 161 = .ok (.lcmp, 1) := by decide +kernel
theorem dX8_parts_162 : decode mi_X8_parts.2.1 162 = .ok (.ifCond .le 8, 3) := by decide +kernel
theorem dX8_parts_165 : decode mi_X8_parts.2.1 165 = .ok (.iload 8, 2) := by decide +kernel
theorem dX8_parts_167 : decode mi_X8_parts.2.1 167 = .ok (.goto 5, 3) := by decide +kernel
theorem dX8_parts_170 : decode mi_X8_parts.2.1 170 = .ok (.iload 7, 2) := by decide +kernel
theorem dX8_parts_172 : decode mi_X8_parts.2.1 172 = .ok (.istore 7, 2) := by decide +kernel
theorem dX8_parts_174 : decode mi_X8_parts.2.1 174 = .ok (.iinc 8 1, 3) := by decide +kernel
theorem dX8_parts_177 : decode mi_X8_parts.2.1 177 = .ok (.goto (-39), 3) := by decide +kernel
theorem dX8_parts_180 : decode mi_X8_parts.2.1 180 = .ok (.aload_n 0, 1) := by decide +kernel
theorem dX8_parts_181 : decode mi_X8_parts.2.1 181 = .ok (.getfield 107, 3) := by decide +kernel
theorem dX8_parts_184 : decode mi_X8_parts.2.1 184 = .ok (.iload 7, 2) := by decide +kernel
theorem dX8_parts_186 : decode mi_X8_parts.2.1 186 = .ok (.dup2, 1) := by decide +kernel
theorem dX8_parts_187 : decode mi_X8_parts.2.1 187 = .ok (.laload, 1) := by decide +kernel
theorem dX8_parts_188 : decode mi_X8_parts.2.1 188 = .ok (.lconst 1, 1) := by decide +kernel
theorem dX8_parts_189 : decode mi_X8_parts.2.1 189 = .ok (.ladd, 1) := by decide +kernel
theorem dX8_parts_190 : decode mi_X8_parts.2.1 190 = .ok (.lastore, 1) := by decide +kernel
theorem dX8_parts_191 : decode mi_X8_parts.2.1 191 = .ok (.aload_n 0, 1) := by decide +kernel
theorem dX8_parts_192 : decode mi_X8_parts.2.1 192 = .ok (.getfield 110, 3) := by decide +kernel
theorem dX8_parts_195 : decode mi_X8_parts.2.1 195 = .ok (.iload 7, 2) := by decide +kernel
theorem dX8_parts_197 : decode mi_X8_parts.2.1 197 = .ok (.ldc2_w 289, 3) := by decide +kernel
theorem dX8_parts_200 : decode mi_X8_parts.2.1 200 = .ok (.lastore, 1) := by decide +kernel
theorem dX8_parts_201 : decode mi_X8_parts.2.1 201 = .ok (.lload 5, 2) := by decide +kernel
theorem dX8_parts_203 : decode mi_X8_parts.2.1 203 = .ok (.lconst 1, 1) := by decide +kernel
theorem dX8_parts_204 : decode mi_X8_parts.2.1 204 = .ok (.lsub, 1) := by decide +kernel
theorem dX8_parts_205 : decode mi_X8_parts.2.1 205 = .ok (.lstore 5, 2) := by decide +kernel
theorem dX8_parts_207 : decode mi_X8_parts.2.1 207 = .ok (.goto (-88), 3) := by decide +kernel
theorem dX8_parts_210 : decode mi_X8_parts.2.1 210 = .ok (.return_, 1) := by decide +kernel
theorem v_X8_parts {G : ma_G} {d : Nat} {a0 : Nat} {x1 : Int64} {h : ah_T} {Q : Option ma_V → ah_T → Prop} {E : Nat → ah_T → Prop} (La0_h : LY8 h a0) (H : MX G mi_X8_parts d 5 [some (rv a0), some (jv x1), none, some (jv (0 : Int64)), none, some (iv (0 : Int32)), none, none, none] [] h Q E) : MX G mi_X8_parts d 0 [some (rv a0), some (jv x1), none, none, none, none, none, none, none] [] h Q E := by
  refine mx_lconst dX8_parts_0 lc_0 ?_
  refine mx_lstore_n (al' := [some (rv a0), some (jv x1), none, some (jv (0 : Int64)), none, none, none, none, none]) dX8_parts_1 rfl (Nat.le_of_ble_eq_true rfl) rfl ?_
  refine mx_iconst dX8_parts_2 ic_0 ?_
  refine mx_istore (al' := [some (rv a0), some (jv x1), none, some (jv (0 : Int64)), none, some (iv (0 : Int32)), none, none, none]) dX8_parts_3 (Nat.le_of_ble_eq_true rfl) rfl ?_
  exact mx_weak (al' := [some (rv a0), some (jv x1), none, some (jv (0 : Int64)), none, some (iv (0 : Int32)), none, none, none]) ⟨rfl, ⟨rfl, ⟨rfl, ⟨rfl, trivial⟩⟩⟩⟩ H
theorem v_X8_parts_5 {G : ma_G} {d : Nat} {a0 : Nat} {x1 : Int64} {x3 : Int64} {x5 : Int32} {h : ah_T} {Q : Option ma_V → ah_T → Prop} {E : Nat → ah_T → Prop} (La0_h : LY8 h a0) (H : ((ah_I h a0 5) ≤ x5 → MX G mi_X8_parts d 36 [some (rv a0), some (jv x1), none, some (jv x3), none, some (jv x1), none, some (iv (0 : Int32)), none] [] h Q E) ∧ (¬ (ah_I h a0 5) ≤ x5 → vp_in x5 20 ∧ MX G mi_X8_parts d 5 [some (rv a0), some (jv x1), none, some (jv (x3 + (ah_J h (a0 + 32) x5.toNatClampNeg))), none, some (iv (x5 + (1 : Int32))), none, none, none] [] h Q E)) : MX G mi_X8_parts d 5 [some (rv a0), some (jv x1), none, some (jv x3), none, some (iv x5), none, none, none] [] h Q E := by
  refine mx_iload dX8_parts_5 rfl ?_
  refine mx_aload_n dX8_parts_7 rfl rfl ?_
  refine mx_get 8 5 (ref := "PrairiePoolModel") cl_8 (Nat.le_of_ble_eq_true rfl) (Or.inl q1632) (Or.inl rfl) dX8_parts_8 (fv_8_5 _ _) (ly8_k La0_h) ?_
  refine mx_icmp_ge (tgt := 30) dX8_parts_11 rfl (fun c1 => ?_) (fun c1 => ?_)
  · have H := H.1 c1
    refine mx_lload_n dX8_parts_30 rfl rfl ?_
    refine mx_lstore (al' := [some (rv a0), some (jv x1), none, some (jv x3), none, some (jv x1), none, none, none]) dX8_parts_31 (Nat.le_of_ble_eq_true rfl) rfl ?_
    refine mx_iconst dX8_parts_33 ic_0 ?_
    refine mx_istore (al' := [some (rv a0), some (jv x1), none, some (jv x3), none, some (jv x1), none, some (iv (0 : Int32)), none]) dX8_parts_34 (Nat.le_of_ble_eq_true rfl) rfl ?_
    exact mx_weak (al' := [some (rv a0), some (jv x1), none, some (jv x3), none, some (jv x1), none, some (iv (0 : Int32)), none]) ⟨rfl, ⟨rfl, ⟨rfl, ⟨rfl, ⟨rfl, trivial⟩⟩⟩⟩⟩ H
  · have H := H.2 c1
    refine mx_lload_n dX8_parts_14 rfl rfl ?_
    refine mx_aload_n dX8_parts_15 rfl rfl ?_
    refine mx_get 8 40 (ref := "PrairiePoolModel") cl_8 (Nat.le_of_ble_eq_true rfl) (Or.inl q1667) (Or.inl rfl) dX8_parts_16 (fv_8_40 _ _) (ly8_k La0_h) ?_
    refine mx_tr (ly8_R_0_40 La0_h) ?_
    refine mx_iload dX8_parts_19 rfl ?_
    obtain ⟨k2, H⟩ := H
    refine my_lald dX8_parts_21 rfl (ly8_A_32 La0_h k2) ?_
    refine mx_ladd dX8_parts_22 ?_
    refine mx_lstore_n (al' := [some (rv a0), some (jv x1), none, some (jv (x3 + (ah_J h (a0 + 32) x5.toNatClampNeg))), none, some (iv x5), none, none, none]) dX8_parts_23 rfl (Nat.le_of_ble_eq_true rfl) rfl ?_
    refine mx_iinc (al' := [some (rv a0), some (jv x1), none, some (jv (x3 + (ah_J h (a0 + 32) x5.toNatClampNeg))), none, some (iv (x5 + (1 : Int32))), none, none, none]) dX8_parts_24 rfl ic_1 rfl ?_
    refine mx_goto (tgt := 5) dX8_parts_27 rfl ?_
    exact mx_weak (al' := [some (rv a0), some (jv x1), none, some (jv (x3 + (ah_J h (a0 + 32) x5.toNatClampNeg))), none, some (iv (x5 + (1 : Int32))), none, none, none]) ⟨rfl, ⟨rfl, ⟨rfl, ⟨rfl, trivial⟩⟩⟩⟩ H
theorem v_X8_parts_36 {G : ma_G} {d : Nat} {a0 : Nat} {x1 : Int64} {x3 : Int64} {x5 : Int64} {x7 : Int32} {h : ah_T} {Q : Option ma_V → ah_T → Prop} {E : Nat → ah_T → Prop} (La0_h : LY8 h a0) (H : ((ah_I h a0 5) ≤ x7 → MX G mi_X8_parts d 119 [some (rv a0), none, none, some (jv x3), none, some (jv x5), none, none, none] [] h Q E) ∧ (¬ (ah_I h a0 5) ≤ x7 → (¬ x3 = (0 : Int64) → vp_in x7 20 ∧ ¬ x3 = 0 ∧ MX G mi_X8_parts d 72 [some (rv a0), some (jv x1), none, some (jv x3), none, some (jv x5), none, some (iv x7), none] [jv ((x1 * (ah_J h (a0 + 32) x7.toNatClampNeg)) / x3), iv x7, rv (a0 + 33)] h Q E) ∧ (x3 = (0 : Int64) → MX G mi_X8_parts d 72 [some (rv a0), some (jv x1), none, some (jv x3), none, some (jv x5), none, some (iv x7), none] [jv (0 : Int64), iv x7, rv (a0 + 33)] h Q E))) : MX G mi_X8_parts d 36 [some (rv a0), some (jv x1), none, some (jv x3), none, some (jv x5), none, some (iv x7), none] [] h Q E := by
  refine mx_iload dX8_parts_36 rfl ?_
  refine mx_aload_n dX8_parts_38 rfl rfl ?_
  refine mx_get 8 5 (ref := "PrairiePoolModel") cl_8 (Nat.le_of_ble_eq_true rfl) (Or.inl q1632) (Or.inl rfl) dX8_parts_39 (fv_8_5 _ _) (ly8_k La0_h) ?_
  refine mx_icmp_ge (tgt := 119) dX8_parts_42 rfl (fun c1 => ?_) (fun c1 => ?_)
  · have H := H.1 c1
    exact mx_weak (al' := [some (rv a0), none, none, some (jv x3), none, some (jv x5), none, none, none]) ⟨rfl, ⟨rfl, ⟨rfl, trivial⟩⟩⟩ H
  · have H := H.2 c1
    refine mx_aload_n dX8_parts_45 rfl rfl ?_
    refine mx_get 8 41 (ref := "PrairiePoolModel") cl_8 (Nat.le_of_ble_eq_true rfl) (Or.inl q1668) (Or.inl rfl) dX8_parts_46 (fv_8_41 _ _) (ly8_k La0_h) ?_
    refine mx_tr (ly8_R_0_41 La0_h) ?_
    refine mx_iload dX8_parts_49 rfl ?_
    refine mx_lload_n dX8_parts_51 rfl rfl ?_
    refine mx_lconst dX8_parts_52 lc_0 ?_
    refine mx_lif_ne (tgt := 61) dX8_parts_53 dX8_parts_54 rfl (fun c2 => ?_) (fun c2 => ?_)
    · have H := H.1 c2
      refine mx_lload_n dX8_parts_61 rfl rfl ?_
      refine mx_aload_n dX8_parts_62 rfl rfl ?_
      refine mx_get 8 40 (ref := "PrairiePoolModel") cl_8 (Nat.le_of_ble_eq_true rfl) (Or.inl q1667) (Or.inl rfl) dX8_parts_63 (fv_8_40 _ _) (ly8_k La0_h) ?_
      refine mx_tr (ly8_R_0_40 La0_h) ?_
      refine mx_iload dX8_parts_66 rfl ?_
      obtain ⟨k3, H⟩ := H
      refine my_lald dX8_parts_68 rfl (ly8_A_32 La0_h k3) ?_
      refine mx_lmul dX8_parts_69 ?_
      refine mx_lload_n dX8_parts_70 rfl rfl ?_
      obtain ⟨k4, H⟩ := H
      refine mx_ldiv dX8_parts_71 k4 ?_
      exact mx_weak (al' := [some (rv a0), some (jv x1), none, some (jv x3), none, some (jv x5), none, some (iv x7), none]) ⟨rfl, ⟨rfl, ⟨rfl, ⟨rfl, ⟨rfl, trivial⟩⟩⟩⟩⟩ H
    · have H := H.2 c2
      refine mx_lconst dX8_parts_57 lc_0 ?_
      refine mx_goto (tgt := 72) dX8_parts_58 rfl ?_
      exact mx_weak (al' := [some (rv a0), some (jv x1), none, some (jv x3), none, some (jv x5), none, some (iv x7), none]) ⟨rfl, ⟨rfl, ⟨rfl, ⟨rfl, ⟨rfl, trivial⟩⟩⟩⟩⟩ H
theorem v_X8_parts_119 {G : ma_G} {d : Nat} {a0 : Nat} {x3 : Int64} {x5 : Int64} {h : ah_T} {Q : Option ma_V → ah_T → Prop} {E : Nat → ah_T → Prop} (La0_h : LY8 h a0) (H : (x3 ≤ (0 : Int64) → Q none h) ∧ (¬ x3 ≤ (0 : Int64) → (x5 ≤ (0 : Int64) → Q none h) ∧ (¬ x5 ≤ (0 : Int64) → MX G mi_X8_parts d 138 [some (rv a0), none, none, some (jv x3), none, some (jv x5), none, some (iv (0 : Int32)), some (iv (1 : Int32))] [] h Q E))) : MX G mi_X8_parts d 119 [some (rv a0), none, none, some (jv x3), none, some (jv x5), none, none, none] [] h Q E := by
  refine mx_lload_n dX8_parts_119 rfl rfl ?_
  refine mx_lconst dX8_parts_120 lc_0 ?_
  refine mx_lif_le (tgt := 210) dX8_parts_121 dX8_parts_122 rfl (fun c1 => ?_) (fun c1 => ?_)
  · have H := H.1 c1
    exact mx_vret rfl dX8_parts_210 H
  · have H := H.2 c1
    refine mx_lload dX8_parts_125 rfl ?_
    refine mx_lconst dX8_parts_127 lc_0 ?_
    refine mx_lif_le (tgt := 210) dX8_parts_128 dX8_parts_129 rfl (fun c2 => ?_) (fun c2 => ?_)
    · have H := H.1 c2
      exact mx_vret rfl dX8_parts_210 H
    · have H := H.2 c2
      refine mx_iconst dX8_parts_132 ic_0 ?_
      refine mx_istore (al' := [some (rv a0), none, none, some (jv x3), none, some (jv x5), none, some (iv (0 : Int32)), none]) dX8_parts_133 (Nat.le_of_ble_eq_true rfl) rfl ?_
      refine mx_iconst dX8_parts_135 ic_1 ?_
      refine mx_istore (al' := [some (rv a0), none, none, some (jv x3), none, some (jv x5), none, some (iv (0 : Int32)), some (iv (1 : Int32))]) dX8_parts_136 (Nat.le_of_ble_eq_true rfl) rfl ?_
      exact mx_weak (al' := [some (rv a0), none, none, some (jv x3), none, some (jv x5), none, some (iv (0 : Int32)), some (iv (1 : Int32))]) ⟨rfl, ⟨rfl, ⟨rfl, ⟨rfl, ⟨rfl, trivial⟩⟩⟩⟩⟩ H
theorem v_X8_parts_72 {G : ma_G} {d : Nat} {a0 : Nat} {x1 : Int64} {x3 : Int64} {x5 : Int64} {x7 : Int32} {z0 : Int64} {h : ah_T} {Q : Option ma_V → ah_T → Prop} {E : Nat → ah_T → Prop} (La0_h : LY8 h a0) (H : vp_in x7 20 ∧ ∀ h2 : ah_T, h2 = ah_wJ h (a0 + 33) x7.toNatClampNeg z0 → ah_ext h h2 → (¬ x3 = (0 : Int64) → ¬ x3 = 0 ∧ ∀ h5 : ah_T, h5 = ah_wJ h2 (a0 + 34) x7.toNatClampNeg ((x1 * (ah_J h (a0 + 32) x7.toNatClampNeg)) - (x1 * (ah_J h (a0 + 32) x7.toNatClampNeg)) / x3 * x3) → ah_ext h2 h5 → MX G mi_X8_parts d 36 [some (rv a0), some (jv x1), none, some (jv x3), none, some (jv (x5 - z0)), none, some (iv (x7 + (1 : Int32))), none] [] h5 Q E) ∧ (x3 = (0 : Int64) → ∀ h6 : ah_T, h6 = ah_wJ h2 (a0 + 34) x7.toNatClampNeg (0 : Int64) → ah_ext h2 h6 → MX G mi_X8_parts d 36 [some (rv a0), some (jv x1), none, some (jv x3), none, some (jv (x5 - z0)), none, some (iv (x7 + (1 : Int32))), none] [] h6 Q E)) : MX G mi_X8_parts d 72 [some (rv a0), some (jv x1), none, some (jv x3), none, some (jv x5), none, some (iv x7), none] [jv z0, iv x7, rv (a0 + 33)] h Q E := by
  obtain ⟨k1, H⟩ := H
  refine my_last dX8_parts_72 rfl (ly8_A_33 La0_h k1) ?_
  refine mx_nmJ  (fun h2 eh2 Xh2 Kh2 Lh2 => ?_)
  have H := H h2 eh2 Xh2
  have La0_h2 := La0_h.ext Xh2
  refine mx_aload_n dX8_parts_73 rfl rfl ?_
  refine mx_get 8 42 (ref := "PrairiePoolModel") cl_8 (Nat.le_of_ble_eq_true rfl) (Or.inl q1669) (Or.inl rfl) dX8_parts_74 (fv_8_42 _ _) (ly8_k La0_h2) ?_
  refine mx_tr (ly8_R_0_42 La0_h2) ?_
  refine mx_iload dX8_parts_77 rfl ?_
  refine mx_lload_n dX8_parts_79 rfl rfl ?_
  refine mx_lconst dX8_parts_80 lc_0 ?_
  refine mx_lif_ne (tgt := 89) dX8_parts_81 dX8_parts_82 rfl (fun c3 => ?_) (fun c3 => ?_)
  · have H := H.1 c3
    refine mx_lload_n dX8_parts_89 rfl rfl ?_
    refine mx_aload_n dX8_parts_90 rfl rfl ?_
    refine mx_get 8 40 (ref := "PrairiePoolModel") cl_8 (Nat.le_of_ble_eq_true rfl) (Or.inl q1667) (Or.inl rfl) dX8_parts_91 (fv_8_40 _ _) (ly8_k La0_h2) ?_
    refine mx_tr (ly8_R_0_40 La0_h2) ?_
    refine mx_iload dX8_parts_94 rfl ?_
    refine my_lald dX8_parts_96 rfl (ly8_A_32 La0_h2 k1) ?_
    refine mx_tj (ah_skJA eh2 (by omega)) ?_
    refine mx_lmul dX8_parts_97 ?_
    refine mx_lload_n dX8_parts_98 rfl rfl ?_
    obtain ⟨k4, H⟩ := H
    refine mx_lrem dX8_parts_99 k4 ?_
    refine my_last dX8_parts_100 rfl (ly8_A_34 La0_h2 k1) ?_
    refine mx_nmJ  (fun h5 eh5 Xh5 Kh5 Lh5 => ?_)
    have H := H h5 eh5 Xh5
    have Kh5 := Kh5.trans Kh2
    have Lh5 := Lh5.trans Lh2
    have La0_h5 := La0_h2.ext Xh5
    refine mx_lload dX8_parts_101 rfl ?_
    refine mx_aload_n dX8_parts_103 rfl rfl ?_
    refine mx_get 8 41 (ref := "PrairiePoolModel") cl_8 (Nat.le_of_ble_eq_true rfl) (Or.inl q1668) (Or.inl rfl) dX8_parts_104 (fv_8_41 _ _) (ly8_k La0_h5) ?_
    refine mx_tr (ly8_R_0_41 La0_h5) ?_
    refine mx_iload dX8_parts_107 rfl ?_
    refine my_lald dX8_parts_109 rfl (ly8_A_33 La0_h5 k1) ?_
    refine mx_tj ((ah_skJA eh5 (by omega)).trans (ah_hitJ eh2)) ?_
    refine mx_lsub dX8_parts_110 ?_
    refine mx_lstore (al' := [some (rv a0), some (jv x1), none, some (jv x3), none, some (jv (x5 - z0)), none, some (iv x7), none]) dX8_parts_111 (Nat.le_of_ble_eq_true rfl) rfl ?_
    refine mx_iinc (al' := [some (rv a0), some (jv x1), none, some (jv x3), none, some (jv (x5 - z0)), none, some (iv (x7 + (1 : Int32))), none]) dX8_parts_113 rfl ic_1 rfl ?_
    refine mx_goto (tgt := 36) dX8_parts_116 rfl ?_
    exact mx_weak (al' := [some (rv a0), some (jv x1), none, some (jv x3), none, some (jv (x5 - z0)), none, some (iv (x7 + (1 : Int32))), none]) ⟨rfl, ⟨rfl, ⟨rfl, ⟨rfl, ⟨rfl, trivial⟩⟩⟩⟩⟩ H
  · have H := H.2 c3
    refine mx_lconst dX8_parts_85 lc_0 ?_
    refine mx_goto (tgt := 100) dX8_parts_86 rfl ?_
    refine my_last dX8_parts_100 rfl (ly8_A_34 La0_h2 k1) ?_
    refine mx_nmJ  (fun h6 eh6 Xh6 Kh6 Lh6 => ?_)
    have H := H h6 eh6 Xh6
    have Kh6 := Kh6.trans Kh2
    have Lh6 := Lh6.trans Lh2
    have La0_h6 := La0_h2.ext Xh6
    refine mx_lload dX8_parts_101 rfl ?_
    refine mx_aload_n dX8_parts_103 rfl rfl ?_
    refine mx_get 8 41 (ref := "PrairiePoolModel") cl_8 (Nat.le_of_ble_eq_true rfl) (Or.inl q1668) (Or.inl rfl) dX8_parts_104 (fv_8_41 _ _) (ly8_k La0_h6) ?_
    refine mx_tr (ly8_R_0_41 La0_h6) ?_
    refine mx_iload dX8_parts_107 rfl ?_
    refine my_lald dX8_parts_109 rfl (ly8_A_33 La0_h6 k1) ?_
    refine mx_tj ((ah_skJA eh6 (by omega)).trans (ah_hitJ eh2)) ?_
    refine mx_lsub dX8_parts_110 ?_
    refine mx_lstore (al' := [some (rv a0), some (jv x1), none, some (jv x3), none, some (jv (x5 - z0)), none, some (iv x7), none]) dX8_parts_111 (Nat.le_of_ble_eq_true rfl) rfl ?_
    refine mx_iinc (al' := [some (rv a0), some (jv x1), none, some (jv x3), none, some (jv (x5 - z0)), none, some (iv (x7 + (1 : Int32))), none]) dX8_parts_113 rfl ic_1 rfl ?_
    refine mx_goto (tgt := 36) dX8_parts_116 rfl ?_
    exact mx_weak (al' := [some (rv a0), some (jv x1), none, some (jv x3), none, some (jv (x5 - z0)), none, some (iv (x7 + (1 : Int32))), none]) ⟨rfl, ⟨rfl, ⟨rfl, ⟨rfl, ⟨rfl, trivial⟩⟩⟩⟩⟩ H
theorem v_X8_parts_138 {G : ma_G} {d : Nat} {a0 : Nat} {x3 : Int64} {x5 : Int64} {x7 : Int32} {x8 : Int32} {h : ah_T} {Q : Option ma_V → ah_T → Prop} {E : Nat → ah_T → Prop} (La0_h : LY8 h a0) (H : ((ah_I h a0 5) ≤ x8 → vp_in x7 20 ∧ ∀ h3 : ah_T, h3 = ah_wJ h (a0 + 33) x7.toNatClampNeg ((ah_J h (a0 + 33) x7.toNatClampNeg) + (1 : Int64)) → ah_ext h h3 → ∀ h4 : ah_T, h4 = ah_wJ h3 (a0 + 34) x7.toNatClampNeg (-1 : Int64) → ah_ext h3 h4 → MX G mi_X8_parts d 119 [some (rv a0), none, none, some (jv x3), none, some (jv (x5 - (1 : Int64))), none, none, none] [] h4 Q E) ∧ (¬ (ah_I h a0 5) ≤ x8 → vp_in x8 20 ∧ vp_in x7 20 ∧ ((ah_J h (a0 + 34) x8.toNatClampNeg) ≤ (ah_J h (a0 + 34) x7.toNatClampNeg) → MX G mi_X8_parts d 138 [some (rv a0), none, none, some (jv x3), none, some (jv x5), none, some (iv x7), some (iv (x8 + (1 : Int32)))] [] h Q E) ∧ (¬ (ah_J h (a0 + 34) x8.toNatClampNeg) ≤ (ah_J h (a0 + 34) x7.toNatClampNeg) → MX G mi_X8_parts d 138 [some (rv a0), none, none, some (jv x3), none, some (jv x5), none, some (iv x8), some (iv (x8 + (1 : Int32)))] [] h Q E))) : MX G mi_X8_parts d 138 [some (rv a0), none, none, some (jv x3), none, some (jv x5), none, some (iv x7), some (iv x8)] [] h Q E := by
  refine mx_iload dX8_parts_138 rfl ?_
  refine mx_aload_n dX8_parts_140 rfl rfl ?_
  refine mx_get 8 5 (ref := "PrairiePoolModel") cl_8 (Nat.le_of_ble_eq_true rfl) (Or.inl q1632) (Or.inl rfl) dX8_parts_141 (fv_8_5 _ _) (ly8_k La0_h) ?_
  refine mx_icmp_ge (tgt := 180) dX8_parts_144 rfl (fun c1 => ?_) (fun c1 => ?_)
  · have H := H.1 c1
    refine mx_aload_n dX8_parts_180 rfl rfl ?_
    refine mx_get 8 41 (ref := "PrairiePoolModel") cl_8 (Nat.le_of_ble_eq_true rfl) (Or.inl q1668) (Or.inl rfl) dX8_parts_181 (fv_8_41 _ _) (ly8_k La0_h) ?_
    refine mx_tr (ly8_R_0_41 La0_h) ?_
    refine mx_iload dX8_parts_184 rfl ?_
    refine mx_dup2_ir dX8_parts_186 ?_
    obtain ⟨k2, H⟩ := H
    refine my_lald dX8_parts_187 rfl (ly8_A_33 La0_h k2) ?_
    refine mx_lconst dX8_parts_188 lc_1 ?_
    refine mx_ladd dX8_parts_189 ?_
    refine my_last dX8_parts_190 rfl (ly8_A_33 La0_h k2) ?_
    refine mx_nmJ  (fun h3 eh3 Xh3 Kh3 Lh3 => ?_)
    have H := H h3 eh3 Xh3
    have La0_h3 := La0_h.ext Xh3
    refine mx_aload_n dX8_parts_191 rfl rfl ?_
    refine mx_get 8 42 (ref := "PrairiePoolModel") cl_8 (Nat.le_of_ble_eq_true rfl) (Or.inl q1669) (Or.inl rfl) dX8_parts_192 (fv_8_42 _ _) (ly8_k La0_h3) ?_
    refine mx_tr (ly8_R_0_42 La0_h3) ?_
    refine mx_iload dX8_parts_195 rfl ?_
    refine mx_ldc2 q1986 dX8_parts_197 ?_
    refine my_last dX8_parts_200 rfl (ly8_A_34 La0_h3 k2) ?_
    refine mx_nmJ  (fun h4 eh4 Xh4 Kh4 Lh4 => ?_)
    have H := H h4 eh4 Xh4
    have Kh4 := Kh4.trans Kh3
    have Lh4 := Lh4.trans Lh3
    have La0_h4 := La0_h3.ext Xh4
    refine mx_lload dX8_parts_201 rfl ?_
    refine mx_lconst dX8_parts_203 lc_1 ?_
    refine mx_lsub dX8_parts_204 ?_
    refine mx_lstore (al' := [some (rv a0), none, none, some (jv x3), none, some (jv (x5 - (1 : Int64))), none, some (iv x7), some (iv x8)]) dX8_parts_205 (Nat.le_of_ble_eq_true rfl) rfl ?_
    refine mx_goto (tgt := 119) dX8_parts_207 rfl ?_
    exact mx_weak (al' := [some (rv a0), none, none, some (jv x3), none, some (jv (x5 - (1 : Int64))), none, none, none]) ⟨rfl, ⟨rfl, ⟨rfl, trivial⟩⟩⟩ H
  · have H := H.2 c1
    refine mx_aload_n dX8_parts_147 rfl rfl ?_
    refine mx_get 8 42 (ref := "PrairiePoolModel") cl_8 (Nat.le_of_ble_eq_true rfl) (Or.inl q1669) (Or.inl rfl) dX8_parts_148 (fv_8_42 _ _) (ly8_k La0_h) ?_
    refine mx_tr (ly8_R_0_42 La0_h) ?_
    refine mx_iload dX8_parts_151 rfl ?_
    obtain ⟨k5, H⟩ := H
    refine my_lald dX8_parts_153 rfl (ly8_A_34 La0_h k5) ?_
    refine mx_aload_n dX8_parts_154 rfl rfl ?_
    refine mx_get 8 42 (ref := "PrairiePoolModel") cl_8 (Nat.le_of_ble_eq_true rfl) (Or.inl q1669) (Or.inl rfl) dX8_parts_155 (fv_8_42 _ _) (ly8_k La0_h) ?_
    refine mx_tr (ly8_R_0_42 La0_h) ?_
    refine mx_iload dX8_parts_158 rfl ?_
    obtain ⟨k6, H⟩ := H
    refine my_lald dX8_parts_160 rfl (ly8_A_34 La0_h k6) ?_
    refine mx_lif_le (tgt := 170) dX8_parts_161 dX8_parts_162 rfl (fun c7 => ?_) (fun c7 => ?_)
    · have H := H.1 c7
      refine mx_iload dX8_parts_170 rfl ?_
      refine mx_istore (al' := [some (rv a0), none, none, some (jv x3), none, some (jv x5), none, some (iv x7), some (iv x8)]) dX8_parts_172 (Nat.le_of_ble_eq_true rfl) rfl ?_
      refine mx_iinc (al' := [some (rv a0), none, none, some (jv x3), none, some (jv x5), none, some (iv x7), some (iv (x8 + (1 : Int32)))]) dX8_parts_174 rfl ic_1 rfl ?_
      refine mx_goto (tgt := 138) dX8_parts_177 rfl ?_
      exact mx_weak (al' := [some (rv a0), none, none, some (jv x3), none, some (jv x5), none, some (iv x7), some (iv (x8 + (1 : Int32)))]) ⟨rfl, ⟨rfl, ⟨rfl, ⟨rfl, ⟨rfl, trivial⟩⟩⟩⟩⟩ H
    · have H := H.2 c7
      refine mx_iload dX8_parts_165 rfl ?_
      refine mx_goto (tgt := 172) dX8_parts_167 rfl ?_
      refine mx_istore (al' := [some (rv a0), none, none, some (jv x3), none, some (jv x5), none, some (iv x8), some (iv x8)]) dX8_parts_172 (Nat.le_of_ble_eq_true rfl) rfl ?_
      refine mx_iinc (al' := [some (rv a0), none, none, some (jv x3), none, some (jv x5), none, some (iv x8), some (iv (x8 + (1 : Int32)))]) dX8_parts_174 rfl ic_1 rfl ?_
      refine mx_goto (tgt := 138) dX8_parts_177 rfl ?_
      exact mx_weak (al' := [some (rv a0), none, none, some (jv x3), none, some (jv x5), none, some (iv x8), some (iv (x8 + (1 : Int32)))]) ⟨rfl, ⟨rfl, ⟨rfl, ⟨rfl, ⟨rfl, trivial⟩⟩⟩⟩⟩ H
theorem dX8_port_0 : decode mi_X8_port.2.1 0 = .ok (.aload_n 0, 1) := by decide +kernel
theorem dX8_port_1 : decode mi_X8_port.2.1 1 = .ok (.iconst 0, 1) := by decide +kernel
theorem dX8_port_2 : decode mi_X8_port.2.1 2 = .ok (.putfield 257, 3) := by decide +kernel
theorem dX8_port_5 : decode mi_X8_port.2.1 5 = .ok (.aload_n 0, 1) := by decide +kernel
theorem dX8_port_6 : decode mi_X8_port.2.1 6 = .ok (.iconst 0, 1) := by decide +kernel
theorem dX8_port_7 : decode mi_X8_port.2.1 7 = .ok (.putfield 260, 3) := by decide +kernel
theorem dX8_port_10 : decode mi_X8_port.2.1 10 = .ok (.iload_n 1, 1) := by decide +kernel
theorem dX8_port_11 : decode mi_X8_port.2.1 11 = .ok (.i2l, 1) := by decide +kernel
theorem dX8_port_12 : decode mi_X8_port.2.1 12 = .ok (.lconst 0, 1) := by decide +kernel
theorem dX8_port_13 : decode mi_X8_port.2.1 13 = .ok (.lconst 1, 1) := by decide +kernel
theorem dX8_port_14 : decode mi_X8_port.2.1 14 = .ok (.invokestatic 265, 3) := by decide +kernel
theorem dX8_port_17 : decode mi_X8_port.2.1 17 = .ok (.ifCond .eq 19, 3) := by decide +kernel
theorem dX8_port_20 : decode mi_X8_port.2.1 20 = .ok (.iload_n 2, 1) := by decide +kernel
theorem dX8_port_21 : decode mi_X8_port.2.1 21 = .ok (.invokestatic 332, 3) := by decide +kernel
theorem dX8_port_24 : decode mi_X8_port.2.1 24 = .ok (.ifCond .eq 12, 3) := by decide +kernel
theorem dX8_port_27 : decode mi_X8_port.2.1 27 = .ok (.aload_n 0, 1) := by decide +kernel
theorem dX8_port_28 : decode mi_X8_port.2.1 28 = .ok (.iload 4, 2) := by decide +kernel
theorem dX8_port_30 : decode mi_X8_port.2.1 30 = .ok (.invokevirtual 400, 3) := by decide +kernel
theorem dX8_port_33 : decode mi_X8_port.2.1 33 = .ok (.ifCond .ne 9, 3) := by decide +kernel
theorem dX8_port_36 : decode mi_X8_port.2.1 36 = .ok (.aload_n 0, 1) := by decide +kernel
theorem dX8_port_37 : decode mi_X8_port.2.1 37 = .ok (.iconst 2, 1) := by decide +kernel
theorem dX8_port_38 : decode mi_X8_port.2.1 38 = .ok (.invokevirtual 297, 3) := by decide +kernel
theorem dX8_port_41 : decode mi_X8_port.2.1 41 = .ok (.ireturn, 1) := by decide +kernel
theorem dX8_port_42 : decode mi_X8_port.2.1 42 = .ok (.iload_n 3, 1) := by decide +kernel
theorem dX8_port_43 : decode mi_X8_port.2.1 43 = .ok (.invokestatic 335, 3) := by decide +kernel
theorem dX8_port_46 : decode mi_X8_port.2.1 46 = .ok (.ifCond .eq 11, 3) := by decide +kernel
theorem dX8_port_49 : decode mi_X8_port.2.1 49 = .ok (.iload 5, 2) := by decide +kernel
theorem dX8_port_51 : decode mi_X8_port.2.1 51 = .ok (.invokestatic 306, 3) := by decide +kernel
theorem dX8_port_54 : decode mi_X8_port.2.1 54 = .ok (.ifCond .ne 9, 3) := by decide +kernel
theorem dX8_port_57 : decode mi_X8_port.2.1 57 = .ok (.aload_n 0, 1) := by decide +kernel
theorem dX8_port_58 : decode mi_X8_port.2.1 58 = .ok (.iconst 5, 1) := by decide +kernel
theorem dX8_port_59 : decode mi_X8_port.2.1 59 = .ok (.invokevirtual 297, 3) := by decide +kernel
theorem dX8_port_62 : decode mi_X8_port.2.1 62 = .ok (.ireturn, 1) := by decide +kernel
theorem dX8_port_63 : decode mi_X8_port.2.1 63 = .ok (.aload_n 0, 1) := by decide +kernel
theorem dX8_port_64 : decode mi_X8_port.2.1 64 = .ok (.iload 5, 2) := by decide +kernel
theorem dX8_port_66 : decode mi_X8_port.2.1 66 = .ok (.invokevirtual 403, 3) := by decide +kernel
theorem dX8_port_69 : decode mi_X8_port.2.1 69 = .ok (.iconst 0, 1) := by decide +kernel
theorem dX8_port_70 : decode mi_X8_port.2.1 70 = .ok (.istore 6, 2) := by decide +kernel
theorem dX8_port_72 : decode mi_X8_port.2.1 72 = .ok (.iconst 0, 1) := by decide +kernel
theorem dX8_port_73 : decode mi_X8_port.2.1 73 = .ok (.istore 7, 2) := by decide +kernel
theorem dX8_port_75 : decode mi_X8_port.2.1 75 = .ok (.iload 7, 2) := by decide +kernel
theorem dX8_port_77 : decode mi_X8_port.2.1 77 = .ok (.bipush 20, 2) := by decide +kernel
theorem dX8_port_79 : decode mi_X8_port.2.1 79 = .ok (.if_icmp .ge 45, 3) := by decide +kernel
theorem dX8_port_82 : decode mi_X8_port.2.1 82 = .ok (.iload 6, 2) := by decide +kernel
theorem dX8_port_84 : decode mi_X8_port.2.1 84 = .ok (.iload 4, 2) := by decide +kernel
theorem dX8_port_86 : decode mi_X8_port.2.1 86 = .ok (.iconst (-1), 1) := by decide +kernel
theorem dX8_port_87 : decode mi_X8_port.2.1 87 = .ok (.if_icmp .eq 10, 3) := by decide +kernel
theorem dX8_port_90 : decode mi_X8_port.2.1 90 = .ok (.iload 4, 2) := by decide +kernel
theorem dX8_port_92 : decode mi_X8_port.2.1 92 = .ok (.iload 7, 2) := by decide +kernel
theorem dX8_port_94 : decode mi_X8_port.2.1 94 = .ok (.if_icmp .ne 20, 3) := by decide +kernel
theorem dX8_port_97 : decode mi_X8_port.2.1 97 = .ok (.aload_n 0, 1) := by decide +kernel
theorem dX8_port_98 : decode mi_X8_port.2.1 98 = .ok (.getfield 80, 3) := by decide +kernel
theorem dX8_port_101 : decode mi_X8_port.2.1 101 = .ok (.iload_n 1, 1) := by decide +kernel
theorem dX8_port_102 : decode mi_X8_port.2.1 102 = .ok (.iload_n 2, 1) := by decide +kernel
theorem dX8_port_103 : decode mi_X8_port.2.1 103 = .ok (.iload_n 3, 1) := by decide +kernel
theorem dX8_port_104 : decode mi_X8_port.2.1 104 = .ok (.invokestatic 378, 3) := by decide +kernel
theorem dX8_port_107 : decode mi_X8_port.2.1 107 = .ok (.iload 7, 2) := by decide +kernel
theorem dX8_port_109 : decode mi_X8_port.2.1 109 = .ok (.iadd, 1) := by decide +kernel
theorem dX8_port_110 : decode mi_X8_port.2.1 110 = .ok (.iaload, 1) := by decide +kernel
theorem dX8_port_111 : decode mi_X8_port.2.1 111 = .ok (.goto 4, 3) := by decide +kernel
theorem dX8_port_114 : decode mi_X8_port.2.1 114 = .ok (.iconst 0, 1) := by decide +kernel
theorem dX8_port_115 : decode mi_X8_port.2.1 115 = .ok (.iadd, 1) := by decide +kernel
theorem dX8_port_116 : decode mi_X8_port.2.1 116 = .ok (.istore 6, 2) := by decide +kernel
theorem dX8_port_118 : decode mi_X8_port.2.1 118 = .ok (.iinc 7 1, 3) := by decide +kernel
theorem dX8_port_121 : decode mi_X8_port.2.1 121 = .ok (.goto (-46), 3) := by decide +kernel
theorem dX8_port_124 : decode mi_X8_port.2.1 124 = .ok (.iload 6, 2) := by decide +kernel
theorem dX8_port_126 : decode mi_X8_port.2.1 126 = .ok (.ireturn, 1) := by decide +kernel
theorem v_X8_port {G : ma_G} {d : Nat} {a0 : Nat} {x1 : Int32} {x2 : Int32} {x3 : Int32} {x4 : Int32} {x5 : Int32} {h : ah_T} {Q : Option ma_V → ah_T → Prop} {E : Nat → ah_T → Prop} (La0_h : LY8 h a0) (H : ∀ h1 : ah_T, h1 = ah_wI h a0 1 (0 : Int32) → ah_ext h h1 → ∀ h2 : ah_T, h2 = ah_wI h1 a0 0 (0 : Int32) → ah_ext h1 h2 → (x1.toInt64 < (0 : Int64) → ∀ h4 : ah_T, h4 = ah_wI h2 a0 0 (2 : Int32) → ah_ext h2 h4 → Q (some (iv (-1 : Int32))) h4) ∧ (¬ x1.toInt64 < (0 : Int64) → ((1 : Int64) < x1.toInt64 → ∀ h6 : ah_T, h6 = ah_wI h2 a0 0 (2 : Int32) → ah_ext h2 h6 → Q (some (iv (-1 : Int32))) h6) ∧ (¬ (1 : Int64) < x1.toInt64 → (x2.toInt64 < (0 : Int64) → ∀ h8 : ah_T, h8 = ah_wI h2 a0 0 (2 : Int32) → ah_ext h2 h8 → Q (some (iv (-1 : Int32))) h8) ∧ (¬ x2.toInt64 < (0 : Int64) → ((5 : Int64) < x2.toInt64 → ∀ h10 : ah_T, h10 = ah_wI h2 a0 0 (2 : Int32) → ah_ext h2 h10 → Q (some (iv (-1 : Int32))) h10) ∧ (¬ (5 : Int64) < x2.toInt64 → (x4 = (-1 : Int32) → (x3.toInt64 < (0 : Int64) → ∀ h13 : ah_T, h13 = ah_wI h2 a0 0 (5 : Int32) → ah_ext h2 h13 → Q (some (iv (-1 : Int32))) h13) ∧ (¬ x3.toInt64 < (0 : Int64) → ((9 : Int64) < x3.toInt64 → ∀ h15 : ah_T, h15 = ah_wI h2 a0 0 (5 : Int32) → ah_ext h2 h15 → Q (some (iv (-1 : Int32))) h15) ∧ (¬ (9 : Int64) < x3.toInt64 → (x5.toInt64 < (0 : Int64) → ∀ h17 : ah_T, h17 = ah_wI h2 a0 0 (5 : Int32) → ah_ext h2 h17 → Q (some (iv (-1 : Int32))) h17) ∧ (¬ x5.toInt64 < (0 : Int64) → ((519 : Int64) < x5.toInt64 → ∀ h19 : ah_T, h19 = ah_wI h2 a0 0 (5 : Int32) → ah_ext h2 h19 → Q (some (iv (-1 : Int32))) h19) ∧ (¬ (519 : Int64) < x5.toInt64 → MX G mi_X8_play (d + 2) 0 [some (rv a0), some (iv x5), none] [] h2 (Qv fun h20 => ah_ext h2 h20 → MX G mi_X8_port (d + 3) 75 [some (rv a0), some (iv x1), some (iv x2), some (iv x3), some (iv x4), none, some (iv (0 : Int32)), some (iv (0 : Int32))] [] h20 Q E) E))))) ∧ (¬ x4 = (-1 : Int32) → (x4.toInt64 < (0 : Int64) → ∀ h23 : ah_T, h23 = ah_wI h2 a0 0 (2 : Int32) → ah_ext h2 h23 → Q (some (iv (-1 : Int32))) h23) ∧ (¬ x4.toInt64 < (0 : Int64) → (((ah_I h a0 5) - (1 : Int32)).toInt64 < x4.toInt64 → ∀ h25 : ah_T, h25 = ah_wI h2 a0 0 (2 : Int32) → ah_ext h2 h25 → Q (some (iv (-1 : Int32))) h25) ∧ (¬ ((ah_I h a0 5) - (1 : Int32)).toInt64 < x4.toInt64 → (x3.toInt64 < (0 : Int64) → ∀ h27 : ah_T, h27 = ah_wI h2 a0 0 (5 : Int32) → ah_ext h2 h27 → Q (some (iv (-1 : Int32))) h27) ∧ (¬ x3.toInt64 < (0 : Int64) → ((9 : Int64) < x3.toInt64 → ∀ h29 : ah_T, h29 = ah_wI h2 a0 0 (5 : Int32) → ah_ext h2 h29 → Q (some (iv (-1 : Int32))) h29) ∧ (¬ (9 : Int64) < x3.toInt64 → (x5.toInt64 < (0 : Int64) → ∀ h31 : ah_T, h31 = ah_wI h2 a0 0 (5 : Int32) → ah_ext h2 h31 → Q (some (iv (-1 : Int32))) h31) ∧ (¬ x5.toInt64 < (0 : Int64) → ((519 : Int64) < x5.toInt64 → ∀ h33 : ah_T, h33 = ah_wI h2 a0 0 (5 : Int32) → ah_ext h2 h33 → Q (some (iv (-1 : Int32))) h33) ∧ (¬ (519 : Int64) < x5.toInt64 → MX G mi_X8_play (d + 2) 0 [some (rv a0), some (iv x5), none] [] h2 (Qv fun h34 => ah_ext h2 h34 → MX G mi_X8_port (d + 3) 75 [some (rv a0), some (iv x1), some (iv x2), some (iv x3), some (iv x4), none, some (iv (0 : Int32)), some (iv (0 : Int32))] [] h34 Q E) E)))))))))))) : MX G mi_X8_port (d + 3) 0 [some (rv a0), some (iv x1), some (iv x2), some (iv x3), some (iv x4), some (iv x5), none, none] [] h Q E := by
  refine mx_aload_n dX8_port_0 rfl rfl ?_
  refine mx_iconst dX8_port_1 ic_0 ?_
  refine mx_putI 8 1 (ref := "PrairiePoolModel") cl_8 (Nat.le_of_ble_eq_true rfl) (Or.inl q1628) (Or.inl rfl) dX8_port_2 (Or.inl rfl) rfl (ly8_k La0_h) ?_
  refine mx_nmI  (fun h1 eh1 Xh1 Kh1 Lh1 => ?_)
  have H := H h1 eh1 Xh1
  have La0_h1 := La0_h.ext Xh1
  refine mx_aload_n dX8_port_5 rfl rfl ?_
  refine mx_iconst dX8_port_6 ic_0 ?_
  refine mx_putI 8 0 (ref := "PrairiePoolModel") cl_8 (Nat.le_of_ble_eq_true rfl) (Or.inl q1627) (Or.inl rfl) dX8_port_7 (Or.inl rfl) rfl (ly8_k La0_h1) ?_
  refine mx_nmI  (fun h2 eh2 Xh2 Kh2 Lh2 => ?_)
  have H := H h2 eh2 Xh2
  have Kh2 := Kh2.trans Kh1
  have Lh2 := Lh2.trans Lh1
  have La0_h2 := La0_h1.ext Xh2
  refine mx_iload_n dX8_port_10 rfl rfl ?_
  refine mx_i2l dX8_port_11 ?_
  refine mx_lconst dX8_port_12 lc_0 ?_
  refine mx_lconst dX8_port_13 lc_1 ?_
  refine mx_callS (y' := mi_X8_isIn) (vs := [jv x1.toInt64, jv (0 : Int64), jv (1 : Int64)]) (st := []) (al' := [some (jv x1.toInt64), none, some (jv (0 : Int64)), none, some (jv (1 : Int64)), none]) S_X8_isIn q1996 dX8_port_14 rfl rfl (Nat.le_of_ble_eq_true rfl) (Nat.le_of_ble_eq_true rfl) ?_
  refine mx_lload_n dX8_isIn_0 rfl rfl ?_
  refine mx_lload_n dX8_isIn_1 rfl rfl ?_
  refine mx_lif_lt (tgt := 17) dX8_isIn_2 dX8_isIn_3 rfl (fun c3 => ?_) (fun c3 => ?_)
  · have H := H.1 c3
    refine mx_iconst dX8_isIn_17 ic_0 ?_
    refine mx_zretK rfl dX8_isIn_18 (Or.inl rfl) ?_
    refine mx_if_eq (tgt := 36) dX8_port_17 rfl (fun _ => ?_) (fun _ => absurd ‹_› (by decide))
    refine mx_aload_n dX8_port_36 rfl rfl ?_
    refine mx_iconst dX8_port_37 ic_2 ?_
    refine mx_callV 8 (y' := mi_X8_refuse) (vs := [iv (2 : Int32)]) (st := []) (al' := [some (rv a0), some (iv (2 : Int32))]) cl_8 V_X8_refuse (Or.inl q1999) dX8_port_38 rfl rfl (Nat.le_of_ble_eq_true rfl) (Nat.le_of_ble_eq_true rfl) (ly8_k La0_h2) ?_
    refine mx_aload_n dX8_refuse_0 rfl rfl ?_
    refine mx_iload_n dX8_refuse_1 rfl rfl ?_
    refine mx_putI 8 0 (ref := "PrairiePoolModel") cl_8 (Nat.le_of_ble_eq_true rfl) (Or.inl q1627) (Or.inl rfl) dX8_refuse_2 (Or.inl rfl) rfl (ly8_k La0_h2) ?_
    refine mx_nmI  (fun h4 eh4 Xh4 Kh4 Lh4 => ?_)
    have H := H h4 eh4 Xh4
    have Kh4 := Kh4.trans Kh2
    have Lh4 := Lh4.trans Lh2
    have La0_h4 := La0_h2.ext Xh4
    refine mx_iconst dX8_refuse_5 ic_m1 ?_
    refine mx_iretK rfl dX8_refuse_6 ?_
    exact mx_iret rfl dX8_port_41 H
  · have H := H.2 c3
    refine mx_lload_n dX8_isIn_6 rfl rfl ?_
    refine mx_lload dX8_isIn_7 rfl ?_
    refine mx_lif_gt (tgt := 17) dX8_isIn_9 dX8_isIn_10 rfl (fun c5 => ?_) (fun c5 => ?_)
    · have H := H.1 c5
      refine mx_iconst dX8_isIn_17 ic_0 ?_
      refine mx_zretK rfl dX8_isIn_18 (Or.inl rfl) ?_
      refine mx_if_eq (tgt := 36) dX8_port_17 rfl (fun _ => ?_) (fun _ => absurd ‹_› (by decide))
      refine mx_aload_n dX8_port_36 rfl rfl ?_
      refine mx_iconst dX8_port_37 ic_2 ?_
      refine mx_callV 8 (y' := mi_X8_refuse) (vs := [iv (2 : Int32)]) (st := []) (al' := [some (rv a0), some (iv (2 : Int32))]) cl_8 V_X8_refuse (Or.inl q1999) dX8_port_38 rfl rfl (Nat.le_of_ble_eq_true rfl) (Nat.le_of_ble_eq_true rfl) (ly8_k La0_h2) ?_
      refine mx_aload_n dX8_refuse_0 rfl rfl ?_
      refine mx_iload_n dX8_refuse_1 rfl rfl ?_
      refine mx_putI 8 0 (ref := "PrairiePoolModel") cl_8 (Nat.le_of_ble_eq_true rfl) (Or.inl q1627) (Or.inl rfl) dX8_refuse_2 (Or.inl rfl) rfl (ly8_k La0_h2) ?_
      refine mx_nmI  (fun h6 eh6 Xh6 Kh6 Lh6 => ?_)
      have H := H h6 eh6 Xh6
      have Kh6 := Kh6.trans Kh2
      have Lh6 := Lh6.trans Lh2
      have La0_h6 := La0_h2.ext Xh6
      refine mx_iconst dX8_refuse_5 ic_m1 ?_
      refine mx_iretK rfl dX8_refuse_6 ?_
      exact mx_iret rfl dX8_port_41 H
    · have H := H.2 c5
      refine mx_iconst dX8_isIn_13 ic_1 ?_
      refine mx_goto (tgt := 18) dX8_isIn_14 rfl ?_
      refine mx_zretK rfl dX8_isIn_18 (Or.inr rfl) ?_
      refine mx_if_eq (tgt := 36) dX8_port_17 rfl (fun _ => absurd ‹_› (by decide)) (fun _ => ?_)
      refine mx_iload_n dX8_port_20 rfl rfl ?_
      refine mx_callS (y' := mi_X8_isGrade) (vs := [iv x2]) (st := []) (al' := [some (iv x2)]) S_X8_isGrade q2036 dX8_port_21 rfl rfl (Nat.le_of_ble_eq_true rfl) (Nat.le_of_ble_eq_true rfl) ?_
      refine mx_iload_n dX8_isGrade_0 rfl rfl ?_
      refine mx_i2l dX8_isGrade_1 ?_
      refine mx_lconst dX8_isGrade_2 lc_0 ?_
      refine mx_ldc2 q1995 dX8_isGrade_3 ?_
      refine mx_callS (y' := mi_X8_isIn) (vs := [jv x2.toInt64, jv (0 : Int64), jv (5 : Int64)]) (st := []) (al' := [some (jv x2.toInt64), none, some (jv (0 : Int64)), none, some (jv (5 : Int64)), none]) S_X8_isIn q1996 dX8_isGrade_6 rfl rfl (Nat.le_of_ble_eq_true rfl) (Nat.le_of_ble_eq_true rfl) ?_
      refine mx_lload_n dX8_isIn_0 rfl rfl ?_
      refine mx_lload_n dX8_isIn_1 rfl rfl ?_
      refine mx_lif_lt (tgt := 17) dX8_isIn_2 dX8_isIn_3 rfl (fun c7 => ?_) (fun c7 => ?_)
      · have H := H.1 c7
        refine mx_iconst dX8_isIn_17 ic_0 ?_
        refine mx_zretK rfl dX8_isIn_18 (Or.inl rfl) ?_
        refine mx_zretK rfl dX8_isGrade_9 (Or.inl rfl) ?_
        refine mx_if_eq (tgt := 36) dX8_port_24 rfl (fun _ => ?_) (fun _ => absurd ‹_› (by decide))
        refine mx_aload_n dX8_port_36 rfl rfl ?_
        refine mx_iconst dX8_port_37 ic_2 ?_
        refine mx_callV 8 (y' := mi_X8_refuse) (vs := [iv (2 : Int32)]) (st := []) (al' := [some (rv a0), some (iv (2 : Int32))]) cl_8 V_X8_refuse (Or.inl q1999) dX8_port_38 rfl rfl (Nat.le_of_ble_eq_true rfl) (Nat.le_of_ble_eq_true rfl) (ly8_k La0_h2) ?_
        refine mx_aload_n dX8_refuse_0 rfl rfl ?_
        refine mx_iload_n dX8_refuse_1 rfl rfl ?_
        refine mx_putI 8 0 (ref := "PrairiePoolModel") cl_8 (Nat.le_of_ble_eq_true rfl) (Or.inl q1627) (Or.inl rfl) dX8_refuse_2 (Or.inl rfl) rfl (ly8_k La0_h2) ?_
        refine mx_nmI  (fun h8 eh8 Xh8 Kh8 Lh8 => ?_)
        have H := H h8 eh8 Xh8
        have Kh8 := Kh8.trans Kh2
        have Lh8 := Lh8.trans Lh2
        have La0_h8 := La0_h2.ext Xh8
        refine mx_iconst dX8_refuse_5 ic_m1 ?_
        refine mx_iretK rfl dX8_refuse_6 ?_
        exact mx_iret rfl dX8_port_41 H
      · have H := H.2 c7
        refine mx_lload_n dX8_isIn_6 rfl rfl ?_
        refine mx_lload dX8_isIn_7 rfl ?_
        refine mx_lif_gt (tgt := 17) dX8_isIn_9 dX8_isIn_10 rfl (fun c9 => ?_) (fun c9 => ?_)
        · have H := H.1 c9
          refine mx_iconst dX8_isIn_17 ic_0 ?_
          refine mx_zretK rfl dX8_isIn_18 (Or.inl rfl) ?_
          refine mx_zretK rfl dX8_isGrade_9 (Or.inl rfl) ?_
          refine mx_if_eq (tgt := 36) dX8_port_24 rfl (fun _ => ?_) (fun _ => absurd ‹_› (by decide))
          refine mx_aload_n dX8_port_36 rfl rfl ?_
          refine mx_iconst dX8_port_37 ic_2 ?_
          refine mx_callV 8 (y' := mi_X8_refuse) (vs := [iv (2 : Int32)]) (st := []) (al' := [some (rv a0), some (iv (2 : Int32))]) cl_8 V_X8_refuse (Or.inl q1999) dX8_port_38 rfl rfl (Nat.le_of_ble_eq_true rfl) (Nat.le_of_ble_eq_true rfl) (ly8_k La0_h2) ?_
          refine mx_aload_n dX8_refuse_0 rfl rfl ?_
          refine mx_iload_n dX8_refuse_1 rfl rfl ?_
          refine mx_putI 8 0 (ref := "PrairiePoolModel") cl_8 (Nat.le_of_ble_eq_true rfl) (Or.inl q1627) (Or.inl rfl) dX8_refuse_2 (Or.inl rfl) rfl (ly8_k La0_h2) ?_
          refine mx_nmI  (fun h10 eh10 Xh10 Kh10 Lh10 => ?_)
          have H := H h10 eh10 Xh10
          have Kh10 := Kh10.trans Kh2
          have Lh10 := Lh10.trans Lh2
          have La0_h10 := La0_h2.ext Xh10
          refine mx_iconst dX8_refuse_5 ic_m1 ?_
          refine mx_iretK rfl dX8_refuse_6 ?_
          exact mx_iret rfl dX8_port_41 H
        · have H := H.2 c9
          refine mx_iconst dX8_isIn_13 ic_1 ?_
          refine mx_goto (tgt := 18) dX8_isIn_14 rfl ?_
          refine mx_zretK rfl dX8_isIn_18 (Or.inr rfl) ?_
          refine mx_zretK rfl dX8_isGrade_9 (Or.inr rfl) ?_
          refine mx_if_eq (tgt := 36) dX8_port_24 rfl (fun _ => absurd ‹_› (by decide)) (fun _ => ?_)
          refine mx_aload_n dX8_port_27 rfl rfl ?_
          refine mx_iload dX8_port_28 rfl ?_
          refine mx_callV 8 (y' := mi_X8_isWho) (vs := [iv x4]) (st := []) (al' := [some (rv a0), some (iv x4)]) cl_8 V_X8_isWho (Or.inl q2115) dX8_port_30 rfl rfl (Nat.le_of_ble_eq_true rfl) (Nat.le_of_ble_eq_true rfl) (ly8_k La0_h2) ?_
          refine mx_iload_n dX8_isWho_0 rfl rfl ?_
          refine mx_iconst dX8_isWho_1 ic_m1 ?_
          refine mx_icmp_eq (tgt := 13) dX8_isWho_2 rfl (fun c11 => ?_) (fun c11 => ?_)
          · have H := H.1 c11
            refine mx_iconst dX8_isWho_13 ic_1 ?_
            refine mx_goto (tgt := 18) dX8_isWho_14 rfl ?_
            refine mx_zretK rfl dX8_isWho_18 (Or.inr rfl) ?_
            refine mx_if_ne (tgt := 42) dX8_port_33 rfl (fun _ => ?_) (fun _ => absurd ‹_› (by decide))
            refine mx_iload_n dX8_port_42 rfl rfl ?_
            refine mx_callS (y' := mi_X8_isYear) (vs := [iv x3]) (st := []) (al' := [some (iv x3)]) S_X8_isYear q2039 dX8_port_43 rfl rfl (Nat.le_of_ble_eq_true rfl) (Nat.le_of_ble_eq_true rfl) ?_
            refine mx_iload_n dX8_isYear_0 rfl rfl ?_
            refine mx_i2l dX8_isYear_1 ?_
            refine mx_lconst dX8_isYear_2 lc_0 ?_
            refine mx_ldc2 q2042 dX8_isYear_3 ?_
            refine mx_callS (y' := mi_X8_isIn) (vs := [jv x3.toInt64, jv (0 : Int64), jv (9 : Int64)]) (st := []) (al' := [some (jv x3.toInt64), none, some (jv (0 : Int64)), none, some (jv (9 : Int64)), none]) S_X8_isIn q1996 dX8_isYear_6 rfl rfl (Nat.le_of_ble_eq_true rfl) (Nat.le_of_ble_eq_true rfl) ?_
            refine mx_lload_n dX8_isIn_0 rfl rfl ?_
            refine mx_lload_n dX8_isIn_1 rfl rfl ?_
            refine mx_lif_lt (tgt := 17) dX8_isIn_2 dX8_isIn_3 rfl (fun c12 => ?_) (fun c12 => ?_)
            · have H := H.1 c12
              refine mx_iconst dX8_isIn_17 ic_0 ?_
              refine mx_zretK rfl dX8_isIn_18 (Or.inl rfl) ?_
              refine mx_zretK rfl dX8_isYear_9 (Or.inl rfl) ?_
              refine mx_if_eq (tgt := 57) dX8_port_46 rfl (fun _ => ?_) (fun _ => absurd ‹_› (by decide))
              refine mx_aload_n dX8_port_57 rfl rfl ?_
              refine mx_iconst dX8_port_58 ic_5 ?_
              refine mx_callV 8 (y' := mi_X8_refuse) (vs := [iv (5 : Int32)]) (st := []) (al' := [some (rv a0), some (iv (5 : Int32))]) cl_8 V_X8_refuse (Or.inl q1999) dX8_port_59 rfl rfl (Nat.le_of_ble_eq_true rfl) (Nat.le_of_ble_eq_true rfl) (ly8_k La0_h2) ?_
              refine mx_aload_n dX8_refuse_0 rfl rfl ?_
              refine mx_iload_n dX8_refuse_1 rfl rfl ?_
              refine mx_putI 8 0 (ref := "PrairiePoolModel") cl_8 (Nat.le_of_ble_eq_true rfl) (Or.inl q1627) (Or.inl rfl) dX8_refuse_2 (Or.inl rfl) rfl (ly8_k La0_h2) ?_
              refine mx_nmI  (fun h13 eh13 Xh13 Kh13 Lh13 => ?_)
              have H := H h13 eh13 Xh13
              have Kh13 := Kh13.trans Kh2
              have Lh13 := Lh13.trans Lh2
              have La0_h13 := La0_h2.ext Xh13
              refine mx_iconst dX8_refuse_5 ic_m1 ?_
              refine mx_iretK rfl dX8_refuse_6 ?_
              exact mx_iret rfl dX8_port_62 H
            · have H := H.2 c12
              refine mx_lload_n dX8_isIn_6 rfl rfl ?_
              refine mx_lload dX8_isIn_7 rfl ?_
              refine mx_lif_gt (tgt := 17) dX8_isIn_9 dX8_isIn_10 rfl (fun c14 => ?_) (fun c14 => ?_)
              · have H := H.1 c14
                refine mx_iconst dX8_isIn_17 ic_0 ?_
                refine mx_zretK rfl dX8_isIn_18 (Or.inl rfl) ?_
                refine mx_zretK rfl dX8_isYear_9 (Or.inl rfl) ?_
                refine mx_if_eq (tgt := 57) dX8_port_46 rfl (fun _ => ?_) (fun _ => absurd ‹_› (by decide))
                refine mx_aload_n dX8_port_57 rfl rfl ?_
                refine mx_iconst dX8_port_58 ic_5 ?_
                refine mx_callV 8 (y' := mi_X8_refuse) (vs := [iv (5 : Int32)]) (st := []) (al' := [some (rv a0), some (iv (5 : Int32))]) cl_8 V_X8_refuse (Or.inl q1999) dX8_port_59 rfl rfl (Nat.le_of_ble_eq_true rfl) (Nat.le_of_ble_eq_true rfl) (ly8_k La0_h2) ?_
                refine mx_aload_n dX8_refuse_0 rfl rfl ?_
                refine mx_iload_n dX8_refuse_1 rfl rfl ?_
                refine mx_putI 8 0 (ref := "PrairiePoolModel") cl_8 (Nat.le_of_ble_eq_true rfl) (Or.inl q1627) (Or.inl rfl) dX8_refuse_2 (Or.inl rfl) rfl (ly8_k La0_h2) ?_
                refine mx_nmI  (fun h15 eh15 Xh15 Kh15 Lh15 => ?_)
                have H := H h15 eh15 Xh15
                have Kh15 := Kh15.trans Kh2
                have Lh15 := Lh15.trans Lh2
                have La0_h15 := La0_h2.ext Xh15
                refine mx_iconst dX8_refuse_5 ic_m1 ?_
                refine mx_iretK rfl dX8_refuse_6 ?_
                exact mx_iret rfl dX8_port_62 H
              · have H := H.2 c14
                refine mx_iconst dX8_isIn_13 ic_1 ?_
                refine mx_goto (tgt := 18) dX8_isIn_14 rfl ?_
                refine mx_zretK rfl dX8_isIn_18 (Or.inr rfl) ?_
                refine mx_zretK rfl dX8_isYear_9 (Or.inr rfl) ?_
                refine mx_if_eq (tgt := 57) dX8_port_46 rfl (fun _ => absurd ‹_› (by decide)) (fun _ => ?_)
                refine mx_iload dX8_port_49 rfl ?_
                refine mx_callS (y' := mi_X8_isDay) (vs := [iv x5]) (st := []) (al' := [some (iv x5)]) S_X8_isDay q2028 dX8_port_51 rfl rfl (Nat.le_of_ble_eq_true rfl) (Nat.le_of_ble_eq_true rfl) ?_
                refine mx_iload_n dX8_isDay_0 rfl rfl ?_
                refine mx_i2l dX8_isDay_1 ?_
                refine mx_lconst dX8_isDay_2 lc_0 ?_
                refine mx_ldc2 q2031 dX8_isDay_3 ?_
                refine mx_callS (y' := mi_X8_isIn) (vs := [jv x5.toInt64, jv (0 : Int64), jv (519 : Int64)]) (st := []) (al' := [some (jv x5.toInt64), none, some (jv (0 : Int64)), none, some (jv (519 : Int64)), none]) S_X8_isIn q1996 dX8_isDay_6 rfl rfl (Nat.le_of_ble_eq_true rfl) (Nat.le_of_ble_eq_true rfl) ?_
                refine mx_lload_n dX8_isIn_0 rfl rfl ?_
                refine mx_lload_n dX8_isIn_1 rfl rfl ?_
                refine mx_lif_lt (tgt := 17) dX8_isIn_2 dX8_isIn_3 rfl (fun c16 => ?_) (fun c16 => ?_)
                · have H := H.1 c16
                  refine mx_iconst dX8_isIn_17 ic_0 ?_
                  refine mx_zretK rfl dX8_isIn_18 (Or.inl rfl) ?_
                  refine mx_zretK rfl dX8_isDay_9 (Or.inl rfl) ?_
                  refine mx_if_ne (tgt := 63) dX8_port_54 rfl (fun _ => absurd ‹_› (by decide)) (fun _ => ?_)
                  refine mx_aload_n dX8_port_57 rfl rfl ?_
                  refine mx_iconst dX8_port_58 ic_5 ?_
                  refine mx_callV 8 (y' := mi_X8_refuse) (vs := [iv (5 : Int32)]) (st := []) (al' := [some (rv a0), some (iv (5 : Int32))]) cl_8 V_X8_refuse (Or.inl q1999) dX8_port_59 rfl rfl (Nat.le_of_ble_eq_true rfl) (Nat.le_of_ble_eq_true rfl) (ly8_k La0_h2) ?_
                  refine mx_aload_n dX8_refuse_0 rfl rfl ?_
                  refine mx_iload_n dX8_refuse_1 rfl rfl ?_
                  refine mx_putI 8 0 (ref := "PrairiePoolModel") cl_8 (Nat.le_of_ble_eq_true rfl) (Or.inl q1627) (Or.inl rfl) dX8_refuse_2 (Or.inl rfl) rfl (ly8_k La0_h2) ?_
                  refine mx_nmI  (fun h17 eh17 Xh17 Kh17 Lh17 => ?_)
                  have H := H h17 eh17 Xh17
                  have Kh17 := Kh17.trans Kh2
                  have Lh17 := Lh17.trans Lh2
                  have La0_h17 := La0_h2.ext Xh17
                  refine mx_iconst dX8_refuse_5 ic_m1 ?_
                  refine mx_iretK rfl dX8_refuse_6 ?_
                  exact mx_iret rfl dX8_port_62 H
                · have H := H.2 c16
                  refine mx_lload_n dX8_isIn_6 rfl rfl ?_
                  refine mx_lload dX8_isIn_7 rfl ?_
                  refine mx_lif_gt (tgt := 17) dX8_isIn_9 dX8_isIn_10 rfl (fun c18 => ?_) (fun c18 => ?_)
                  · have H := H.1 c18
                    refine mx_iconst dX8_isIn_17 ic_0 ?_
                    refine mx_zretK rfl dX8_isIn_18 (Or.inl rfl) ?_
                    refine mx_zretK rfl dX8_isDay_9 (Or.inl rfl) ?_
                    refine mx_if_ne (tgt := 63) dX8_port_54 rfl (fun _ => absurd ‹_› (by decide)) (fun _ => ?_)
                    refine mx_aload_n dX8_port_57 rfl rfl ?_
                    refine mx_iconst dX8_port_58 ic_5 ?_
                    refine mx_callV 8 (y' := mi_X8_refuse) (vs := [iv (5 : Int32)]) (st := []) (al' := [some (rv a0), some (iv (5 : Int32))]) cl_8 V_X8_refuse (Or.inl q1999) dX8_port_59 rfl rfl (Nat.le_of_ble_eq_true rfl) (Nat.le_of_ble_eq_true rfl) (ly8_k La0_h2) ?_
                    refine mx_aload_n dX8_refuse_0 rfl rfl ?_
                    refine mx_iload_n dX8_refuse_1 rfl rfl ?_
                    refine mx_putI 8 0 (ref := "PrairiePoolModel") cl_8 (Nat.le_of_ble_eq_true rfl) (Or.inl q1627) (Or.inl rfl) dX8_refuse_2 (Or.inl rfl) rfl (ly8_k La0_h2) ?_
                    refine mx_nmI  (fun h19 eh19 Xh19 Kh19 Lh19 => ?_)
                    have H := H h19 eh19 Xh19
                    have Kh19 := Kh19.trans Kh2
                    have Lh19 := Lh19.trans Lh2
                    have La0_h19 := La0_h2.ext Xh19
                    refine mx_iconst dX8_refuse_5 ic_m1 ?_
                    refine mx_iretK rfl dX8_refuse_6 ?_
                    exact mx_iret rfl dX8_port_62 H
                  · have H := H.2 c18
                    refine mx_iconst dX8_isIn_13 ic_1 ?_
                    refine mx_goto (tgt := 18) dX8_isIn_14 rfl ?_
                    refine mx_zretK rfl dX8_isIn_18 (Or.inr rfl) ?_
                    refine mx_zretK rfl dX8_isDay_9 (Or.inr rfl) ?_
                    refine mx_if_ne (tgt := 63) dX8_port_54 rfl (fun _ => ?_) (fun _ => absurd ‹_› (by decide))
                    refine mx_aload_n dX8_port_63 rfl rfl ?_
                    refine mx_iload dX8_port_64 rfl ?_
                    refine mx_callV 8 (y' := mi_X8_play) (vs := [iv x5]) (st := []) (al' := [some (rv a0), some (iv x5), none]) cl_8 V_X8_play (Or.inl q2119) dX8_port_66 rfl rfl (Nat.le_of_ble_eq_true rfl) (Nat.le_of_ble_eq_true rfl) (ly8_k La0_h2) ?_
                    refine ma_kv H (fun h20 Xh20 H => ?_) (fun x1 h1 X1 H => mt_out rfl H)
                    have H := H Xh20
                    have La0_h20 := La0_h2.ext Xh20
                    refine mx_iconst dX8_port_69 ic_0 ?_
                    refine mx_istore (al' := [some (rv a0), some (iv x1), some (iv x2), some (iv x3), some (iv x4), some (iv x5), some (iv (0 : Int32)), none]) dX8_port_70 (Nat.le_of_ble_eq_true rfl) rfl ?_
                    refine mx_iconst dX8_port_72 ic_0 ?_
                    refine mx_istore (al' := [some (rv a0), some (iv x1), some (iv x2), some (iv x3), some (iv x4), some (iv x5), some (iv (0 : Int32)), some (iv (0 : Int32))]) dX8_port_73 (Nat.le_of_ble_eq_true rfl) rfl ?_
                    exact mx_weak (al' := [some (rv a0), some (iv x1), some (iv x2), some (iv x3), some (iv x4), none, some (iv (0 : Int32)), some (iv (0 : Int32))]) ⟨rfl, ⟨rfl, ⟨rfl, ⟨rfl, ⟨rfl, ⟨rfl, ⟨rfl, trivial⟩⟩⟩⟩⟩⟩⟩ H
          · have H := H.2 c11
            refine mx_aload_n dX8_isWho_5 rfl rfl ?_
            refine mx_iload_n dX8_isWho_6 rfl rfl ?_
            refine mx_callV 8 (y' := mi_X8_isFarm) (vs := [iv x4]) (st := []) (al' := [some (rv a0), some (iv x4)]) cl_8 V_X8_isFarm (Or.inl q2014) dX8_isWho_7 rfl rfl (Nat.le_of_ble_eq_true rfl) (Nat.le_of_ble_eq_true rfl) (ly8_k La0_h2) ?_
            refine mx_iload_n dX8_isFarm_0 rfl rfl ?_
            refine mx_i2l dX8_isFarm_1 ?_
            refine mx_lconst dX8_isFarm_2 lc_0 ?_
            refine mx_aload_n dX8_isFarm_3 rfl rfl ?_
            refine mx_get 8 5 (ref := "PrairiePoolModel") cl_8 (Nat.le_of_ble_eq_true rfl) (Or.inl q1632) (Or.inl rfl) dX8_isFarm_4 (fv_8_5 _ _) (ly8_k La0_h2) ?_
            refine mx_ti ((ah_skIK eh2 (by decide)).trans (ah_skIK eh1 (by decide))) ?_
            refine mx_iconst dX8_isFarm_7 ic_1 ?_
            refine mx_isub dX8_isFarm_8 ?_
            refine mx_i2l dX8_isFarm_9 ?_
            refine mx_callS (y' := mi_X8_isIn) (vs := [jv x4.toInt64, jv (0 : Int64), jv ((ah_I h a0 5) - (1 : Int32)).toInt64]) (st := []) (al' := [some (jv x4.toInt64), none, some (jv (0 : Int64)), none, some (jv ((ah_I h a0 5) - (1 : Int32)).toInt64), none]) S_X8_isIn q1996 dX8_isFarm_10 rfl rfl (Nat.le_of_ble_eq_true rfl) (Nat.le_of_ble_eq_true rfl) ?_
            refine mx_lload_n dX8_isIn_0 rfl rfl ?_
            refine mx_lload_n dX8_isIn_1 rfl rfl ?_
            refine mx_lif_lt (tgt := 17) dX8_isIn_2 dX8_isIn_3 rfl (fun c22 => ?_) (fun c22 => ?_)
            · have H := H.1 c22
              refine mx_iconst dX8_isIn_17 ic_0 ?_
              refine mx_zretK rfl dX8_isIn_18 (Or.inl rfl) ?_
              refine mx_zretK rfl dX8_isFarm_13 (Or.inl rfl) ?_
              refine mx_if_eq (tgt := 17) dX8_isWho_10 rfl (fun _ => ?_) (fun _ => absurd ‹_› (by decide))
              refine mx_iconst dX8_isWho_17 ic_0 ?_
              refine mx_zretK rfl dX8_isWho_18 (Or.inl rfl) ?_
              refine mx_if_ne (tgt := 42) dX8_port_33 rfl (fun _ => absurd ‹_› (by decide)) (fun _ => ?_)
              refine mx_aload_n dX8_port_36 rfl rfl ?_
              refine mx_iconst dX8_port_37 ic_2 ?_
              refine mx_callV 8 (y' := mi_X8_refuse) (vs := [iv (2 : Int32)]) (st := []) (al' := [some (rv a0), some (iv (2 : Int32))]) cl_8 V_X8_refuse (Or.inl q1999) dX8_port_38 rfl rfl (Nat.le_of_ble_eq_true rfl) (Nat.le_of_ble_eq_true rfl) (ly8_k La0_h2) ?_
              refine mx_aload_n dX8_refuse_0 rfl rfl ?_
              refine mx_iload_n dX8_refuse_1 rfl rfl ?_
              refine mx_putI 8 0 (ref := "PrairiePoolModel") cl_8 (Nat.le_of_ble_eq_true rfl) (Or.inl q1627) (Or.inl rfl) dX8_refuse_2 (Or.inl rfl) rfl (ly8_k La0_h2) ?_
              refine mx_nmI  (fun h23 eh23 Xh23 Kh23 Lh23 => ?_)
              have H := H h23 eh23 Xh23
              have Kh23 := Kh23.trans Kh2
              have Lh23 := Lh23.trans Lh2
              have La0_h23 := La0_h2.ext Xh23
              refine mx_iconst dX8_refuse_5 ic_m1 ?_
              refine mx_iretK rfl dX8_refuse_6 ?_
              exact mx_iret rfl dX8_port_41 H
            · have H := H.2 c22
              refine mx_lload_n dX8_isIn_6 rfl rfl ?_
              refine mx_lload dX8_isIn_7 rfl ?_
              refine mx_lif_gt (tgt := 17) dX8_isIn_9 dX8_isIn_10 rfl (fun c24 => ?_) (fun c24 => ?_)
              · have H := H.1 c24
                refine mx_iconst dX8_isIn_17 ic_0 ?_
                refine mx_zretK rfl dX8_isIn_18 (Or.inl rfl) ?_
                refine mx_zretK rfl dX8_isFarm_13 (Or.inl rfl) ?_
                refine mx_if_eq (tgt := 17) dX8_isWho_10 rfl (fun _ => ?_) (fun _ => absurd ‹_› (by decide))
                refine mx_iconst dX8_isWho_17 ic_0 ?_
                refine mx_zretK rfl dX8_isWho_18 (Or.inl rfl) ?_
                refine mx_if_ne (tgt := 42) dX8_port_33 rfl (fun _ => absurd ‹_› (by decide)) (fun _ => ?_)
                refine mx_aload_n dX8_port_36 rfl rfl ?_
                refine mx_iconst dX8_port_37 ic_2 ?_
                refine mx_callV 8 (y' := mi_X8_refuse) (vs := [iv (2 : Int32)]) (st := []) (al' := [some (rv a0), some (iv (2 : Int32))]) cl_8 V_X8_refuse (Or.inl q1999) dX8_port_38 rfl rfl (Nat.le_of_ble_eq_true rfl) (Nat.le_of_ble_eq_true rfl) (ly8_k La0_h2) ?_
                refine mx_aload_n dX8_refuse_0 rfl rfl ?_
                refine mx_iload_n dX8_refuse_1 rfl rfl ?_
                refine mx_putI 8 0 (ref := "PrairiePoolModel") cl_8 (Nat.le_of_ble_eq_true rfl) (Or.inl q1627) (Or.inl rfl) dX8_refuse_2 (Or.inl rfl) rfl (ly8_k La0_h2) ?_
                refine mx_nmI  (fun h25 eh25 Xh25 Kh25 Lh25 => ?_)
                have H := H h25 eh25 Xh25
                have Kh25 := Kh25.trans Kh2
                have Lh25 := Lh25.trans Lh2
                have La0_h25 := La0_h2.ext Xh25
                refine mx_iconst dX8_refuse_5 ic_m1 ?_
                refine mx_iretK rfl dX8_refuse_6 ?_
                exact mx_iret rfl dX8_port_41 H
              · have H := H.2 c24
                refine mx_iconst dX8_isIn_13 ic_1 ?_
                refine mx_goto (tgt := 18) dX8_isIn_14 rfl ?_
                refine mx_zretK rfl dX8_isIn_18 (Or.inr rfl) ?_
                refine mx_zretK rfl dX8_isFarm_13 (Or.inr rfl) ?_
                refine mx_if_eq (tgt := 17) dX8_isWho_10 rfl (fun _ => absurd ‹_› (by decide)) (fun _ => ?_)
                refine mx_iconst dX8_isWho_13 ic_1 ?_
                refine mx_goto (tgt := 18) dX8_isWho_14 rfl ?_
                refine mx_zretK rfl dX8_isWho_18 (Or.inr rfl) ?_
                refine mx_if_ne (tgt := 42) dX8_port_33 rfl (fun _ => ?_) (fun _ => absurd ‹_› (by decide))
                refine mx_iload_n dX8_port_42 rfl rfl ?_
                refine mx_callS (y' := mi_X8_isYear) (vs := [iv x3]) (st := []) (al' := [some (iv x3)]) S_X8_isYear q2039 dX8_port_43 rfl rfl (Nat.le_of_ble_eq_true rfl) (Nat.le_of_ble_eq_true rfl) ?_
                refine mx_iload_n dX8_isYear_0 rfl rfl ?_
                refine mx_i2l dX8_isYear_1 ?_
                refine mx_lconst dX8_isYear_2 lc_0 ?_
                refine mx_ldc2 q2042 dX8_isYear_3 ?_
                refine mx_callS (y' := mi_X8_isIn) (vs := [jv x3.toInt64, jv (0 : Int64), jv (9 : Int64)]) (st := []) (al' := [some (jv x3.toInt64), none, some (jv (0 : Int64)), none, some (jv (9 : Int64)), none]) S_X8_isIn q1996 dX8_isYear_6 rfl rfl (Nat.le_of_ble_eq_true rfl) (Nat.le_of_ble_eq_true rfl) ?_
                refine mx_lload_n dX8_isIn_0 rfl rfl ?_
                refine mx_lload_n dX8_isIn_1 rfl rfl ?_
                refine mx_lif_lt (tgt := 17) dX8_isIn_2 dX8_isIn_3 rfl (fun c26 => ?_) (fun c26 => ?_)
                · have H := H.1 c26
                  refine mx_iconst dX8_isIn_17 ic_0 ?_
                  refine mx_zretK rfl dX8_isIn_18 (Or.inl rfl) ?_
                  refine mx_zretK rfl dX8_isYear_9 (Or.inl rfl) ?_
                  refine mx_if_eq (tgt := 57) dX8_port_46 rfl (fun _ => ?_) (fun _ => absurd ‹_› (by decide))
                  refine mx_aload_n dX8_port_57 rfl rfl ?_
                  refine mx_iconst dX8_port_58 ic_5 ?_
                  refine mx_callV 8 (y' := mi_X8_refuse) (vs := [iv (5 : Int32)]) (st := []) (al' := [some (rv a0), some (iv (5 : Int32))]) cl_8 V_X8_refuse (Or.inl q1999) dX8_port_59 rfl rfl (Nat.le_of_ble_eq_true rfl) (Nat.le_of_ble_eq_true rfl) (ly8_k La0_h2) ?_
                  refine mx_aload_n dX8_refuse_0 rfl rfl ?_
                  refine mx_iload_n dX8_refuse_1 rfl rfl ?_
                  refine mx_putI 8 0 (ref := "PrairiePoolModel") cl_8 (Nat.le_of_ble_eq_true rfl) (Or.inl q1627) (Or.inl rfl) dX8_refuse_2 (Or.inl rfl) rfl (ly8_k La0_h2) ?_
                  refine mx_nmI  (fun h27 eh27 Xh27 Kh27 Lh27 => ?_)
                  have H := H h27 eh27 Xh27
                  have Kh27 := Kh27.trans Kh2
                  have Lh27 := Lh27.trans Lh2
                  have La0_h27 := La0_h2.ext Xh27
                  refine mx_iconst dX8_refuse_5 ic_m1 ?_
                  refine mx_iretK rfl dX8_refuse_6 ?_
                  exact mx_iret rfl dX8_port_62 H
                · have H := H.2 c26
                  refine mx_lload_n dX8_isIn_6 rfl rfl ?_
                  refine mx_lload dX8_isIn_7 rfl ?_
                  refine mx_lif_gt (tgt := 17) dX8_isIn_9 dX8_isIn_10 rfl (fun c28 => ?_) (fun c28 => ?_)
                  · have H := H.1 c28
                    refine mx_iconst dX8_isIn_17 ic_0 ?_
                    refine mx_zretK rfl dX8_isIn_18 (Or.inl rfl) ?_
                    refine mx_zretK rfl dX8_isYear_9 (Or.inl rfl) ?_
                    refine mx_if_eq (tgt := 57) dX8_port_46 rfl (fun _ => ?_) (fun _ => absurd ‹_› (by decide))
                    refine mx_aload_n dX8_port_57 rfl rfl ?_
                    refine mx_iconst dX8_port_58 ic_5 ?_
                    refine mx_callV 8 (y' := mi_X8_refuse) (vs := [iv (5 : Int32)]) (st := []) (al' := [some (rv a0), some (iv (5 : Int32))]) cl_8 V_X8_refuse (Or.inl q1999) dX8_port_59 rfl rfl (Nat.le_of_ble_eq_true rfl) (Nat.le_of_ble_eq_true rfl) (ly8_k La0_h2) ?_
                    refine mx_aload_n dX8_refuse_0 rfl rfl ?_
                    refine mx_iload_n dX8_refuse_1 rfl rfl ?_
                    refine mx_putI 8 0 (ref := "PrairiePoolModel") cl_8 (Nat.le_of_ble_eq_true rfl) (Or.inl q1627) (Or.inl rfl) dX8_refuse_2 (Or.inl rfl) rfl (ly8_k La0_h2) ?_
                    refine mx_nmI  (fun h29 eh29 Xh29 Kh29 Lh29 => ?_)
                    have H := H h29 eh29 Xh29
                    have Kh29 := Kh29.trans Kh2
                    have Lh29 := Lh29.trans Lh2
                    have La0_h29 := La0_h2.ext Xh29
                    refine mx_iconst dX8_refuse_5 ic_m1 ?_
                    refine mx_iretK rfl dX8_refuse_6 ?_
                    exact mx_iret rfl dX8_port_62 H
                  · have H := H.2 c28
                    refine mx_iconst dX8_isIn_13 ic_1 ?_
                    refine mx_goto (tgt := 18) dX8_isIn_14 rfl ?_
                    refine mx_zretK rfl dX8_isIn_18 (Or.inr rfl) ?_
                    refine mx_zretK rfl dX8_isYear_9 (Or.inr rfl) ?_
                    refine mx_if_eq (tgt := 57) dX8_port_46 rfl (fun _ => absurd ‹_› (by decide)) (fun _ => ?_)
                    refine mx_iload dX8_port_49 rfl ?_
                    refine mx_callS (y' := mi_X8_isDay) (vs := [iv x5]) (st := []) (al' := [some (iv x5)]) S_X8_isDay q2028 dX8_port_51 rfl rfl (Nat.le_of_ble_eq_true rfl) (Nat.le_of_ble_eq_true rfl) ?_
                    refine mx_iload_n dX8_isDay_0 rfl rfl ?_
                    refine mx_i2l dX8_isDay_1 ?_
                    refine mx_lconst dX8_isDay_2 lc_0 ?_
                    refine mx_ldc2 q2031 dX8_isDay_3 ?_
                    refine mx_callS (y' := mi_X8_isIn) (vs := [jv x5.toInt64, jv (0 : Int64), jv (519 : Int64)]) (st := []) (al' := [some (jv x5.toInt64), none, some (jv (0 : Int64)), none, some (jv (519 : Int64)), none]) S_X8_isIn q1996 dX8_isDay_6 rfl rfl (Nat.le_of_ble_eq_true rfl) (Nat.le_of_ble_eq_true rfl) ?_
                    refine mx_lload_n dX8_isIn_0 rfl rfl ?_
                    refine mx_lload_n dX8_isIn_1 rfl rfl ?_
                    refine mx_lif_lt (tgt := 17) dX8_isIn_2 dX8_isIn_3 rfl (fun c30 => ?_) (fun c30 => ?_)
                    · have H := H.1 c30
                      refine mx_iconst dX8_isIn_17 ic_0 ?_
                      refine mx_zretK rfl dX8_isIn_18 (Or.inl rfl) ?_
                      refine mx_zretK rfl dX8_isDay_9 (Or.inl rfl) ?_
                      refine mx_if_ne (tgt := 63) dX8_port_54 rfl (fun _ => absurd ‹_› (by decide)) (fun _ => ?_)
                      refine mx_aload_n dX8_port_57 rfl rfl ?_
                      refine mx_iconst dX8_port_58 ic_5 ?_
                      refine mx_callV 8 (y' := mi_X8_refuse) (vs := [iv (5 : Int32)]) (st := []) (al' := [some (rv a0), some (iv (5 : Int32))]) cl_8 V_X8_refuse (Or.inl q1999) dX8_port_59 rfl rfl (Nat.le_of_ble_eq_true rfl) (Nat.le_of_ble_eq_true rfl) (ly8_k La0_h2) ?_
                      refine mx_aload_n dX8_refuse_0 rfl rfl ?_
                      refine mx_iload_n dX8_refuse_1 rfl rfl ?_
                      refine mx_putI 8 0 (ref := "PrairiePoolModel") cl_8 (Nat.le_of_ble_eq_true rfl) (Or.inl q1627) (Or.inl rfl) dX8_refuse_2 (Or.inl rfl) rfl (ly8_k La0_h2) ?_
                      refine mx_nmI  (fun h31 eh31 Xh31 Kh31 Lh31 => ?_)
                      have H := H h31 eh31 Xh31
                      have Kh31 := Kh31.trans Kh2
                      have Lh31 := Lh31.trans Lh2
                      have La0_h31 := La0_h2.ext Xh31
                      refine mx_iconst dX8_refuse_5 ic_m1 ?_
                      refine mx_iretK rfl dX8_refuse_6 ?_
                      exact mx_iret rfl dX8_port_62 H
                    · have H := H.2 c30
                      refine mx_lload_n dX8_isIn_6 rfl rfl ?_
                      refine mx_lload dX8_isIn_7 rfl ?_
                      refine mx_lif_gt (tgt := 17) dX8_isIn_9 dX8_isIn_10 rfl (fun c32 => ?_) (fun c32 => ?_)
                      · have H := H.1 c32
                        refine mx_iconst dX8_isIn_17 ic_0 ?_
                        refine mx_zretK rfl dX8_isIn_18 (Or.inl rfl) ?_
                        refine mx_zretK rfl dX8_isDay_9 (Or.inl rfl) ?_
                        refine mx_if_ne (tgt := 63) dX8_port_54 rfl (fun _ => absurd ‹_› (by decide)) (fun _ => ?_)
                        refine mx_aload_n dX8_port_57 rfl rfl ?_
                        refine mx_iconst dX8_port_58 ic_5 ?_
                        refine mx_callV 8 (y' := mi_X8_refuse) (vs := [iv (5 : Int32)]) (st := []) (al' := [some (rv a0), some (iv (5 : Int32))]) cl_8 V_X8_refuse (Or.inl q1999) dX8_port_59 rfl rfl (Nat.le_of_ble_eq_true rfl) (Nat.le_of_ble_eq_true rfl) (ly8_k La0_h2) ?_
                        refine mx_aload_n dX8_refuse_0 rfl rfl ?_
                        refine mx_iload_n dX8_refuse_1 rfl rfl ?_
                        refine mx_putI 8 0 (ref := "PrairiePoolModel") cl_8 (Nat.le_of_ble_eq_true rfl) (Or.inl q1627) (Or.inl rfl) dX8_refuse_2 (Or.inl rfl) rfl (ly8_k La0_h2) ?_
                        refine mx_nmI  (fun h33 eh33 Xh33 Kh33 Lh33 => ?_)
                        have H := H h33 eh33 Xh33
                        have Kh33 := Kh33.trans Kh2
                        have Lh33 := Lh33.trans Lh2
                        have La0_h33 := La0_h2.ext Xh33
                        refine mx_iconst dX8_refuse_5 ic_m1 ?_
                        refine mx_iretK rfl dX8_refuse_6 ?_
                        exact mx_iret rfl dX8_port_62 H
                      · have H := H.2 c32
                        refine mx_iconst dX8_isIn_13 ic_1 ?_
                        refine mx_goto (tgt := 18) dX8_isIn_14 rfl ?_
                        refine mx_zretK rfl dX8_isIn_18 (Or.inr rfl) ?_
                        refine mx_zretK rfl dX8_isDay_9 (Or.inr rfl) ?_
                        refine mx_if_ne (tgt := 63) dX8_port_54 rfl (fun _ => ?_) (fun _ => absurd ‹_› (by decide))
                        refine mx_aload_n dX8_port_63 rfl rfl ?_
                        refine mx_iload dX8_port_64 rfl ?_
                        refine mx_callV 8 (y' := mi_X8_play) (vs := [iv x5]) (st := []) (al' := [some (rv a0), some (iv x5), none]) cl_8 V_X8_play (Or.inl q2119) dX8_port_66 rfl rfl (Nat.le_of_ble_eq_true rfl) (Nat.le_of_ble_eq_true rfl) (ly8_k La0_h2) ?_
                        refine ma_kv H (fun h34 Xh34 H => ?_) (fun x1 h1 X1 H => mt_out rfl H)
                        have H := H Xh34
                        have La0_h34 := La0_h2.ext Xh34
                        refine mx_iconst dX8_port_69 ic_0 ?_
                        refine mx_istore (al' := [some (rv a0), some (iv x1), some (iv x2), some (iv x3), some (iv x4), some (iv x5), some (iv (0 : Int32)), none]) dX8_port_70 (Nat.le_of_ble_eq_true rfl) rfl ?_
                        refine mx_iconst dX8_port_72 ic_0 ?_
                        refine mx_istore (al' := [some (rv a0), some (iv x1), some (iv x2), some (iv x3), some (iv x4), some (iv x5), some (iv (0 : Int32)), some (iv (0 : Int32))]) dX8_port_73 (Nat.le_of_ble_eq_true rfl) rfl ?_
                        exact mx_weak (al' := [some (rv a0), some (iv x1), some (iv x2), some (iv x3), some (iv x4), none, some (iv (0 : Int32)), some (iv (0 : Int32))]) ⟨rfl, ⟨rfl, ⟨rfl, ⟨rfl, ⟨rfl, ⟨rfl, ⟨rfl, trivial⟩⟩⟩⟩⟩⟩⟩ H
theorem v_X8_port_75 {G : ma_G} {d : Nat} {a0 : Nat} {x1 : Int32} {x2 : Int32} {x3 : Int32} {x4 : Int32} {x6 : Int32} {x7 : Int32} {h : ah_T} {Q : Option ma_V → ah_T → Prop} {E : Nat → ah_T → Prop} (La0_h : LY8 h a0) (H : ((20 : Int32) ≤ x7 → Q (some (iv x6)) h) ∧ (¬ (20 : Int32) ≤ x7 → (x4 = (-1 : Int32) → vp_in (((20 : Int32) * (((((6 : Int32) * x1) + x2) * (10 : Int32)) + x3)) + x7) 2400 ∧ MX G mi_X8_port (d + 3) 75 [some (rv a0), some (iv x1), some (iv x2), some (iv x3), some (iv x4), none, some (iv (x6 + (ah_I h (a0 + 24) (((20 : Int32) * (((((6 : Int32) * x1) + x2) * (10 : Int32)) + x3)) + x7).toNatClampNeg))), some (iv (x7 + (1 : Int32)))] [] h Q E) ∧ (¬ x4 = (-1 : Int32) → (¬ x4 = x7 → MX G mi_X8_port (d + 3) 75 [some (rv a0), some (iv x1), some (iv x2), some (iv x3), some (iv x4), none, some (iv (x6 + (0 : Int32))), some (iv (x7 + (1 : Int32)))] [] h Q E) ∧ (x4 = x7 → vp_in (((20 : Int32) * (((((6 : Int32) * x1) + x2) * (10 : Int32)) + x3)) + x7) 2400 ∧ MX G mi_X8_port (d + 3) 75 [some (rv a0), some (iv x1), some (iv x2), some (iv x3), some (iv x4), none, some (iv (x6 + (ah_I h (a0 + 24) (((20 : Int32) * (((((6 : Int32) * x1) + x2) * (10 : Int32)) + x3)) + x7).toNatClampNeg))), some (iv (x7 + (1 : Int32)))] [] h Q E)))) : MX G mi_X8_port (d + 3) 75 [some (rv a0), some (iv x1), some (iv x2), some (iv x3), some (iv x4), none, some (iv x6), some (iv x7)] [] h Q E := by
  refine mx_iload dX8_port_75 rfl ?_
  refine mx_bipush dX8_port_77 ib_20 ?_
  refine mx_icmp_ge (tgt := 124) dX8_port_79 rfl (fun c1 => ?_) (fun c1 => ?_)
  · have H := H.1 c1
    refine mx_iload dX8_port_124 rfl ?_
    exact mx_iret rfl dX8_port_126 H
  · have H := H.2 c1
    refine mx_iload dX8_port_82 rfl ?_
    refine mx_iload dX8_port_84 rfl ?_
    refine mx_iconst dX8_port_86 ic_m1 ?_
    refine mx_icmp_eq (tgt := 97) dX8_port_87 rfl (fun c2 => ?_) (fun c2 => ?_)
    · have H := H.1 c2
      refine mx_aload_n dX8_port_97 rfl rfl ?_
      refine mx_get 8 31 (ref := "PrairiePoolModel") cl_8 (Nat.le_of_ble_eq_true rfl) (Or.inl q1658) (Or.inl rfl) dX8_port_98 (fv_8_31 _ _) (ly8_k La0_h) ?_
      refine mx_tr (ly8_R_0_31 La0_h) ?_
      refine mx_iload_n dX8_port_101 rfl rfl ?_
      refine mx_iload_n dX8_port_102 rfl rfl ?_
      refine mx_iload_n dX8_port_103 rfl rfl ?_
      refine mx_callS (y' := mi_X8_binAt) (vs := [iv x1, iv x2, iv x3]) (st := [rv (a0 + 24), iv x6]) (al' := [some (iv x1), some (iv x2), some (iv x3)]) S_X8_binAt q2131 dX8_port_104 rfl rfl (Nat.le_of_ble_eq_true rfl) (Nat.le_of_ble_eq_true rfl) ?_
      refine mx_bipush dX8_binAt_0 ib_20 ?_
      refine mx_bipush dX8_binAt_2 ib_6 ?_
      refine mx_iload_n dX8_binAt_4 rfl rfl ?_
      refine mx_imul dX8_binAt_5 ?_
      refine mx_iload_n dX8_binAt_6 rfl rfl ?_
      refine mx_iadd dX8_binAt_7 ?_
      refine mx_bipush dX8_binAt_8 ib_10 ?_
      refine mx_imul dX8_binAt_10 ?_
      refine mx_iload_n dX8_binAt_11 rfl rfl ?_
      refine mx_iadd dX8_binAt_12 ?_
      refine mx_imul dX8_binAt_13 ?_
      refine mx_iretK rfl dX8_binAt_14 ?_
      refine mx_iload dX8_port_107 rfl ?_
      refine mx_iadd dX8_port_109 ?_
      obtain ⟨k3, H⟩ := H
      refine my_iald dX8_port_110 rfl (ly8_A_24 La0_h k3) ?_
      refine mx_goto (tgt := 115) dX8_port_111 rfl ?_
      refine mx_iadd dX8_port_115 ?_
      refine mx_istore (al' := [some (rv a0), some (iv x1), some (iv x2), some (iv x3), some (iv x4), none, some (iv (x6 + (ah_I h (a0 + 24) (((20 : Int32) * (((((6 : Int32) * x1) + x2) * (10 : Int32)) + x3)) + x7).toNatClampNeg))), some (iv x7)]) dX8_port_116 (Nat.le_of_ble_eq_true rfl) rfl ?_
      refine mx_iinc (al' := [some (rv a0), some (iv x1), some (iv x2), some (iv x3), some (iv x4), none, some (iv (x6 + (ah_I h (a0 + 24) (((20 : Int32) * (((((6 : Int32) * x1) + x2) * (10 : Int32)) + x3)) + x7).toNatClampNeg))), some (iv (x7 + (1 : Int32)))]) dX8_port_118 rfl ic_1 rfl ?_
      refine mx_goto (tgt := 75) dX8_port_121 rfl ?_
      exact mx_weak (al' := [some (rv a0), some (iv x1), some (iv x2), some (iv x3), some (iv x4), none, some (iv (x6 + (ah_I h (a0 + 24) (((20 : Int32) * (((((6 : Int32) * x1) + x2) * (10 : Int32)) + x3)) + x7).toNatClampNeg))), some (iv (x7 + (1 : Int32)))]) ⟨rfl, ⟨rfl, ⟨rfl, ⟨rfl, ⟨rfl, ⟨rfl, ⟨rfl, trivial⟩⟩⟩⟩⟩⟩⟩ H
    · have H := H.2 c2
      refine mx_iload dX8_port_90 rfl ?_
      refine mx_iload dX8_port_92 rfl ?_
      refine mx_icmp_ne (tgt := 114) dX8_port_94 rfl (fun c4 => ?_) (fun c4 => ?_)
      · have H := H.1 c4
        refine mx_iconst dX8_port_114 ic_0 ?_
        refine mx_iadd dX8_port_115 ?_
        refine mx_istore (al' := [some (rv a0), some (iv x1), some (iv x2), some (iv x3), some (iv x4), none, some (iv (x6 + (0 : Int32))), some (iv x7)]) dX8_port_116 (Nat.le_of_ble_eq_true rfl) rfl ?_
        refine mx_iinc (al' := [some (rv a0), some (iv x1), some (iv x2), some (iv x3), some (iv x4), none, some (iv (x6 + (0 : Int32))), some (iv (x7 + (1 : Int32)))]) dX8_port_118 rfl ic_1 rfl ?_
        refine mx_goto (tgt := 75) dX8_port_121 rfl ?_
        exact mx_weak (al' := [some (rv a0), some (iv x1), some (iv x2), some (iv x3), some (iv x4), none, some (iv (x6 + (0 : Int32))), some (iv (x7 + (1 : Int32)))]) ⟨rfl, ⟨rfl, ⟨rfl, ⟨rfl, ⟨rfl, ⟨rfl, ⟨rfl, trivial⟩⟩⟩⟩⟩⟩⟩ H
      · have H := H.2 c4
        refine mx_aload_n dX8_port_97 rfl rfl ?_
        refine mx_get 8 31 (ref := "PrairiePoolModel") cl_8 (Nat.le_of_ble_eq_true rfl) (Or.inl q1658) (Or.inl rfl) dX8_port_98 (fv_8_31 _ _) (ly8_k La0_h) ?_
        refine mx_tr (ly8_R_0_31 La0_h) ?_
        refine mx_iload_n dX8_port_101 rfl rfl ?_
        refine mx_iload_n dX8_port_102 rfl rfl ?_
        refine mx_iload_n dX8_port_103 rfl rfl ?_
        refine mx_callS (y' := mi_X8_binAt) (vs := [iv x1, iv x2, iv x3]) (st := [rv (a0 + 24), iv x6]) (al' := [some (iv x1), some (iv x2), some (iv x3)]) S_X8_binAt q2131 dX8_port_104 rfl rfl (Nat.le_of_ble_eq_true rfl) (Nat.le_of_ble_eq_true rfl) ?_
        refine mx_bipush dX8_binAt_0 ib_20 ?_
        refine mx_bipush dX8_binAt_2 ib_6 ?_
        refine mx_iload_n dX8_binAt_4 rfl rfl ?_
        refine mx_imul dX8_binAt_5 ?_
        refine mx_iload_n dX8_binAt_6 rfl rfl ?_
        refine mx_iadd dX8_binAt_7 ?_
        refine mx_bipush dX8_binAt_8 ib_10 ?_
        refine mx_imul dX8_binAt_10 ?_
        refine mx_iload_n dX8_binAt_11 rfl rfl ?_
        refine mx_iadd dX8_binAt_12 ?_
        refine mx_imul dX8_binAt_13 ?_
        refine mx_iretK rfl dX8_binAt_14 ?_
        refine mx_iload dX8_port_107 rfl ?_
        refine mx_iadd dX8_port_109 ?_
        obtain ⟨k5, H⟩ := H
        refine my_iald dX8_port_110 rfl (ly8_A_24 La0_h k5) ?_
        refine mx_goto (tgt := 115) dX8_port_111 rfl ?_
        refine mx_iadd dX8_port_115 ?_
        refine mx_istore (al' := [some (rv a0), some (iv x1), some (iv x2), some (iv x3), some (iv x4), none, some (iv (x6 + (ah_I h (a0 + 24) (((20 : Int32) * (((((6 : Int32) * x1) + x2) * (10 : Int32)) + x3)) + x7).toNatClampNeg))), some (iv x7)]) dX8_port_116 (Nat.le_of_ble_eq_true rfl) rfl ?_
        refine mx_iinc (al' := [some (rv a0), some (iv x1), some (iv x2), some (iv x3), some (iv x4), none, some (iv (x6 + (ah_I h (a0 + 24) (((20 : Int32) * (((((6 : Int32) * x1) + x2) * (10 : Int32)) + x3)) + x7).toNatClampNeg))), some (iv (x7 + (1 : Int32)))]) dX8_port_118 rfl ic_1 rfl ?_
        refine mx_goto (tgt := 75) dX8_port_121 rfl ?_
        exact mx_weak (al' := [some (rv a0), some (iv x1), some (iv x2), some (iv x3), some (iv x4), none, some (iv (x6 + (ah_I h (a0 + 24) (((20 : Int32) * (((((6 : Int32) * x1) + x2) * (10 : Int32)) + x3)) + x7).toNatClampNeg))), some (iv (x7 + (1 : Int32)))]) ⟨rfl, ⟨rfl, ⟨rfl, ⟨rfl, ⟨rfl, ⟨rfl, ⟨rfl, trivial⟩⟩⟩⟩⟩⟩⟩ H
theorem dX8_sum_0 : decode mi_X8_sum.2.1 0 = .ok (.aload_n 0, 1) := by decide +kernel
theorem dX8_sum_1 : decode mi_X8_sum.2.1 1 = .ok (.iconst 0, 1) := by decide +kernel
theorem dX8_sum_2 : decode mi_X8_sum.2.1 2 = .ok (.putfield 257, 3) := by decide +kernel
theorem dX8_sum_5 : decode mi_X8_sum.2.1 5 = .ok (.aload_n 0, 1) := by decide +kernel
theorem dX8_sum_6 : decode mi_X8_sum.2.1 6 = .ok (.iconst 0, 1) := by decide +kernel
theorem dX8_sum_7 : decode mi_X8_sum.2.1 7 = .ok (.putfield 260, 3) := by decide +kernel
theorem dX8_sum_10 : decode mi_X8_sum.2.1 10 = .ok (.aload_n 0, 1) := by decide +kernel
theorem dX8_sum_11 : decode mi_X8_sum.2.1 11 = .ok (.iload_n 1, 1) := by decide +kernel
theorem dX8_sum_12 : decode mi_X8_sum.2.1 12 = .ok (.invokevirtual 400, 3) := by decide +kernel
theorem dX8_sum_15 : decode mi_X8_sum.2.1 15 = .ok (.ifCond .ne 9, 3) := by decide +kernel
theorem dX8_sum_18 : decode mi_X8_sum.2.1 18 = .ok (.aload_n 0, 1) := by decide +kernel
theorem dX8_sum_19 : decode mi_X8_sum.2.1 19 = .ok (.iconst 2, 1) := by decide +kernel
theorem dX8_sum_20 : decode mi_X8_sum.2.1 20 = .ok (.invokevirtual 297, 3) := by decide +kernel
theorem dX8_sum_23 : decode mi_X8_sum.2.1 23 = .ok (.ireturn, 1) := by decide +kernel
theorem dX8_sum_24 : decode mi_X8_sum.2.1 24 = .ok (.iload_n 2, 1) := by decide +kernel
theorem dX8_sum_25 : decode mi_X8_sum.2.1 25 = .ok (.i2l, 1) := by decide +kernel
theorem dX8_sum_26 : decode mi_X8_sum.2.1 26 = .ok (.lconst 0, 1) := by decide +kernel
theorem dX8_sum_27 : decode mi_X8_sum.2.1 27 = .ok (.iload_n 1, 1) := by decide +kernel
theorem dX8_sum_28 : decode mi_X8_sum.2.1 28 = .ok (.iconst (-1), 1) := by decide +kernel
theorem dX8_sum_29 : decode mi_X8_sum.2.1 29 = .ok (.if_icmp .ne 9, 3) := by decide +kernel
theorem dX8_sum_32 : decode mi_X8_sum.2.1 32 = .ok (.ldc2_w 406, 3) := by decide +kernel
theorem dX8_sum_35 : decode mi_X8_sum.2.1 35 = .ok (.goto 6, 3) := by decide +kernel
theorem dX8_sum_38 : decode mi_X8_sum.2.1 38 = .ok (.ldc2_w 408, 3) := by decide +kernel
theorem dX8_sum_41 : decode mi_X8_sum.2.1 41 = .ok (.invokestatic 265, 3) := by decide +kernel
theorem dX8_sum_44 : decode mi_X8_sum.2.1 44 = .ok (.ifCond .eq 10, 3) := by decide +kernel
theorem dX8_sum_47 : decode mi_X8_sum.2.1 47 = .ok (.iload_n 3, 1) := by decide +kernel
theorem dX8_sum_48 : decode mi_X8_sum.2.1 48 = .ok (.invokestatic 306, 3) := by decide +kernel
theorem dX8_sum_51 : decode mi_X8_sum.2.1 51 = .ok (.ifCond .ne 9, 3) := by decide +kernel
theorem dX8_sum_54 : decode mi_X8_sum.2.1 54 = .ok (.aload_n 0, 1) := by decide +kernel
theorem dX8_sum_55 : decode mi_X8_sum.2.1 55 = .ok (.iconst 5, 1) := by decide +kernel
theorem dX8_sum_56 : decode mi_X8_sum.2.1 56 = .ok (.invokevirtual 297, 3) := by decide +kernel
theorem dX8_sum_59 : decode mi_X8_sum.2.1 59 = .ok (.ireturn, 1) := by decide +kernel
theorem dX8_sum_60 : decode mi_X8_sum.2.1 60 = .ok (.aload_n 0, 1) := by decide +kernel
theorem dX8_sum_61 : decode mi_X8_sum.2.1 61 = .ok (.iload_n 3, 1) := by decide +kernel
theorem dX8_sum_62 : decode mi_X8_sum.2.1 62 = .ok (.invokevirtual 403, 3) := by decide +kernel
theorem dX8_sum_65 : decode mi_X8_sum.2.1 65 = .ok (.iload_n 2, 1) := by decide +kernel
theorem dX8_sum_66 : decode mi_X8_sum.2.1 66 = .ok (.iconst 4, 1) := by decide +kernel
theorem dX8_sum_67 : decode mi_X8_sum.2.1 67 = .ok (.if_icmp .ne 8, 3) := by decide +kernel
theorem dX8_sum_70 : decode mi_X8_sum.2.1 70 = .ok (.aload_n 0, 1) := by decide +kernel
theorem dX8_sum_71 : decode mi_X8_sum.2.1 71 = .ok (.getfield 371, 3) := by decide +kernel
theorem dX8_sum_74 : decode mi_X8_sum.2.1 74 = .ok (.ireturn, 1) := by decide +kernel
theorem dX8_sum_75 : decode mi_X8_sum.2.1 75 = .ok (.iconst 0, 1) := by decide +kernel
theorem dX8_sum_76 : decode mi_X8_sum.2.1 76 = .ok (.istore 4, 2) := by decide +kernel
theorem dX8_sum_78 : decode mi_X8_sum.2.1 78 = .ok (.iconst 0, 1) := by decide +kernel
theorem dX8_sum_79 : decode mi_X8_sum.2.1 79 = .ok (.istore 5, 2) := by decide +kernel
theorem dX8_sum_81 : decode mi_X8_sum.2.1 81 = .ok (.iload 5, 2) := by decide +kernel
theorem dX8_sum_83 : decode mi_X8_sum.2.1 83 = .ok (.bipush 20, 2) := by decide +kernel
theorem dX8_sum_85 : decode mi_X8_sum.2.1 85 = .ok (.if_icmp .ge 79, 3) := by decide +kernel
theorem dX8_sum_88 : decode mi_X8_sum.2.1 88 = .ok (.iload_n 1, 1) := by decide +kernel
theorem dX8_sum_89 : decode mi_X8_sum.2.1 89 = .ok (.iconst (-1), 1) := by decide +kernel
theorem dX8_sum_90 : decode mi_X8_sum.2.1 90 = .ok (.if_icmp .eq 12, 3) := by decide +kernel
theorem dX8_sum_93 : decode mi_X8_sum.2.1 93 = .ok (.iload_n 1, 1) := by decide +kernel
theorem dX8_sum_94 : decode mi_X8_sum.2.1 94 = .ok (.iload 5, 2) := by decide +kernel
theorem dX8_sum_96 : decode mi_X8_sum.2.1 96 = .ok (.if_icmp .eq 6, 3) := by decide +kernel
theorem dX8_sum_99 : decode mi_X8_sum.2.1 99 = .ok (.goto 59, 3) := by decide +kernel
theorem dX8_sum_102 : decode mi_X8_sum.2.1 102 = .ok (.iload 4, 2) := by decide +kernel
theorem dX8_sum_104 : decode mi_X8_sum.2.1 104 = .ok (.iload_n 2, 1) := by decide +kernel
theorem dX8_sum_105 : decode mi_X8_sum.2.1 105 = .ok (.ifCond .ne 13, 3) := by decide +kernel
theorem dX8_sum_108 : decode mi_X8_sum.2.1 108 = .ok (.aload_n 0, 1) := by decide +kernel
theorem dX8_sum_109 : decode mi_X8_sum.2.1 109 = .ok (.getfield 92, 3) := by decide +kernel
theorem dX8_sum_112 : decode mi_X8_sum.2.1 112 = .ok (.iload 5, 2) := by decide +kernel
theorem dX8_sum_114 : decode mi_X8_sum.2.1 114 = .ok (.iaload, 1) := by decide +kernel
theorem dX8_sum_115 : decode mi_X8_sum.2.1 115 = .ok (.goto 40, 3) := by decide +kernel
theorem dX8_sum_118 : decode mi_X8_sum.2.1 118 = .ok (.iload_n 2, 1) := by decide +kernel
theorem dX8_sum_119 : decode mi_X8_sum.2.1 119 = .ok (.iconst 1, 1) := by decide +kernel
theorem dX8_sum_120 : decode mi_X8_sum.2.1 120 = .ok (.if_icmp .ne 13, 3) := by decide +kernel
theorem dX8_sum_123 : decode mi_X8_sum.2.1 123 = .ok (.aload_n 0, 1) := by decide +kernel
theorem dX8_sum_124 : decode mi_X8_sum.2.1 124 = .ok (.getfield 95, 3) := by decide +kernel
theorem dX8_sum_127 : decode mi_X8_sum.2.1 127 = .ok (.iload 5, 2) := by decide +kernel
theorem dX8_sum_129 : decode mi_X8_sum.2.1 129 = .ok (.iaload, 1) := by decide +kernel
theorem dX8_sum_130 : decode mi_X8_sum.2.1 130 = .ok (.goto 25, 3) := by decide +kernel
theorem dX8_sum_133 : decode mi_X8_sum.2.1 133 = .ok (.iload_n 2, 1) := by decide +kernel
theorem dX8_sum_134 : decode mi_X8_sum.2.1 134 = .ok (.iconst 2, 1) := by decide +kernel
theorem dX8_sum_135 : decode mi_X8_sum.2.1 135 = .ok (.if_icmp .ne 13, 3) := by decide +kernel
theorem dX8_sum_138 : decode mi_X8_sum.2.1 138 = .ok (.aload_n 0, 1) := by decide +kernel
theorem dX8_sum_139 : decode mi_X8_sum.2.1 139 = .ok (.getfield 98, 3) := by decide +kernel
theorem dX8_sum_142 : decode mi_X8_sum.2.1 142 = .ok (.iload 5, 2) := by decide +kernel
theorem dX8_sum_144 : decode mi_X8_sum.2.1 144 = .ok (.iaload, 1) := by decide +kernel
theorem dX8_sum_145 : decode mi_X8_sum.2.1 145 = .ok (.goto 10, 3) := by decide +kernel
theorem dX8_sum_148 : decode mi_X8_sum.2.1 148 = .ok (.aload_n 0, 1) := by decide +kernel
theorem dX8_sum_149 : decode mi_X8_sum.2.1 149 = .ok (.getfield 101, 3) := by decide +kernel
theorem dX8_sum_152 : decode mi_X8_sum.2.1 152 = .ok (.iload 5, 2) := by decide +kernel
theorem dX8_sum_154 : decode mi_X8_sum.2.1 154 = .ok (.iaload, 1) := by decide +kernel
theorem dX8_sum_155 : decode mi_X8_sum.2.1 155 = .ok (.iadd, 1) := by decide +kernel
theorem dX8_sum_156 : decode mi_X8_sum.2.1 156 = .ok (.istore 4, 2) := by decide +kernel
theorem dX8_sum_158 : decode mi_X8_sum.2.1 158 = .ok (.iinc 5 1, 3) := by decide +kernel
theorem dX8_sum_161 : decode mi_X8_sum.2.1 161 = .ok (.goto (-80), 3) := by decide +kernel
theorem dX8_sum_164 : decode mi_X8_sum.2.1 164 = .ok (.iload 4, 2) := by decide +kernel
theorem dX8_sum_166 : decode mi_X8_sum.2.1 166 = .ok (.ireturn, 1) := by decide +kernel
theorem v_X8_sum {G : ma_G} {d : Nat} {a0 : Nat} {x1 : Int32} {x2 : Int32} {x3 : Int32} {h : ah_T} {Q : Option ma_V → ah_T → Prop} {E : Nat → ah_T → Prop} (La0_h : LY8 h a0) (H : ∀ h1 : ah_T, h1 = ah_wI h a0 1 (0 : Int32) → ah_ext h h1 → ∀ h2 : ah_T, h2 = ah_wI h1 a0 0 (0 : Int32) → ah_ext h1 h2 → (x1 = (-1 : Int32) → MX G mi_X8_sum (d + 3) 41 [some (rv a0), some (iv x1), some (iv x2), some (iv x3), none, none] [jv (4 : Int64), jv (0 : Int64), jv x2.toInt64] h2 Q E) ∧ (¬ x1 = (-1 : Int32) → (x1.toInt64 < (0 : Int64) → ∀ h5 : ah_T, h5 = ah_wI h2 a0 0 (2 : Int32) → ah_ext h2 h5 → Q (some (iv (-1 : Int32))) h5) ∧ (¬ x1.toInt64 < (0 : Int64) → (((ah_I h a0 5) - (1 : Int32)).toInt64 < x1.toInt64 → ∀ h7 : ah_T, h7 = ah_wI h2 a0 0 (2 : Int32) → ah_ext h2 h7 → Q (some (iv (-1 : Int32))) h7) ∧ (¬ ((ah_I h a0 5) - (1 : Int32)).toInt64 < x1.toInt64 → MX G mi_X8_sum (d + 3) 41 [some (rv a0), some (iv x1), some (iv x2), some (iv x3), none, none] [jv (3 : Int64), jv (0 : Int64), jv x2.toInt64] h2 Q E)))) : MX G mi_X8_sum (d + 3) 0 [some (rv a0), some (iv x1), some (iv x2), some (iv x3), none, none] [] h Q E := by
  refine mx_aload_n dX8_sum_0 rfl rfl ?_
  refine mx_iconst dX8_sum_1 ic_0 ?_
  refine mx_putI 8 1 (ref := "PrairiePoolModel") cl_8 (Nat.le_of_ble_eq_true rfl) (Or.inl q1628) (Or.inl rfl) dX8_sum_2 (Or.inl rfl) rfl (ly8_k La0_h) ?_
  refine mx_nmI  (fun h1 eh1 Xh1 Kh1 Lh1 => ?_)
  have H := H h1 eh1 Xh1
  have La0_h1 := La0_h.ext Xh1
  refine mx_aload_n dX8_sum_5 rfl rfl ?_
  refine mx_iconst dX8_sum_6 ic_0 ?_
  refine mx_putI 8 0 (ref := "PrairiePoolModel") cl_8 (Nat.le_of_ble_eq_true rfl) (Or.inl q1627) (Or.inl rfl) dX8_sum_7 (Or.inl rfl) rfl (ly8_k La0_h1) ?_
  refine mx_nmI  (fun h2 eh2 Xh2 Kh2 Lh2 => ?_)
  have H := H h2 eh2 Xh2
  have Kh2 := Kh2.trans Kh1
  have Lh2 := Lh2.trans Lh1
  have La0_h2 := La0_h1.ext Xh2
  refine mx_aload_n dX8_sum_10 rfl rfl ?_
  refine mx_iload_n dX8_sum_11 rfl rfl ?_
  refine mx_callV 8 (y' := mi_X8_isWho) (vs := [iv x1]) (st := []) (al' := [some (rv a0), some (iv x1)]) cl_8 V_X8_isWho (Or.inl q2115) dX8_sum_12 rfl rfl (Nat.le_of_ble_eq_true rfl) (Nat.le_of_ble_eq_true rfl) (ly8_k La0_h2) ?_
  refine mx_iload_n dX8_isWho_0 rfl rfl ?_
  refine mx_iconst dX8_isWho_1 ic_m1 ?_
  refine mx_icmp_eq (tgt := 13) dX8_isWho_2 rfl (fun c3 => ?_) (fun c3 => ?_)
  · have H := H.1 c3
    refine mx_iconst dX8_isWho_13 ic_1 ?_
    refine mx_goto (tgt := 18) dX8_isWho_14 rfl ?_
    refine mx_zretK rfl dX8_isWho_18 (Or.inr rfl) ?_
    refine mx_if_ne (tgt := 24) dX8_sum_15 rfl (fun _ => ?_) (fun _ => absurd ‹_› (by decide))
    refine mx_iload_n dX8_sum_24 rfl rfl ?_
    refine mx_i2l dX8_sum_25 ?_
    refine mx_lconst dX8_sum_26 lc_0 ?_
    refine mx_iload_n dX8_sum_27 rfl rfl ?_
    refine mx_iconst dX8_sum_28 ic_m1 ?_
    refine mx_icmp_ne (tgt := 38) dX8_sum_29 rfl (fun q_ => absurd c3 q_) (fun _ => ?_)
    refine mx_ldc2 q2156 dX8_sum_32 ?_
    refine mx_goto (tgt := 41) dX8_sum_35 rfl ?_
    exact mx_weak (al' := [some (rv a0), some (iv x1), some (iv x2), some (iv x3), none, none]) ⟨rfl, ⟨rfl, ⟨rfl, ⟨rfl, trivial⟩⟩⟩⟩ H
  · have H := H.2 c3
    refine mx_aload_n dX8_isWho_5 rfl rfl ?_
    refine mx_iload_n dX8_isWho_6 rfl rfl ?_
    refine mx_callV 8 (y' := mi_X8_isFarm) (vs := [iv x1]) (st := []) (al' := [some (rv a0), some (iv x1)]) cl_8 V_X8_isFarm (Or.inl q2014) dX8_isWho_7 rfl rfl (Nat.le_of_ble_eq_true rfl) (Nat.le_of_ble_eq_true rfl) (ly8_k La0_h2) ?_
    refine mx_iload_n dX8_isFarm_0 rfl rfl ?_
    refine mx_i2l dX8_isFarm_1 ?_
    refine mx_lconst dX8_isFarm_2 lc_0 ?_
    refine mx_aload_n dX8_isFarm_3 rfl rfl ?_
    refine mx_get 8 5 (ref := "PrairiePoolModel") cl_8 (Nat.le_of_ble_eq_true rfl) (Or.inl q1632) (Or.inl rfl) dX8_isFarm_4 (fv_8_5 _ _) (ly8_k La0_h2) ?_
    refine mx_ti ((ah_skIK eh2 (by decide)).trans (ah_skIK eh1 (by decide))) ?_
    refine mx_iconst dX8_isFarm_7 ic_1 ?_
    refine mx_isub dX8_isFarm_8 ?_
    refine mx_i2l dX8_isFarm_9 ?_
    refine mx_callS (y' := mi_X8_isIn) (vs := [jv x1.toInt64, jv (0 : Int64), jv ((ah_I h a0 5) - (1 : Int32)).toInt64]) (st := []) (al' := [some (jv x1.toInt64), none, some (jv (0 : Int64)), none, some (jv ((ah_I h a0 5) - (1 : Int32)).toInt64), none]) S_X8_isIn q1996 dX8_isFarm_10 rfl rfl (Nat.le_of_ble_eq_true rfl) (Nat.le_of_ble_eq_true rfl) ?_
    refine mx_lload_n dX8_isIn_0 rfl rfl ?_
    refine mx_lload_n dX8_isIn_1 rfl rfl ?_
    refine mx_lif_lt (tgt := 17) dX8_isIn_2 dX8_isIn_3 rfl (fun c4 => ?_) (fun c4 => ?_)
    · have H := H.1 c4
      refine mx_iconst dX8_isIn_17 ic_0 ?_
      refine mx_zretK rfl dX8_isIn_18 (Or.inl rfl) ?_
      refine mx_zretK rfl dX8_isFarm_13 (Or.inl rfl) ?_
      refine mx_if_eq (tgt := 17) dX8_isWho_10 rfl (fun _ => ?_) (fun _ => absurd ‹_› (by decide))
      refine mx_iconst dX8_isWho_17 ic_0 ?_
      refine mx_zretK rfl dX8_isWho_18 (Or.inl rfl) ?_
      refine mx_if_ne (tgt := 24) dX8_sum_15 rfl (fun _ => absurd ‹_› (by decide)) (fun _ => ?_)
      refine mx_aload_n dX8_sum_18 rfl rfl ?_
      refine mx_iconst dX8_sum_19 ic_2 ?_
      refine mx_callV 8 (y' := mi_X8_refuse) (vs := [iv (2 : Int32)]) (st := []) (al' := [some (rv a0), some (iv (2 : Int32))]) cl_8 V_X8_refuse (Or.inl q1999) dX8_sum_20 rfl rfl (Nat.le_of_ble_eq_true rfl) (Nat.le_of_ble_eq_true rfl) (ly8_k La0_h2) ?_
      refine mx_aload_n dX8_refuse_0 rfl rfl ?_
      refine mx_iload_n dX8_refuse_1 rfl rfl ?_
      refine mx_putI 8 0 (ref := "PrairiePoolModel") cl_8 (Nat.le_of_ble_eq_true rfl) (Or.inl q1627) (Or.inl rfl) dX8_refuse_2 (Or.inl rfl) rfl (ly8_k La0_h2) ?_
      refine mx_nmI  (fun h5 eh5 Xh5 Kh5 Lh5 => ?_)
      have H := H h5 eh5 Xh5
      have Kh5 := Kh5.trans Kh2
      have Lh5 := Lh5.trans Lh2
      have La0_h5 := La0_h2.ext Xh5
      refine mx_iconst dX8_refuse_5 ic_m1 ?_
      refine mx_iretK rfl dX8_refuse_6 ?_
      exact mx_iret rfl dX8_sum_23 H
    · have H := H.2 c4
      refine mx_lload_n dX8_isIn_6 rfl rfl ?_
      refine mx_lload dX8_isIn_7 rfl ?_
      refine mx_lif_gt (tgt := 17) dX8_isIn_9 dX8_isIn_10 rfl (fun c6 => ?_) (fun c6 => ?_)
      · have H := H.1 c6
        refine mx_iconst dX8_isIn_17 ic_0 ?_
        refine mx_zretK rfl dX8_isIn_18 (Or.inl rfl) ?_
        refine mx_zretK rfl dX8_isFarm_13 (Or.inl rfl) ?_
        refine mx_if_eq (tgt := 17) dX8_isWho_10 rfl (fun _ => ?_) (fun _ => absurd ‹_› (by decide))
        refine mx_iconst dX8_isWho_17 ic_0 ?_
        refine mx_zretK rfl dX8_isWho_18 (Or.inl rfl) ?_
        refine mx_if_ne (tgt := 24) dX8_sum_15 rfl (fun _ => absurd ‹_› (by decide)) (fun _ => ?_)
        refine mx_aload_n dX8_sum_18 rfl rfl ?_
        refine mx_iconst dX8_sum_19 ic_2 ?_
        refine mx_callV 8 (y' := mi_X8_refuse) (vs := [iv (2 : Int32)]) (st := []) (al' := [some (rv a0), some (iv (2 : Int32))]) cl_8 V_X8_refuse (Or.inl q1999) dX8_sum_20 rfl rfl (Nat.le_of_ble_eq_true rfl) (Nat.le_of_ble_eq_true rfl) (ly8_k La0_h2) ?_
        refine mx_aload_n dX8_refuse_0 rfl rfl ?_
        refine mx_iload_n dX8_refuse_1 rfl rfl ?_
        refine mx_putI 8 0 (ref := "PrairiePoolModel") cl_8 (Nat.le_of_ble_eq_true rfl) (Or.inl q1627) (Or.inl rfl) dX8_refuse_2 (Or.inl rfl) rfl (ly8_k La0_h2) ?_
        refine mx_nmI  (fun h7 eh7 Xh7 Kh7 Lh7 => ?_)
        have H := H h7 eh7 Xh7
        have Kh7 := Kh7.trans Kh2
        have Lh7 := Lh7.trans Lh2
        have La0_h7 := La0_h2.ext Xh7
        refine mx_iconst dX8_refuse_5 ic_m1 ?_
        refine mx_iretK rfl dX8_refuse_6 ?_
        exact mx_iret rfl dX8_sum_23 H
      · have H := H.2 c6
        refine mx_iconst dX8_isIn_13 ic_1 ?_
        refine mx_goto (tgt := 18) dX8_isIn_14 rfl ?_
        refine mx_zretK rfl dX8_isIn_18 (Or.inr rfl) ?_
        refine mx_zretK rfl dX8_isFarm_13 (Or.inr rfl) ?_
        refine mx_if_eq (tgt := 17) dX8_isWho_10 rfl (fun _ => absurd ‹_› (by decide)) (fun _ => ?_)
        refine mx_iconst dX8_isWho_13 ic_1 ?_
        refine mx_goto (tgt := 18) dX8_isWho_14 rfl ?_
        refine mx_zretK rfl dX8_isWho_18 (Or.inr rfl) ?_
        refine mx_if_ne (tgt := 24) dX8_sum_15 rfl (fun _ => ?_) (fun _ => absurd ‹_› (by decide))
        refine mx_iload_n dX8_sum_24 rfl rfl ?_
        refine mx_i2l dX8_sum_25 ?_
        refine mx_lconst dX8_sum_26 lc_0 ?_
        refine mx_iload_n dX8_sum_27 rfl rfl ?_
        refine mx_iconst dX8_sum_28 ic_m1 ?_
        refine mx_icmp_ne (tgt := 38) dX8_sum_29 rfl (fun _ => ?_) (fun q_ => absurd q_ c3)
        refine mx_ldc2 q2157 dX8_sum_38 ?_
        exact mx_weak (al' := [some (rv a0), some (iv x1), some (iv x2), some (iv x3), none, none]) ⟨rfl, ⟨rfl, ⟨rfl, ⟨rfl, trivial⟩⟩⟩⟩ H
theorem v_X8_sum_41 {G : ma_G} {d : Nat} {a0 : Nat} {x1 : Int32} {x2 : Int32} {x3 : Int32} {z0 : Int64} {z2 : Int64} {h : ah_T} {Q : Option ma_V → ah_T → Prop} {E : Nat → ah_T → Prop} (La0_h : LY8 h a0) (H : (z2 < (0 : Int64) → ∀ h2 : ah_T, h2 = ah_wI h a0 0 (5 : Int32) → ah_ext h h2 → Q (some (iv (-1 : Int32))) h2) ∧ (¬ z2 < (0 : Int64) → (z0 < z2 → ∀ h4 : ah_T, h4 = ah_wI h a0 0 (5 : Int32) → ah_ext h h4 → Q (some (iv (-1 : Int32))) h4) ∧ (¬ z0 < z2 → (x3.toInt64 < (0 : Int64) → ∀ h6 : ah_T, h6 = ah_wI h a0 0 (5 : Int32) → ah_ext h h6 → Q (some (iv (-1 : Int32))) h6) ∧ (¬ x3.toInt64 < (0 : Int64) → ((519 : Int64) < x3.toInt64 → ∀ h8 : ah_T, h8 = ah_wI h a0 0 (5 : Int32) → ah_ext h h8 → Q (some (iv (-1 : Int32))) h8) ∧ (¬ (519 : Int64) < x3.toInt64 → MX G mi_X8_play (d + 2) 0 [some (rv a0), some (iv x3), none] [] h (Qv fun h9 => ah_ext h h9 → (¬ x2 = (4 : Int32) → MX G mi_X8_sum (d + 3) 81 [some (rv a0), some (iv x1), some (iv x2), none, some (iv (0 : Int32)), some (iv (0 : Int32))] [] h9 Q E) ∧ (x2 = (4 : Int32) → Q (some (iv (ah_I h9 a0 39))) h9)) E))))) : MX G mi_X8_sum (d + 3) 41 [some (rv a0), some (iv x1), some (iv x2), some (iv x3), none, none] [jv z0, jv (0 : Int64), jv z2] h Q E := by
  refine mx_callS (y' := mi_X8_isIn) (vs := [jv z2, jv (0 : Int64), jv z0]) (st := []) (al' := [some (jv z2), none, some (jv (0 : Int64)), none, some (jv z0), none]) S_X8_isIn q1996 dX8_sum_41 rfl rfl (Nat.le_of_ble_eq_true rfl) (Nat.le_of_ble_eq_true rfl) ?_
  refine mx_lload_n dX8_isIn_0 rfl rfl ?_
  refine mx_lload_n dX8_isIn_1 rfl rfl ?_
  refine mx_lif_lt (tgt := 17) dX8_isIn_2 dX8_isIn_3 rfl (fun c1 => ?_) (fun c1 => ?_)
  · have H := H.1 c1
    refine mx_iconst dX8_isIn_17 ic_0 ?_
    refine mx_zretK rfl dX8_isIn_18 (Or.inl rfl) ?_
    refine mx_if_eq (tgt := 54) dX8_sum_44 rfl (fun _ => ?_) (fun _ => absurd ‹_› (by decide))
    refine mx_aload_n dX8_sum_54 rfl rfl ?_
    refine mx_iconst dX8_sum_55 ic_5 ?_
    refine mx_callV 8 (y' := mi_X8_refuse) (vs := [iv (5 : Int32)]) (st := []) (al' := [some (rv a0), some (iv (5 : Int32))]) cl_8 V_X8_refuse (Or.inl q1999) dX8_sum_56 rfl rfl (Nat.le_of_ble_eq_true rfl) (Nat.le_of_ble_eq_true rfl) (ly8_k La0_h) ?_
    refine mx_aload_n dX8_refuse_0 rfl rfl ?_
    refine mx_iload_n dX8_refuse_1 rfl rfl ?_
    refine mx_putI 8 0 (ref := "PrairiePoolModel") cl_8 (Nat.le_of_ble_eq_true rfl) (Or.inl q1627) (Or.inl rfl) dX8_refuse_2 (Or.inl rfl) rfl (ly8_k La0_h) ?_
    refine mx_nmI  (fun h2 eh2 Xh2 Kh2 Lh2 => ?_)
    have H := H h2 eh2 Xh2
    have La0_h2 := La0_h.ext Xh2
    refine mx_iconst dX8_refuse_5 ic_m1 ?_
    refine mx_iretK rfl dX8_refuse_6 ?_
    exact mx_iret rfl dX8_sum_59 H
  · have H := H.2 c1
    refine mx_lload_n dX8_isIn_6 rfl rfl ?_
    refine mx_lload dX8_isIn_7 rfl ?_
    refine mx_lif_gt (tgt := 17) dX8_isIn_9 dX8_isIn_10 rfl (fun c3 => ?_) (fun c3 => ?_)
    · have H := H.1 c3
      refine mx_iconst dX8_isIn_17 ic_0 ?_
      refine mx_zretK rfl dX8_isIn_18 (Or.inl rfl) ?_
      refine mx_if_eq (tgt := 54) dX8_sum_44 rfl (fun _ => ?_) (fun _ => absurd ‹_› (by decide))
      refine mx_aload_n dX8_sum_54 rfl rfl ?_
      refine mx_iconst dX8_sum_55 ic_5 ?_
      refine mx_callV 8 (y' := mi_X8_refuse) (vs := [iv (5 : Int32)]) (st := []) (al' := [some (rv a0), some (iv (5 : Int32))]) cl_8 V_X8_refuse (Or.inl q1999) dX8_sum_56 rfl rfl (Nat.le_of_ble_eq_true rfl) (Nat.le_of_ble_eq_true rfl) (ly8_k La0_h) ?_
      refine mx_aload_n dX8_refuse_0 rfl rfl ?_
      refine mx_iload_n dX8_refuse_1 rfl rfl ?_
      refine mx_putI 8 0 (ref := "PrairiePoolModel") cl_8 (Nat.le_of_ble_eq_true rfl) (Or.inl q1627) (Or.inl rfl) dX8_refuse_2 (Or.inl rfl) rfl (ly8_k La0_h) ?_
      refine mx_nmI  (fun h4 eh4 Xh4 Kh4 Lh4 => ?_)
      have H := H h4 eh4 Xh4
      have La0_h4 := La0_h.ext Xh4
      refine mx_iconst dX8_refuse_5 ic_m1 ?_
      refine mx_iretK rfl dX8_refuse_6 ?_
      exact mx_iret rfl dX8_sum_59 H
    · have H := H.2 c3
      refine mx_iconst dX8_isIn_13 ic_1 ?_
      refine mx_goto (tgt := 18) dX8_isIn_14 rfl ?_
      refine mx_zretK rfl dX8_isIn_18 (Or.inr rfl) ?_
      refine mx_if_eq (tgt := 54) dX8_sum_44 rfl (fun _ => absurd ‹_› (by decide)) (fun _ => ?_)
      refine mx_iload_n dX8_sum_47 rfl rfl ?_
      refine mx_callS (y' := mi_X8_isDay) (vs := [iv x3]) (st := []) (al' := [some (iv x3)]) S_X8_isDay q2028 dX8_sum_48 rfl rfl (Nat.le_of_ble_eq_true rfl) (Nat.le_of_ble_eq_true rfl) ?_
      refine mx_iload_n dX8_isDay_0 rfl rfl ?_
      refine mx_i2l dX8_isDay_1 ?_
      refine mx_lconst dX8_isDay_2 lc_0 ?_
      refine mx_ldc2 q2031 dX8_isDay_3 ?_
      refine mx_callS (y' := mi_X8_isIn) (vs := [jv x3.toInt64, jv (0 : Int64), jv (519 : Int64)]) (st := []) (al' := [some (jv x3.toInt64), none, some (jv (0 : Int64)), none, some (jv (519 : Int64)), none]) S_X8_isIn q1996 dX8_isDay_6 rfl rfl (Nat.le_of_ble_eq_true rfl) (Nat.le_of_ble_eq_true rfl) ?_
      refine mx_lload_n dX8_isIn_0 rfl rfl ?_
      refine mx_lload_n dX8_isIn_1 rfl rfl ?_
      refine mx_lif_lt (tgt := 17) dX8_isIn_2 dX8_isIn_3 rfl (fun c5 => ?_) (fun c5 => ?_)
      · have H := H.1 c5
        refine mx_iconst dX8_isIn_17 ic_0 ?_
        refine mx_zretK rfl dX8_isIn_18 (Or.inl rfl) ?_
        refine mx_zretK rfl dX8_isDay_9 (Or.inl rfl) ?_
        refine mx_if_ne (tgt := 60) dX8_sum_51 rfl (fun _ => absurd ‹_› (by decide)) (fun _ => ?_)
        refine mx_aload_n dX8_sum_54 rfl rfl ?_
        refine mx_iconst dX8_sum_55 ic_5 ?_
        refine mx_callV 8 (y' := mi_X8_refuse) (vs := [iv (5 : Int32)]) (st := []) (al' := [some (rv a0), some (iv (5 : Int32))]) cl_8 V_X8_refuse (Or.inl q1999) dX8_sum_56 rfl rfl (Nat.le_of_ble_eq_true rfl) (Nat.le_of_ble_eq_true rfl) (ly8_k La0_h) ?_
        refine mx_aload_n dX8_refuse_0 rfl rfl ?_
        refine mx_iload_n dX8_refuse_1 rfl rfl ?_
        refine mx_putI 8 0 (ref := "PrairiePoolModel") cl_8 (Nat.le_of_ble_eq_true rfl) (Or.inl q1627) (Or.inl rfl) dX8_refuse_2 (Or.inl rfl) rfl (ly8_k La0_h) ?_
        refine mx_nmI  (fun h6 eh6 Xh6 Kh6 Lh6 => ?_)
        have H := H h6 eh6 Xh6
        have La0_h6 := La0_h.ext Xh6
        refine mx_iconst dX8_refuse_5 ic_m1 ?_
        refine mx_iretK rfl dX8_refuse_6 ?_
        exact mx_iret rfl dX8_sum_59 H
      · have H := H.2 c5
        refine mx_lload_n dX8_isIn_6 rfl rfl ?_
        refine mx_lload dX8_isIn_7 rfl ?_
        refine mx_lif_gt (tgt := 17) dX8_isIn_9 dX8_isIn_10 rfl (fun c7 => ?_) (fun c7 => ?_)
        · have H := H.1 c7
          refine mx_iconst dX8_isIn_17 ic_0 ?_
          refine mx_zretK rfl dX8_isIn_18 (Or.inl rfl) ?_
          refine mx_zretK rfl dX8_isDay_9 (Or.inl rfl) ?_
          refine mx_if_ne (tgt := 60) dX8_sum_51 rfl (fun _ => absurd ‹_› (by decide)) (fun _ => ?_)
          refine mx_aload_n dX8_sum_54 rfl rfl ?_
          refine mx_iconst dX8_sum_55 ic_5 ?_
          refine mx_callV 8 (y' := mi_X8_refuse) (vs := [iv (5 : Int32)]) (st := []) (al' := [some (rv a0), some (iv (5 : Int32))]) cl_8 V_X8_refuse (Or.inl q1999) dX8_sum_56 rfl rfl (Nat.le_of_ble_eq_true rfl) (Nat.le_of_ble_eq_true rfl) (ly8_k La0_h) ?_
          refine mx_aload_n dX8_refuse_0 rfl rfl ?_
          refine mx_iload_n dX8_refuse_1 rfl rfl ?_
          refine mx_putI 8 0 (ref := "PrairiePoolModel") cl_8 (Nat.le_of_ble_eq_true rfl) (Or.inl q1627) (Or.inl rfl) dX8_refuse_2 (Or.inl rfl) rfl (ly8_k La0_h) ?_
          refine mx_nmI  (fun h8 eh8 Xh8 Kh8 Lh8 => ?_)
          have H := H h8 eh8 Xh8
          have La0_h8 := La0_h.ext Xh8
          refine mx_iconst dX8_refuse_5 ic_m1 ?_
          refine mx_iretK rfl dX8_refuse_6 ?_
          exact mx_iret rfl dX8_sum_59 H
        · have H := H.2 c7
          refine mx_iconst dX8_isIn_13 ic_1 ?_
          refine mx_goto (tgt := 18) dX8_isIn_14 rfl ?_
          refine mx_zretK rfl dX8_isIn_18 (Or.inr rfl) ?_
          refine mx_zretK rfl dX8_isDay_9 (Or.inr rfl) ?_
          refine mx_if_ne (tgt := 60) dX8_sum_51 rfl (fun _ => ?_) (fun _ => absurd ‹_› (by decide))
          refine mx_aload_n dX8_sum_60 rfl rfl ?_
          refine mx_iload_n dX8_sum_61 rfl rfl ?_
          refine mx_callV 8 (y' := mi_X8_play) (vs := [iv x3]) (st := []) (al' := [some (rv a0), some (iv x3), none]) cl_8 V_X8_play (Or.inl q2119) dX8_sum_62 rfl rfl (Nat.le_of_ble_eq_true rfl) (Nat.le_of_ble_eq_true rfl) (ly8_k La0_h) ?_
          refine ma_kv H (fun h9 Xh9 H => ?_) (fun x1 h1 X1 H => mt_out rfl H)
          have H := H Xh9
          have La0_h9 := La0_h.ext Xh9
          refine mx_iload_n dX8_sum_65 rfl rfl ?_
          refine mx_iconst dX8_sum_66 ic_4 ?_
          refine mx_icmp_ne (tgt := 75) dX8_sum_67 rfl (fun c11 => ?_) (fun c11 => ?_)
          · have H := H.1 c11
            refine mx_iconst dX8_sum_75 ic_0 ?_
            refine mx_istore (al' := [some (rv a0), some (iv x1), some (iv x2), some (iv x3), some (iv (0 : Int32)), none]) dX8_sum_76 (Nat.le_of_ble_eq_true rfl) rfl ?_
            refine mx_iconst dX8_sum_78 ic_0 ?_
            refine mx_istore (al' := [some (rv a0), some (iv x1), some (iv x2), some (iv x3), some (iv (0 : Int32)), some (iv (0 : Int32))]) dX8_sum_79 (Nat.le_of_ble_eq_true rfl) rfl ?_
            exact mx_weak (al' := [some (rv a0), some (iv x1), some (iv x2), none, some (iv (0 : Int32)), some (iv (0 : Int32))]) ⟨rfl, ⟨rfl, ⟨rfl, ⟨rfl, ⟨rfl, trivial⟩⟩⟩⟩⟩ H
          · have H := H.2 c11
            refine mx_aload_n dX8_sum_70 rfl rfl ?_
            refine mx_get 8 39 (ref := "PrairiePoolModel") cl_8 (Nat.le_of_ble_eq_true rfl) (Or.inl q1666) (Or.inl rfl) dX8_sum_71 (fv_8_39 _ _) (ly8_k La0_h9) ?_
            exact mx_iret rfl dX8_sum_74 H
theorem v_X8_sum_81 {G : ma_G} {d : Nat} {a0 : Nat} {x1 : Int32} {x2 : Int32} {x4 : Int32} {x5 : Int32} {h : ah_T} {Q : Option ma_V → ah_T → Prop} {E : Nat → ah_T → Prop} (La0_h : LY8 h a0) (H : ((20 : Int32) ≤ x5 → Q (some (iv x4)) h) ∧ (¬ (20 : Int32) ≤ x5 → (x1 = (-1 : Int32) → MX G mi_X8_sum (d + 3) 102 [some (rv a0), some (iv x1), some (iv x2), none, some (iv x4), some (iv x5)] [] h Q E) ∧ (¬ x1 = (-1 : Int32) → (x1 = x5 → MX G mi_X8_sum (d + 3) 102 [some (rv a0), some (iv x1), some (iv x2), none, some (iv x4), some (iv x5)] [] h Q E) ∧ (¬ x1 = x5 → MX G mi_X8_sum (d + 3) 81 [some (rv a0), some (iv x1), some (iv x2), none, some (iv x4), some (iv (x5 + (1 : Int32)))] [] h Q E)))) : MX G mi_X8_sum (d + 3) 81 [some (rv a0), some (iv x1), some (iv x2), none, some (iv x4), some (iv x5)] [] h Q E := by
  refine mx_iload dX8_sum_81 rfl ?_
  refine mx_bipush dX8_sum_83 ib_20 ?_
  refine mx_icmp_ge (tgt := 164) dX8_sum_85 rfl (fun c1 => ?_) (fun c1 => ?_)
  · have H := H.1 c1
    refine mx_iload dX8_sum_164 rfl ?_
    exact mx_iret rfl dX8_sum_166 H
  · have H := H.2 c1
    refine mx_iload_n dX8_sum_88 rfl rfl ?_
    refine mx_iconst dX8_sum_89 ic_m1 ?_
    refine mx_icmp_eq (tgt := 102) dX8_sum_90 rfl (fun c2 => ?_) (fun c2 => ?_)
    · have H := H.1 c2
      exact mx_weak (al' := [some (rv a0), some (iv x1), some (iv x2), none, some (iv x4), some (iv x5)]) ⟨rfl, ⟨rfl, ⟨rfl, ⟨rfl, ⟨rfl, trivial⟩⟩⟩⟩⟩ H
    · have H := H.2 c2
      refine mx_iload_n dX8_sum_93 rfl rfl ?_
      refine mx_iload dX8_sum_94 rfl ?_
      refine mx_icmp_eq (tgt := 102) dX8_sum_96 rfl (fun c3 => ?_) (fun c3 => ?_)
      · have H := H.1 c3
        exact mx_weak (al' := [some (rv a0), some (iv x1), some (iv x2), none, some (iv x4), some (iv x5)]) ⟨rfl, ⟨rfl, ⟨rfl, ⟨rfl, ⟨rfl, trivial⟩⟩⟩⟩⟩ H
      · have H := H.2 c3
        refine mx_goto (tgt := 158) dX8_sum_99 rfl ?_
        refine mx_iinc (al' := [some (rv a0), some (iv x1), some (iv x2), none, some (iv x4), some (iv (x5 + (1 : Int32)))]) dX8_sum_158 rfl ic_1 rfl ?_
        refine mx_goto (tgt := 81) dX8_sum_161 rfl ?_
        exact mx_weak (al' := [some (rv a0), some (iv x1), some (iv x2), none, some (iv x4), some (iv (x5 + (1 : Int32)))]) ⟨rfl, ⟨rfl, ⟨rfl, ⟨rfl, ⟨rfl, trivial⟩⟩⟩⟩⟩ H
theorem v_X8_sum_102 {G : ma_G} {d : Nat} {a0 : Nat} {x1 : Int32} {x2 : Int32} {x4 : Int32} {x5 : Int32} {h : ah_T} {Q : Option ma_V → ah_T → Prop} {E : Nat → ah_T → Prop} (La0_h : LY8 h a0) (H : (¬ x2 = 0 → (¬ x2 = (1 : Int32) → (¬ x2 = (2 : Int32) → vp_in x5 20 ∧ MX G mi_X8_sum (d + 3) 81 [some (rv a0), some (iv x1), some (iv x2), none, some (iv (x4 + (ah_I h (a0 + 31) x5.toNatClampNeg))), some (iv (x5 + (1 : Int32)))] [] h Q E) ∧ (x2 = (2 : Int32) → vp_in x5 20 ∧ MX G mi_X8_sum (d + 3) 81 [some (rv a0), some (iv x1), some (iv x2), none, some (iv (x4 + (ah_I h (a0 + 30) x5.toNatClampNeg))), some (iv (x5 + (1 : Int32)))] [] h Q E)) ∧ (x2 = (1 : Int32) → vp_in x5 20 ∧ MX G mi_X8_sum (d + 3) 81 [some (rv a0), some (iv x1), some (iv x2), none, some (iv (x4 + (ah_I h (a0 + 29) x5.toNatClampNeg))), some (iv (x5 + (1 : Int32)))] [] h Q E)) ∧ (x2 = 0 → vp_in x5 20 ∧ MX G mi_X8_sum (d + 3) 81 [some (rv a0), some (iv x1), some (iv x2), none, some (iv (x4 + (ah_I h (a0 + 28) x5.toNatClampNeg))), some (iv (x5 + (1 : Int32)))] [] h Q E)) : MX G mi_X8_sum (d + 3) 102 [some (rv a0), some (iv x1), some (iv x2), none, some (iv x4), some (iv x5)] [] h Q E := by
  refine mx_iload dX8_sum_102 rfl ?_
  refine mx_iload_n dX8_sum_104 rfl rfl ?_
  refine mx_if_ne (tgt := 118) dX8_sum_105 rfl (fun c1 => ?_) (fun c1 => ?_)
  · have H := H.1 c1
    refine mx_iload_n dX8_sum_118 rfl rfl ?_
    refine mx_iconst dX8_sum_119 ic_1 ?_
    refine mx_icmp_ne (tgt := 133) dX8_sum_120 rfl (fun c2 => ?_) (fun c2 => ?_)
    · have H := H.1 c2
      refine mx_iload_n dX8_sum_133 rfl rfl ?_
      refine mx_iconst dX8_sum_134 ic_2 ?_
      refine mx_icmp_ne (tgt := 148) dX8_sum_135 rfl (fun c3 => ?_) (fun c3 => ?_)
      · have H := H.1 c3
        refine mx_aload_n dX8_sum_148 rfl rfl ?_
        refine mx_get 8 38 (ref := "PrairiePoolModel") cl_8 (Nat.le_of_ble_eq_true rfl) (Or.inl q1665) (Or.inl rfl) dX8_sum_149 (fv_8_38 _ _) (ly8_k La0_h) ?_
        refine mx_tr (ly8_R_0_38 La0_h) ?_
        refine mx_iload dX8_sum_152 rfl ?_
        obtain ⟨k4, H⟩ := H
        refine my_iald dX8_sum_154 rfl (ly8_A_31 La0_h k4) ?_
        refine mx_iadd dX8_sum_155 ?_
        refine mx_istore (al' := [some (rv a0), some (iv x1), some (iv x2), none, some (iv (x4 + (ah_I h (a0 + 31) x5.toNatClampNeg))), some (iv x5)]) dX8_sum_156 (Nat.le_of_ble_eq_true rfl) rfl ?_
        refine mx_iinc (al' := [some (rv a0), some (iv x1), some (iv x2), none, some (iv (x4 + (ah_I h (a0 + 31) x5.toNatClampNeg))), some (iv (x5 + (1 : Int32)))]) dX8_sum_158 rfl ic_1 rfl ?_
        refine mx_goto (tgt := 81) dX8_sum_161 rfl ?_
        exact mx_weak (al' := [some (rv a0), some (iv x1), some (iv x2), none, some (iv (x4 + (ah_I h (a0 + 31) x5.toNatClampNeg))), some (iv (x5 + (1 : Int32)))]) ⟨rfl, ⟨rfl, ⟨rfl, ⟨rfl, ⟨rfl, trivial⟩⟩⟩⟩⟩ H
      · have H := H.2 c3
        refine mx_aload_n dX8_sum_138 rfl rfl ?_
        refine mx_get 8 37 (ref := "PrairiePoolModel") cl_8 (Nat.le_of_ble_eq_true rfl) (Or.inl q1664) (Or.inl rfl) dX8_sum_139 (fv_8_37 _ _) (ly8_k La0_h) ?_
        refine mx_tr (ly8_R_0_37 La0_h) ?_
        refine mx_iload dX8_sum_142 rfl ?_
        obtain ⟨k5, H⟩ := H
        refine my_iald dX8_sum_144 rfl (ly8_A_30 La0_h k5) ?_
        refine mx_goto (tgt := 155) dX8_sum_145 rfl ?_
        refine mx_iadd dX8_sum_155 ?_
        refine mx_istore (al' := [some (rv a0), some (iv x1), some (iv x2), none, some (iv (x4 + (ah_I h (a0 + 30) x5.toNatClampNeg))), some (iv x5)]) dX8_sum_156 (Nat.le_of_ble_eq_true rfl) rfl ?_
        refine mx_iinc (al' := [some (rv a0), some (iv x1), some (iv x2), none, some (iv (x4 + (ah_I h (a0 + 30) x5.toNatClampNeg))), some (iv (x5 + (1 : Int32)))]) dX8_sum_158 rfl ic_1 rfl ?_
        refine mx_goto (tgt := 81) dX8_sum_161 rfl ?_
        exact mx_weak (al' := [some (rv a0), some (iv x1), some (iv x2), none, some (iv (x4 + (ah_I h (a0 + 30) x5.toNatClampNeg))), some (iv (x5 + (1 : Int32)))]) ⟨rfl, ⟨rfl, ⟨rfl, ⟨rfl, ⟨rfl, trivial⟩⟩⟩⟩⟩ H
    · have H := H.2 c2
      refine mx_aload_n dX8_sum_123 rfl rfl ?_
      refine mx_get 8 36 (ref := "PrairiePoolModel") cl_8 (Nat.le_of_ble_eq_true rfl) (Or.inl q1663) (Or.inl rfl) dX8_sum_124 (fv_8_36 _ _) (ly8_k La0_h) ?_
      refine mx_tr (ly8_R_0_36 La0_h) ?_
      refine mx_iload dX8_sum_127 rfl ?_
      obtain ⟨k6, H⟩ := H
      refine my_iald dX8_sum_129 rfl (ly8_A_29 La0_h k6) ?_
      refine mx_goto (tgt := 155) dX8_sum_130 rfl ?_
      refine mx_iadd dX8_sum_155 ?_
      refine mx_istore (al' := [some (rv a0), some (iv x1), some (iv x2), none, some (iv (x4 + (ah_I h (a0 + 29) x5.toNatClampNeg))), some (iv x5)]) dX8_sum_156 (Nat.le_of_ble_eq_true rfl) rfl ?_
      refine mx_iinc (al' := [some (rv a0), some (iv x1), some (iv x2), none, some (iv (x4 + (ah_I h (a0 + 29) x5.toNatClampNeg))), some (iv (x5 + (1 : Int32)))]) dX8_sum_158 rfl ic_1 rfl ?_
      refine mx_goto (tgt := 81) dX8_sum_161 rfl ?_
      exact mx_weak (al' := [some (rv a0), some (iv x1), some (iv x2), none, some (iv (x4 + (ah_I h (a0 + 29) x5.toNatClampNeg))), some (iv (x5 + (1 : Int32)))]) ⟨rfl, ⟨rfl, ⟨rfl, ⟨rfl, ⟨rfl, trivial⟩⟩⟩⟩⟩ H
  · have H := H.2 c1
    refine mx_aload_n dX8_sum_108 rfl rfl ?_
    refine mx_get 8 35 (ref := "PrairiePoolModel") cl_8 (Nat.le_of_ble_eq_true rfl) (Or.inl q1662) (Or.inl rfl) dX8_sum_109 (fv_8_35 _ _) (ly8_k La0_h) ?_
    refine mx_tr (ly8_R_0_35 La0_h) ?_
    refine mx_iload dX8_sum_112 rfl ?_
    obtain ⟨k7, H⟩ := H
    refine my_iald dX8_sum_114 rfl (ly8_A_28 La0_h k7) ?_
    refine mx_goto (tgt := 155) dX8_sum_115 rfl ?_
    refine mx_iadd dX8_sum_155 ?_
    refine mx_istore (al' := [some (rv a0), some (iv x1), some (iv x2), none, some (iv (x4 + (ah_I h (a0 + 28) x5.toNatClampNeg))), some (iv x5)]) dX8_sum_156 (Nat.le_of_ble_eq_true rfl) rfl ?_
    refine mx_iinc (al' := [some (rv a0), some (iv x1), some (iv x2), none, some (iv (x4 + (ah_I h (a0 + 28) x5.toNatClampNeg))), some (iv (x5 + (1 : Int32)))]) dX8_sum_158 rfl ic_1 rfl ?_
    refine mx_goto (tgt := 81) dX8_sum_161 rfl ?_
    exact mx_weak (al' := [some (rv a0), some (iv x1), some (iv x2), none, some (iv (x4 + (ah_I h (a0 + 28) x5.toNatClampNeg))), some (iv (x5 + (1 : Int32)))]) ⟨rfl, ⟨rfl, ⟨rfl, ⟨rfl, ⟨rfl, trivial⟩⟩⟩⟩⟩ H
theorem dX8_feed_0 : decode mi_X8_feed.2.1 0 = .ok (.aload_n 0, 1) := by decide +kernel
theorem dX8_feed_1 : decode mi_X8_feed.2.1 1 = .ok (.iconst 0, 1) := by decide +kernel
theorem dX8_feed_2 : decode mi_X8_feed.2.1 2 = .ok (.putfield 257, 3) := by decide +kernel
theorem dX8_feed_5 : decode mi_X8_feed.2.1 5 = .ok (.aload_n 0, 1) := by decide +kernel
theorem dX8_feed_6 : decode mi_X8_feed.2.1 6 = .ok (.getfield 556, 3) := by decide +kernel
theorem dX8_feed_9 : decode mi_X8_feed.2.1 9 = .ok (.bipush 20, 2) := by decide +kernel
theorem dX8_feed_11 : decode mi_X8_feed.2.1 11 = .ok (.iadd, 1) := by decide +kernel
theorem dX8_feed_12 : decode mi_X8_feed.2.1 12 = .ok (.sipush 500, 3) := by decide +kernel
theorem dX8_feed_15 : decode mi_X8_feed.2.1 15 = .ok (.if_icmp .le 5, 3) := by decide +kernel
theorem dX8_feed_18 : decode mi_X8_feed.2.1 18 = .ok (.iconst (-1), 1) := by decide +kernel
theorem dX8_feed_19 : decode mi_X8_feed.2.1 19 = .ok (.ireturn, 1) := by decide +kernel
theorem dX8_feed_20 : decode mi_X8_feed.2.1 20 = .ok (.aload_n 0, 1) := by decide +kernel
theorem dX8_feed_21 : decode mi_X8_feed.2.1 21 = .ok (.iload_n 1, 1) := by decide +kernel
theorem dX8_feed_22 : decode mi_X8_feed.2.1 22 = .ok (.invokevirtual 559, 3) := by decide +kernel
theorem dX8_feed_25 : decode mi_X8_feed.2.1 25 = .ok (.aload_n 0, 1) := by decide +kernel
theorem dX8_feed_26 : decode mi_X8_feed.2.1 26 = .ok (.iload_n 2, 1) := by decide +kernel
theorem dX8_feed_27 : decode mi_X8_feed.2.1 27 = .ok (.invokevirtual 559, 3) := by decide +kernel
theorem dX8_feed_30 : decode mi_X8_feed.2.1 30 = .ok (.aload_n 0, 1) := by decide +kernel
theorem dX8_feed_31 : decode mi_X8_feed.2.1 31 = .ok (.iload_n 3, 1) := by decide +kernel
theorem dX8_feed_32 : decode mi_X8_feed.2.1 32 = .ok (.invokevirtual 559, 3) := by decide +kernel
theorem dX8_feed_35 : decode mi_X8_feed.2.1 35 = .ok (.aload_n 0, 1) := by decide +kernel
theorem dX8_feed_36 : decode mi_X8_feed.2.1 36 = .ok (.iload 4, 2) := by decide +kernel
theorem dX8_feed_38 : decode mi_X8_feed.2.1 38 = .ok (.invokevirtual 559, 3) := by decide +kernel
theorem dX8_feed_41 : decode mi_X8_feed.2.1 41 = .ok (.aload_n 0, 1) := by decide +kernel
theorem dX8_feed_42 : decode mi_X8_feed.2.1 42 = .ok (.iload 5, 2) := by decide +kernel
theorem dX8_feed_44 : decode mi_X8_feed.2.1 44 = .ok (.invokevirtual 559, 3) := by decide +kernel
theorem dX8_feed_47 : decode mi_X8_feed.2.1 47 = .ok (.aload_n 0, 1) := by decide +kernel
theorem dX8_feed_48 : decode mi_X8_feed.2.1 48 = .ok (.getfield 556, 3) := by decide +kernel
theorem dX8_feed_51 : decode mi_X8_feed.2.1 51 = .ok (.ireturn, 1) := by decide +kernel
theorem v_X8_feed {G : ma_G} {d : Nat} {a0 : Nat} {x1 : Int32} {x2 : Int32} {x3 : Int32} {x4 : Int32} {x5 : Int32} {h : ah_T} {Q : Option ma_V → ah_T → Prop} {E : Nat → ah_T → Prop} (La0_h : LY8 h a0) (H : ∀ h1 : ah_T, h1 = ah_wI h a0 1 (0 : Int32) → ah_ext h h1 → (((ah_I h a0 44) + (20 : Int32)) ≤ (500 : Int32) → MX G mi_X8_lay d 0 [some (rv a0), some (iv x1), none] [] h1 (Qv fun h3 => ah_ext h1 h3 → MX G mi_X8_lay d 0 [some (rv a0), some (iv x2), none] [] h3 (Qv fun h5 => ah_ext h3 h5 → MX G mi_X8_lay d 0 [some (rv a0), some (iv x3), none] [] h5 (Qv fun h7 => ah_ext h5 h7 → MX G mi_X8_lay d 0 [some (rv a0), some (iv x4), none] [] h7 (Qv fun h9 => ah_ext h7 h9 → MX G mi_X8_lay d 0 [some (rv a0), some (iv x5), none] [] h9 (Qv fun h11 => ah_ext h9 h11 → Q (some (iv (ah_I h11 a0 44))) h11) E) E) E) E) E) ∧ (¬ ((ah_I h a0 44) + (20 : Int32)) ≤ (500 : Int32) → Q (some (iv (-1 : Int32))) h1)) : MX G mi_X8_feed (d + 1) 0 [some (rv a0), some (iv x1), some (iv x2), some (iv x3), some (iv x4), some (iv x5)] [] h Q E := by
  refine mx_aload_n dX8_feed_0 rfl rfl ?_
  refine mx_iconst dX8_feed_1 ic_0 ?_
  refine mx_putI 8 1 (ref := "PrairiePoolModel") cl_8 (Nat.le_of_ble_eq_true rfl) (Or.inl q1628) (Or.inl rfl) dX8_feed_2 (Or.inl rfl) rfl (ly8_k La0_h) ?_
  refine mx_nmI  (fun h1 eh1 Xh1 Kh1 Lh1 => ?_)
  have H := H h1 eh1 Xh1
  have La0_h1 := La0_h.ext Xh1
  refine mx_aload_n dX8_feed_5 rfl rfl ?_
  refine mx_get 8 44 (ref := "PrairiePoolModel") cl_8 (Nat.le_of_ble_eq_true rfl) (Or.inl q1671) (Or.inl rfl) dX8_feed_6 (fv_8_44 _ _) (ly8_k La0_h1) ?_
  refine mx_ti (ah_skIK eh1 (by decide)) ?_
  refine mx_bipush dX8_feed_9 ib_20 ?_
  refine mx_iadd dX8_feed_11 ?_
  refine mx_sipush dX8_feed_12 is_500 ?_
  refine mx_icmp_le (tgt := 20) dX8_feed_15 rfl (fun c2 => ?_) (fun c2 => ?_)
  · have H := H.1 c2
    refine mx_aload_n dX8_feed_20 rfl rfl ?_
    refine mx_iload_n dX8_feed_21 rfl rfl ?_
    refine mx_callV 8 (y' := mi_X8_lay) (vs := [iv x1]) (st := []) (al' := [some (rv a0), some (iv x1), none]) cl_8 V_X8_lay (Or.inl q2162) dX8_feed_22 rfl rfl (Nat.le_of_ble_eq_true rfl) (Nat.le_of_ble_eq_true rfl) (ly8_k La0_h1) ?_
    refine ma_kv H (fun h3 Xh3 H => ?_) (fun x1 h1 X1 H => mt_out rfl H)
    have H := H Xh3
    have La0_h3 := La0_h1.ext Xh3
    refine mx_aload_n dX8_feed_25 rfl rfl ?_
    refine mx_iload_n dX8_feed_26 rfl rfl ?_
    refine mx_callV 8 (y' := mi_X8_lay) (vs := [iv x2]) (st := []) (al' := [some (rv a0), some (iv x2), none]) cl_8 V_X8_lay (Or.inl q2162) dX8_feed_27 rfl rfl (Nat.le_of_ble_eq_true rfl) (Nat.le_of_ble_eq_true rfl) (ly8_k La0_h3) ?_
    refine ma_kv H (fun h5 Xh5 H => ?_) (fun x1 h1 X1 H => mt_out rfl H)
    have H := H Xh5
    have La0_h5 := La0_h3.ext Xh5
    refine mx_aload_n dX8_feed_30 rfl rfl ?_
    refine mx_iload_n dX8_feed_31 rfl rfl ?_
    refine mx_callV 8 (y' := mi_X8_lay) (vs := [iv x3]) (st := []) (al' := [some (rv a0), some (iv x3), none]) cl_8 V_X8_lay (Or.inl q2162) dX8_feed_32 rfl rfl (Nat.le_of_ble_eq_true rfl) (Nat.le_of_ble_eq_true rfl) (ly8_k La0_h5) ?_
    refine ma_kv H (fun h7 Xh7 H => ?_) (fun x1 h1 X1 H => mt_out rfl H)
    have H := H Xh7
    have La0_h7 := La0_h5.ext Xh7
    refine mx_aload_n dX8_feed_35 rfl rfl ?_
    refine mx_iload dX8_feed_36 rfl ?_
    refine mx_callV 8 (y' := mi_X8_lay) (vs := [iv x4]) (st := []) (al' := [some (rv a0), some (iv x4), none]) cl_8 V_X8_lay (Or.inl q2162) dX8_feed_38 rfl rfl (Nat.le_of_ble_eq_true rfl) (Nat.le_of_ble_eq_true rfl) (ly8_k La0_h7) ?_
    refine ma_kv H (fun h9 Xh9 H => ?_) (fun x1 h1 X1 H => mt_out rfl H)
    have H := H Xh9
    have La0_h9 := La0_h7.ext Xh9
    refine mx_aload_n dX8_feed_41 rfl rfl ?_
    refine mx_iload dX8_feed_42 rfl ?_
    refine mx_callV 8 (y' := mi_X8_lay) (vs := [iv x5]) (st := []) (al' := [some (rv a0), some (iv x5), none]) cl_8 V_X8_lay (Or.inl q2162) dX8_feed_44 rfl rfl (Nat.le_of_ble_eq_true rfl) (Nat.le_of_ble_eq_true rfl) (ly8_k La0_h9) ?_
    refine ma_kv H (fun h11 Xh11 H => ?_) (fun x1 h1 X1 H => mt_out rfl H)
    have H := H Xh11
    have La0_h11 := La0_h9.ext Xh11
    refine mx_aload_n dX8_feed_47 rfl rfl ?_
    refine mx_get 8 44 (ref := "PrairiePoolModel") cl_8 (Nat.le_of_ble_eq_true rfl) (Or.inl q1671) (Or.inl rfl) dX8_feed_48 (fv_8_44 _ _) (ly8_k La0_h11) ?_
    exact mx_iret rfl dX8_feed_51 H
  · have H := H.2 c2
    refine mx_iconst dX8_feed_18 ic_m1 ?_
    exact mx_iret rfl dX8_feed_19 H
theorem dX8_lay_0 : decode mi_X8_lay.2.1 0 = .ok (.iconst 3, 1) := by decide +kernel
theorem dX8_lay_1 : decode mi_X8_lay.2.1 1 = .ok (.istore_n 2, 1) := by decide +kernel
theorem dX8_lay_2 : decode mi_X8_lay.2.1 2 = .ok (.iload_n 2, 1) := by decide +kernel
theorem dX8_lay_3 : decode mi_X8_lay.2.1 3 = .ok (.ifCond .lt 35, 3) := by decide +kernel
theorem dX8_lay_6 : decode mi_X8_lay.2.1 6 = .ok (.aload_n 0, 1) := by decide +kernel
theorem dX8_lay_7 : decode mi_X8_lay.2.1 7 = .ok (.getfield 113, 3) := by decide +kernel
theorem dX8_lay_10 : decode mi_X8_lay.2.1 10 = .ok (.aload_n 0, 1) := by decide +kernel
theorem dX8_lay_11 : decode mi_X8_lay.2.1 11 = .ok (.getfield 556, 3) := by decide +kernel
theorem dX8_lay_14 : decode mi_X8_lay.2.1 14 = .ok (.iload_n 1, 1) := by decide +kernel
theorem dX8_lay_15 : decode mi_X8_lay.2.1 15 = .ok (.bipush 8, 2) := by decide +kernel
theorem dX8_lay_17 : decode mi_X8_lay.2.1 17 = .ok (.iload_n 2, 1) := by decide +kernel
theorem dX8_lay_18 : decode mi_X8_lay.2.1 18 = .ok (.imul, 1) := by decide +kernel
theorem dX8_lay_19 : decode mi_X8_lay.2.1 19 = .ok (.ishr, 1) := by decide +kernel
theorem dX8_lay_20 : decode mi_X8_lay.2.1 20 = .ok (.i2b, 1) := by decide +kernel
theorem dX8_lay_21 : decode mi_X8_lay.2.1 21 = .ok (.bastore, 1) := by decide +kernel
theorem dX8_lay_22 : decode mi_X8_lay.2.1 22 = .ok (.aload_n 0, 1) := by decide +kernel
theorem dX8_lay_23 : decode mi_X8_lay.2.1 23 = .ok (.dup, 1) := by decide +kernel
theorem dX8_lay_24 : decode mi_X8_lay.2.1 24 = .ok (.getfield 556, 3) := by decide +kernel
theorem dX8_lay_27 : decode mi_X8_lay.2.1 27 = .ok (.iconst 1, 1) := by decide +kernel
theorem dX8_lay_28 : decode mi_X8_lay.2.1 28 = .ok (.iadd, 1) := by decide +kernel
theorem dX8_lay_29 : decode mi_X8_lay.2.1 29 = .ok (.putfield 556, 3) := by decide +kernel
theorem dX8_lay_32 : decode mi_X8_lay.2.1 32 = .ok (.iinc 2 (-1), 3) := by decide +kernel
theorem dX8_lay_35 : decode mi_X8_lay.2.1 35 = .ok (.goto (-33), 3) := by decide +kernel
theorem dX8_lay_38 : decode mi_X8_lay.2.1 38 = .ok (.return_, 1) := by decide +kernel
theorem v_X8_lay {G : ma_G} {d : Nat} {a0 : Nat} {x1 : Int32} {h : ah_T} {Q : Option ma_V → ah_T → Prop} {E : Nat → ah_T → Prop} (La0_h : LY8 h a0) (H : MX G mi_X8_lay d 2 [some (rv a0), some (iv x1), some (iv (3 : Int32))] [] h Q E) : MX G mi_X8_lay d 0 [some (rv a0), some (iv x1), none] [] h Q E := by
  refine mx_iconst dX8_lay_0 ic_3 ?_
  refine mx_istore_n (al' := [some (rv a0), some (iv x1), some (iv (3 : Int32))]) dX8_lay_1 rfl (Nat.le_of_ble_eq_true rfl) rfl ?_
  exact mx_weak (al' := [some (rv a0), some (iv x1), some (iv (3 : Int32))]) ⟨rfl, ⟨rfl, ⟨rfl, trivial⟩⟩⟩ H
theorem v_X8_lay_2 {G : ma_G} {d : Nat} {a0 : Nat} {x1 : Int32} {x2 : Int32} {h : ah_T} {Q : Option ma_V → ah_T → Prop} {E : Nat → ah_T → Prop} (La0_h : LY8 h a0) (H : (x2 < 0 → Q none h) ∧ (¬ x2 < 0 → vp_in (ah_I h a0 44) 500 ∧ ∀ h3 : ah_T, h3 = ah_wI h (a0 + 35) (ah_I h a0 44).toNatClampNeg (vp_nar .byte (x1 >>> (((8 : Int32) * x2) &&& 31)).toInt8.toInt32) → ah_ext h h3 → ∀ h4 : ah_T, h4 = ah_wI h3 a0 44 ((ah_I h a0 44) + (1 : Int32)) → ah_ext h3 h4 → MX G mi_X8_lay d 2 [some (rv a0), some (iv x1), some (iv (x2 + (-1 : Int32)))] [] h4 Q E)) : MX G mi_X8_lay d 2 [some (rv a0), some (iv x1), some (iv x2)] [] h Q E := by
  refine mx_iload_n dX8_lay_2 rfl rfl ?_
  refine mx_if_lt (tgt := 38) dX8_lay_3 rfl (fun c1 => ?_) (fun c1 => ?_)
  · have H := H.1 c1
    exact mx_vret rfl dX8_lay_38 H
  · have H := H.2 c1
    refine mx_aload_n dX8_lay_6 rfl rfl ?_
    refine mx_get 8 43 (ref := "PrairiePoolModel") cl_8 (Nat.le_of_ble_eq_true rfl) (Or.inl q1670) (Or.inl rfl) dX8_lay_7 (fv_8_43 _ _) (ly8_k La0_h) ?_
    refine mx_tr (ly8_R_0_43 La0_h) ?_
    refine mx_aload_n dX8_lay_10 rfl rfl ?_
    refine mx_get 8 44 (ref := "PrairiePoolModel") cl_8 (Nat.le_of_ble_eq_true rfl) (Or.inl q1671) (Or.inl rfl) dX8_lay_11 (fv_8_44 _ _) (ly8_k La0_h) ?_
    refine mx_iload_n dX8_lay_14 rfl rfl ?_
    refine mx_bipush dX8_lay_15 ib_8 ?_
    refine mx_iload_n dX8_lay_17 rfl rfl ?_
    refine mx_imul dX8_lay_18 ?_
    refine mx_ishr dX8_lay_19 ?_
    refine mx_i2b dX8_lay_20 ?_
    obtain ⟨k2, H⟩ := H
    refine my_bast dX8_lay_21 rfl (ly8_A_35 La0_h k2) ?_
    refine mx_nmI  (fun h3 eh3 Xh3 Kh3 Lh3 => ?_)
    have H := H h3 eh3 Xh3
    have La0_h3 := La0_h.ext Xh3
    refine mx_aload_n dX8_lay_22 rfl rfl ?_
    refine mx_dup_r dX8_lay_23 ?_
    refine mx_get 8 44 (ref := "PrairiePoolModel") cl_8 (Nat.le_of_ble_eq_true rfl) (Or.inl q1671) (Or.inl rfl) dX8_lay_24 (fv_8_44 _ _) (ly8_k La0_h3) ?_
    refine mx_ti (ah_skIA eh3 (by omega)) ?_
    refine mx_iconst dX8_lay_27 ic_1 ?_
    refine mx_iadd dX8_lay_28 ?_
    refine mx_putI 8 44 (ref := "PrairiePoolModel") cl_8 (Nat.le_of_ble_eq_true rfl) (Or.inl q1671) (Or.inl rfl) dX8_lay_29 (Or.inl rfl) rfl (ly8_k La0_h3) ?_
    refine mx_nmI  (fun h4 eh4 Xh4 Kh4 Lh4 => ?_)
    have H := H h4 eh4 Xh4
    have Kh4 := Kh4.trans Kh3
    have Lh4 := Lh4.trans Lh3
    have La0_h4 := La0_h3.ext Xh4
    refine mx_iinc (al' := [some (rv a0), some (iv x1), some (iv (x2 + (-1 : Int32)))]) dX8_lay_32 rfl ic_m1 rfl ?_
    refine mx_goto (tgt := 2) dX8_lay_35 rfl ?_
    exact mx_weak (al' := [some (rv a0), some (iv x1), some (iv (x2 + (-1 : Int32)))]) ⟨rfl, ⟨rfl, ⟨rfl, trivial⟩⟩⟩ H
theorem dX8_acts_0 : decode mi_X8_acts.2.1 0 = .ok (.aload_n 0, 1) := by decide +kernel
theorem dX8_acts_1 : decode mi_X8_acts.2.1 1 = .ok (.iconst 0, 1) := by decide +kernel
theorem dX8_acts_2 : decode mi_X8_acts.2.1 2 = .ok (.putfield 257, 3) := by decide +kernel
theorem dX8_acts_5 : decode mi_X8_acts.2.1 5 = .ok (.aload_n 0, 1) := by decide +kernel
theorem dX8_acts_6 : decode mi_X8_acts.2.1 6 = .ok (.iconst 0, 1) := by decide +kernel
theorem dX8_acts_7 : decode mi_X8_acts.2.1 7 = .ok (.putfield 260, 3) := by decide +kernel
theorem dX8_acts_10 : decode mi_X8_acts.2.1 10 = .ok (.iload_n 1, 1) := by decide +kernel
theorem dX8_acts_11 : decode mi_X8_acts.2.1 11 = .ok (.ifCond .lt 18, 3) := by decide +kernel
theorem dX8_acts_14 : decode mi_X8_acts.2.1 14 = .ok (.iload_n 1, 1) := by decide +kernel
theorem dX8_acts_15 : decode mi_X8_acts.2.1 15 = .ok (.aload_n 0, 1) := by decide +kernel
theorem dX8_acts_16 : decode mi_X8_acts.2.1 16 = .ok (.getfield 556, 3) := by decide +kernel
theorem dX8_acts_19 : decode mi_X8_acts.2.1 19 = .ok (.if_icmp .gt 10, 3) := by decide +kernel
theorem dX8_acts_22 : decode mi_X8_acts.2.1 22 = .ok (.iload_n 2, 1) := by decide +kernel
theorem dX8_acts_23 : decode mi_X8_acts.2.1 23 = .ok (.invokestatic 306, 3) := by decide +kernel
theorem dX8_acts_26 : decode mi_X8_acts.2.1 26 = .ok (.ifCond .ne 9, 3) := by decide +kernel
theorem dX8_acts_29 : decode mi_X8_acts.2.1 29 = .ok (.aload_n 0, 1) := by decide +kernel
theorem dX8_acts_30 : decode mi_X8_acts.2.1 30 = .ok (.iconst 5, 1) := by decide +kernel
theorem dX8_acts_31 : decode mi_X8_acts.2.1 31 = .ok (.invokevirtual 297, 3) := by decide +kernel
theorem dX8_acts_34 : decode mi_X8_acts.2.1 34 = .ok (.ireturn, 1) := by decide +kernel
theorem dX8_acts_35 : decode mi_X8_acts.2.1 35 = .ok (.aload_n 0, 1) := by decide +kernel
theorem dX8_acts_36 : decode mi_X8_acts.2.1 36 = .ok (.getfield 562, 3) := by decide +kernel
theorem dX8_acts_39 : decode mi_X8_acts.2.1 39 = .ok (.iconst 4, 1) := by decide +kernel
theorem dX8_acts_40 : decode mi_X8_acts.2.1 40 = .ok (.if_icmp .ne 10, 3) := by decide +kernel
theorem dX8_acts_43 : decode mi_X8_acts.2.1 43 = .ok (.aload_n 0, 1) := by decide +kernel
theorem dX8_acts_44 : decode mi_X8_acts.2.1 44 = .ok (.bipush 7, 2) := by decide +kernel
theorem dX8_acts_46 : decode mi_X8_acts.2.1 46 = .ok (.invokevirtual 297, 3) := by decide +kernel
theorem dX8_acts_49 : decode mi_X8_acts.2.1 49 = .ok (.ireturn, 1) := by decide +kernel
theorem dX8_acts_50 : decode mi_X8_acts.2.1 50 = .ok (.aload_n 0, 1) := by decide +kernel
theorem dX8_acts_51 : decode mi_X8_acts.2.1 51 = .ok (.iload_n 1, 1) := by decide +kernel
theorem dX8_acts_52 : decode mi_X8_acts.2.1 52 = .ok (.putfield 410, 3) := by decide +kernel
theorem dX8_acts_55 : decode mi_X8_acts.2.1 55 = .ok (.aload_n 0, 1) := by decide +kernel
theorem dX8_acts_56 : decode mi_X8_acts.2.1 56 = .ok (.iconst 0, 1) := by decide +kernel
theorem dX8_acts_57 : decode mi_X8_acts.2.1 57 = .ok (.putfield 556, 3) := by decide +kernel
theorem dX8_acts_60 : decode mi_X8_acts.2.1 60 = .ok (.aload_n 0, 1) := by decide +kernel
theorem dX8_acts_61 : decode mi_X8_acts.2.1 61 = .ok (.iconst 0, 1) := by decide +kernel
theorem dX8_acts_62 : decode mi_X8_acts.2.1 62 = .ok (.putfield 413, 3) := by decide +kernel
theorem dX8_acts_65 : decode mi_X8_acts.2.1 65 = .ok (.aload_n 0, 1) := by decide +kernel
theorem dX8_acts_66 : decode mi_X8_acts.2.1 66 = .ok (.iconst 0, 1) := by decide +kernel
theorem dX8_acts_67 : decode mi_X8_acts.2.1 67 = .ok (.putfield 453, 3) := by decide +kernel
theorem dX8_acts_70 : decode mi_X8_acts.2.1 70 = .ok (.aload_n 0, 1) := by decide +kernel
theorem dX8_acts_71 : decode mi_X8_acts.2.1 71 = .ok (.iconst 0, 1) := by decide +kernel
theorem dX8_acts_72 : decode mi_X8_acts.2.1 72 = .ok (.putfield 497, 3) := by decide +kernel
theorem dX8_acts_75 : decode mi_X8_acts.2.1 75 = .ok (.aload_n 0, 1) := by decide +kernel
theorem dX8_acts_76 : decode mi_X8_acts.2.1 76 = .ok (.iconst 0, 1) := by decide +kernel
theorem dX8_acts_77 : decode mi_X8_acts.2.1 77 = .ok (.putfield 500, 3) := by decide +kernel
theorem dX8_acts_80 : decode mi_X8_acts.2.1 80 = .ok (.aload_n 0, 1) := by decide +kernel
theorem dX8_acts_81 : decode mi_X8_acts.2.1 81 = .ok (.getfield 136, 3) := by decide +kernel
theorem dX8_acts_84 : decode mi_X8_acts.2.1 84 = .ok (.iconst 0, 1) := by decide +kernel
theorem dX8_acts_85 : decode mi_X8_acts.2.1 85 = .ok (.iconst 0, 1) := by decide +kernel
theorem dX8_acts_86 : decode mi_X8_acts.2.1 86 = .ok (.iastore, 1) := by decide +kernel
theorem dX8_acts_87 : decode mi_X8_acts.2.1 87 = .ok (.aload_n 0, 1) := by decide +kernel
theorem dX8_acts_88 : decode mi_X8_acts.2.1 88 = .ok (.invokevirtual 522, 3) := by decide +kernel
theorem dX8_acts_91 : decode mi_X8_acts.2.1 91 = .ok (.aload_n 0, 1) := by decide +kernel
theorem dX8_acts_92 : decode mi_X8_acts.2.1 92 = .ok (.getfield 453, 3) := by decide +kernel
theorem dX8_acts_95 : decode mi_X8_acts.2.1 95 = .ok (.ifCond .ne 17, 3) := by decide +kernel
theorem dX8_acts_98 : decode mi_X8_acts.2.1 98 = .ok (.aload_n 0, 1) := by decide +kernel
theorem dX8_acts_99 : decode mi_X8_acts.2.1 99 = .ok (.getfield 422, 3) := by decide +kernel
theorem dX8_acts_102 : decode mi_X8_acts.2.1 102 = .ok (.ifCond .eq 10, 3) := by decide +kernel
theorem dX8_acts_105 : decode mi_X8_acts.2.1 105 = .ok (.aload_n 0, 1) := by decide +kernel
theorem dX8_acts_106 : decode mi_X8_acts.2.1 106 = .ok (.invokevirtual 565, 3) := by decide +kernel
theorem dX8_acts_109 : decode mi_X8_acts.2.1 109 = .ok (.goto (-18), 3) := by decide +kernel
theorem dX8_acts_112 : decode mi_X8_acts.2.1 112 = .ok (.aload_n 0, 1) := by decide +kernel
theorem dX8_acts_113 : decode mi_X8_acts.2.1 113 = .ok (.aload_n 0, 1) := by decide +kernel
theorem dX8_acts_114 : decode mi_X8_acts.2.1 114 = .ok (.getfield 453, 3) := by decide +kernel
theorem dX8_acts_117 : decode mi_X8_acts.2.1 117 = .ok (.putfield 117, 3) := by decide +kernel
theorem dX8_acts_120 : decode mi_X8_acts.2.1 120 = .ok (.aload_n 0, 1) := by decide +kernel
theorem dX8_acts_121 : decode mi_X8_acts.2.1 121 = .ok (.aload_n 0, 1) := by decide +kernel
theorem dX8_acts_122 : decode mi_X8_acts.2.1 122 = .ok (.getfield 453, 3) := by decide +kernel
theorem dX8_acts_125 : decode mi_X8_acts.2.1 125 = .ok (.ifCond .ne 7, 3) := by decide +kernel
theorem dX8_acts_128 : decode mi_X8_acts.2.1 128 = .ok (.iconst (-1), 1) := by decide +kernel
theorem dX8_acts_129 : decode mi_X8_acts.2.1 129 = .ok (.goto 7, 3) := by decide +kernel
theorem dX8_acts_132 : decode mi_X8_acts.2.1 132 = .ok (.aload_n 0, 1) := by decide +kernel
theorem dX8_acts_133 : decode mi_X8_acts.2.1 133 = .ok (.getfield 456, 3) := by decide +kernel
theorem dX8_acts_136 : decode mi_X8_acts.2.1 136 = .ok (.putfield 121, 3) := by decide +kernel
theorem dX8_acts_139 : decode mi_X8_acts.2.1 139 = .ok (.aload_n 0, 1) := by decide +kernel
theorem dX8_acts_140 : decode mi_X8_acts.2.1 140 = .ok (.getfield 453, 3) := by decide +kernel
theorem dX8_acts_143 : decode mi_X8_acts.2.1 143 = .ok (.ifCond .le 10, 3) := by decide +kernel
theorem dX8_acts_146 : decode mi_X8_acts.2.1 146 = .ok (.aload_n 0, 1) := by decide +kernel
theorem dX8_acts_147 : decode mi_X8_acts.2.1 147 = .ok (.bipush 10, 2) := by decide +kernel
theorem dX8_acts_149 : decode mi_X8_acts.2.1 149 = .ok (.invokevirtual 297, 3) := by decide +kernel
theorem dX8_acts_152 : decode mi_X8_acts.2.1 152 = .ok (.ireturn, 1) := by decide +kernel
theorem dX8_acts_153 : decode mi_X8_acts.2.1 153 = .ok (.iconst 0, 1) := by decide +kernel
theorem dX8_acts_154 : decode mi_X8_acts.2.1 154 = .ok (.istore_n 3, 1) := by decide +kernel
theorem dX8_acts_155 : decode mi_X8_acts.2.1 155 = .ok (.iload_n 3, 1) := by decide +kernel
theorem dX8_acts_156 : decode mi_X8_acts.2.1 156 = .ok (.aload_n 0, 1) := by decide +kernel
theorem dX8_acts_157 : decode mi_X8_acts.2.1 157 = .ok (.getfield 500, 3) := by decide +kernel
theorem dX8_acts_160 : decode mi_X8_acts.2.1 160 = .ok (.if_icmp .ge 30, 3) := by decide +kernel
theorem dX8_acts_163 : decode mi_X8_acts.2.1 163 = .ok (.aload_n 0, 1) := by decide +kernel
theorem dX8_acts_164 : decode mi_X8_acts.2.1 164 = .ok (.getfield 133, 3) := by decide +kernel
theorem dX8_acts_167 : decode mi_X8_acts.2.1 167 = .ok (.sipush 1100, 3) := by decide +kernel
theorem dX8_acts_170 : decode mi_X8_acts.2.1 170 = .ok (.aload_n 0, 1) := by decide +kernel
theorem dX8_acts_171 : decode mi_X8_acts.2.1 171 = .ok (.getfield 562, 3) := by decide +kernel
theorem dX8_acts_174 : decode mi_X8_acts.2.1 174 = .ok (.imul, 1) := by decide +kernel
theorem dX8_acts_175 : decode mi_X8_acts.2.1 175 = .ok (.iload_n 3, 1) := by decide +kernel
theorem dX8_acts_176 : decode mi_X8_acts.2.1 176 = .ok (.iadd, 1) := by decide +kernel
theorem dX8_acts_177 : decode mi_X8_acts.2.1 177 = .ok (.aload_n 0, 1) := by decide +kernel
theorem dX8_acts_178 : decode mi_X8_acts.2.1 178 = .ok (.getfield 139, 3) := by decide +kernel
theorem dX8_acts_181 : decode mi_X8_acts.2.1 181 = .ok (.iload_n 3, 1) := by decide +kernel
theorem dX8_acts_182 : decode mi_X8_acts.2.1 182 = .ok (.iaload, 1) := by decide +kernel
theorem dX8_acts_183 : decode mi_X8_acts.2.1 183 = .ok (.iastore, 1) := by decide +kernel
theorem dX8_acts_184 : decode mi_X8_acts.2.1 184 = .ok (.iinc 3 1, 3) := by decide +kernel
theorem dX8_acts_187 : decode mi_X8_acts.2.1 187 = .ok (.goto (-32), 3) := by decide +kernel
theorem dX8_acts_190 : decode mi_X8_acts.2.1 190 = .ok (.iconst 0, 1) := by decide +kernel
theorem dX8_acts_191 : decode mi_X8_acts.2.1 191 = .ok (.istore_n 3, 1) := by decide +kernel
theorem dX8_acts_192 : decode mi_X8_acts.2.1 192 = .ok (.iload_n 3, 1) := by decide +kernel
theorem dX8_acts_193 : decode mi_X8_acts.2.1 193 = .ok (.aload_n 0, 1) := by decide +kernel
theorem dX8_acts_194 : decode mi_X8_acts.2.1 194 = .ok (.getfield 497, 3) := by decide +kernel
theorem dX8_acts_197 : decode mi_X8_acts.2.1 197 = .ok (.if_icmp .gt 29, 3) := by decide +kernel
theorem dX8_acts_200 : decode mi_X8_acts.2.1 200 = .ok (.aload_n 0, 1) := by decide +kernel
theorem dX8_acts_201 : decode mi_X8_acts.2.1 201 = .ok (.getfield 130, 3) := by decide +kernel
theorem dX8_acts_204 : decode mi_X8_acts.2.1 204 = .ok (.bipush 11, 2) := by decide +kernel
theorem dX8_acts_206 : decode mi_X8_acts.2.1 206 = .ok (.aload_n 0, 1) := by decide +kernel
theorem dX8_acts_207 : decode mi_X8_acts.2.1 207 = .ok (.getfield 562, 3) := by decide +kernel
theorem dX8_acts_210 : decode mi_X8_acts.2.1 210 = .ok (.imul, 1) := by decide +kernel
theorem dX8_acts_211 : decode mi_X8_acts.2.1 211 = .ok (.iload_n 3, 1) := by decide +kernel
theorem dX8_acts_212 : decode mi_X8_acts.2.1 212 = .ok (.iadd, 1) := by decide +kernel
theorem dX8_acts_213 : decode mi_X8_acts.2.1 213 = .ok (.aload_n 0, 1) := by decide +kernel
theorem dX8_acts_214 : decode mi_X8_acts.2.1 214 = .ok (.getfield 136, 3) := by decide +kernel
theorem dX8_acts_217 : decode mi_X8_acts.2.1 217 = .ok (.iload_n 3, 1) := by decide +kernel
theorem dX8_acts_218 : decode mi_X8_acts.2.1 218 = .ok (.iaload, 1) := by decide +kernel
theorem dX8_acts_219 : decode mi_X8_acts.2.1 219 = .ok (.iastore, 1) := by decide +kernel
theorem dX8_acts_220 : decode mi_X8_acts.2.1 220 = .ok (.iinc 3 1, 3) := by decide +kernel
theorem dX8_acts_223 : decode mi_X8_acts.2.1 223 = .ok (.goto (-31), 3) := by decide +kernel
theorem dX8_acts_226 : decode mi_X8_acts.2.1 226 = .ok (.iconst 0, 1) := by decide +kernel
theorem dX8_acts_227 : decode mi_X8_acts.2.1 227 = .ok (.istore_n 3, 1) := by decide +kernel
theorem dX8_acts_228 : decode mi_X8_acts.2.1 228 = .ok (.iload_n 3, 1) := by decide +kernel
theorem dX8_acts_229 : decode mi_X8_acts.2.1 229 = .ok (.aload_n 0, 1) := by decide +kernel
theorem dX8_acts_230 : decode mi_X8_acts.2.1 230 = .ok (.getfield 497, 3) := by decide +kernel
theorem dX8_acts_233 : decode mi_X8_acts.2.1 233 = .ok (.if_icmp .ge 29, 3) := by decide +kernel
theorem dX8_acts_236 : decode mi_X8_acts.2.1 236 = .ok (.aload_n 0, 1) := by decide +kernel
theorem dX8_acts_237 : decode mi_X8_acts.2.1 237 = .ok (.getfield 142, 3) := by decide +kernel
theorem dX8_acts_240 : decode mi_X8_acts.2.1 240 = .ok (.bipush 10, 2) := by decide +kernel
theorem dX8_acts_242 : decode mi_X8_acts.2.1 242 = .ok (.aload_n 0, 1) := by decide +kernel
theorem dX8_acts_243 : decode mi_X8_acts.2.1 243 = .ok (.getfield 562, 3) := by decide +kernel
theorem dX8_acts_246 : decode mi_X8_acts.2.1 246 = .ok (.imul, 1) := by decide +kernel
theorem dX8_acts_247 : decode mi_X8_acts.2.1 247 = .ok (.iload_n 3, 1) := by decide +kernel
theorem dX8_acts_248 : decode mi_X8_acts.2.1 248 = .ok (.iadd, 1) := by decide +kernel
theorem dX8_acts_249 : decode mi_X8_acts.2.1 249 = .ok (.aload_n 0, 1) := by decide +kernel
theorem dX8_acts_250 : decode mi_X8_acts.2.1 250 = .ok (.getfield 145, 3) := by decide +kernel
theorem dX8_acts_253 : decode mi_X8_acts.2.1 253 = .ok (.iload_n 3, 1) := by decide +kernel
theorem dX8_acts_254 : decode mi_X8_acts.2.1 254 = .ok (.laload, 1) := by decide +kernel
theorem dX8_acts_255 : decode mi_X8_acts.2.1 255 = .ok (.lastore, 1) := by decide +kernel
theorem dX8_acts_256 : decode mi_X8_acts.2.1 256 = .ok (.iinc 3 1, 3) := by decide +kernel
theorem dX8_acts_259 : decode mi_X8_acts.2.1 259 = .ok (.goto (-31), 3) := by decide +kernel
theorem dX8_acts_262 : decode mi_X8_acts.2.1 262 = .ok (.aload_n 0, 1) := by decide +kernel
theorem dX8_acts_263 : decode mi_X8_acts.2.1 263 = .ok (.getfield 127, 3) := by decide +kernel
theorem dX8_acts_266 : decode mi_X8_acts.2.1 266 = .ok (.aload_n 0, 1) := by decide +kernel
theorem dX8_acts_267 : decode mi_X8_acts.2.1 267 = .ok (.getfield 562, 3) := by decide +kernel
theorem dX8_acts_270 : decode mi_X8_acts.2.1 270 = .ok (.aload_n 0, 1) := by decide +kernel
theorem dX8_acts_271 : decode mi_X8_acts.2.1 271 = .ok (.getfield 497, 3) := by decide +kernel
theorem dX8_acts_274 : decode mi_X8_acts.2.1 274 = .ok (.iastore, 1) := by decide +kernel
theorem dX8_acts_275 : decode mi_X8_acts.2.1 275 = .ok (.aload_n 0, 1) := by decide +kernel
theorem dX8_acts_276 : decode mi_X8_acts.2.1 276 = .ok (.getfield 124, 3) := by decide +kernel
theorem dX8_acts_279 : decode mi_X8_acts.2.1 279 = .ok (.aload_n 0, 1) := by decide +kernel
theorem dX8_acts_280 : decode mi_X8_acts.2.1 280 = .ok (.getfield 562, 3) := by decide +kernel
theorem dX8_acts_283 : decode mi_X8_acts.2.1 283 = .ok (.iload_n 2, 1) := by decide +kernel
theorem dX8_acts_284 : decode mi_X8_acts.2.1 284 = .ok (.iastore, 1) := by decide +kernel
theorem dX8_acts_285 : decode mi_X8_acts.2.1 285 = .ok (.aload_n 0, 1) := by decide +kernel
theorem dX8_acts_286 : decode mi_X8_acts.2.1 286 = .ok (.dup, 1) := by decide +kernel
theorem dX8_acts_287 : decode mi_X8_acts.2.1 287 = .ok (.getfield 562, 3) := by decide +kernel
theorem dX8_acts_290 : decode mi_X8_acts.2.1 290 = .ok (.iconst 1, 1) := by decide +kernel
theorem dX8_acts_291 : decode mi_X8_acts.2.1 291 = .ok (.iadd, 1) := by decide +kernel
theorem dX8_acts_292 : decode mi_X8_acts.2.1 292 = .ok (.putfield 562, 3) := by decide +kernel
theorem dX8_acts_295 : decode mi_X8_acts.2.1 295 = .ok (.aload_n 0, 1) := by decide +kernel
theorem dX8_acts_296 : decode mi_X8_acts.2.1 296 = .ok (.getfield 497, 3) := by decide +kernel
theorem dX8_acts_299 : decode mi_X8_acts.2.1 299 = .ok (.ireturn, 1) := by decide +kernel
theorem v_X8_acts {G : ma_G} {d : Nat} {a0 : Nat} {x1 : Int32} {x2 : Int32} {h : ah_T} {Q : Option ma_V → ah_T → Prop} {E : Nat → ah_T → Prop} (La0_h : LY8 h a0) (H : ∀ h1 : ah_T, h1 = ah_wI h a0 1 (0 : Int32) → ah_ext h h1 → ∀ h2 : ah_T, h2 = ah_wI h1 a0 0 (0 : Int32) → ah_ext h1 h2 → (x1 < 0 → ∀ h4 : ah_T, h4 = ah_wI h2 a0 0 (5 : Int32) → ah_ext h2 h4 → Q (some (iv (-1 : Int32))) h4) ∧ (¬ x1 < 0 → ((ah_I h a0 44) < x1 → ∀ h6 : ah_T, h6 = ah_wI h2 a0 0 (5 : Int32) → ah_ext h2 h6 → Q (some (iv (-1 : Int32))) h6) ∧ (¬ (ah_I h a0 44) < x1 → (x2.toInt64 < (0 : Int64) → ∀ h8 : ah_T, h8 = ah_wI h2 a0 0 (5 : Int32) → ah_ext h2 h8 → Q (some (iv (-1 : Int32))) h8) ∧ (¬ x2.toInt64 < (0 : Int64) → ((519 : Int64) < x2.toInt64 → ∀ h10 : ah_T, h10 = ah_wI h2 a0 0 (5 : Int32) → ah_ext h2 h10 → Q (some (iv (-1 : Int32))) h10) ∧ (¬ (519 : Int64) < x2.toInt64 → (¬ (ah_I h a0 56) = (4 : Int32) → ∀ h12 : ah_T, h12 = ah_wI h2 a0 45 x1 → ah_ext h2 h12 → ∀ h13 : ah_T, h13 = ah_wI h12 a0 44 (0 : Int32) → ah_ext h12 h13 → ∀ h14 : ah_T, h14 = ah_wI h13 a0 52 (0 : Int32) → ah_ext h13 h14 → ∀ h15 : ah_T, h15 = ah_wI h14 a0 48 (0 : Int32) → ah_ext h14 h15 → ∀ h16 : ah_T, h16 = ah_wI h15 a0 57 (0 : Int32) → ah_ext h15 h16 → ∀ h17 : ah_T, h17 = ah_wI h16 a0 58 (0 : Int32) → ah_ext h16 h17 → ∀ h18 : ah_T, h18 = ah_wI h17 (a0 + 40) 0 (0 : Int32) → ah_ext h17 h18 → MX G mi_X8_next (d + 1) 0 [some (rv a0), none] [] h18 (Qv fun h19 => ah_ext h18 h19 → MX G mi_X8_acts (d + 2) 91 [some (rv a0), none, some (iv x2), none] [] h19 Q E) E) ∧ ((ah_I h a0 56) = (4 : Int32) → ∀ h21 : ah_T, h21 = ah_wI h2 a0 0 (7 : Int32) → ah_ext h2 h21 → Q (some (iv (-1 : Int32))) h21)))))) : MX G mi_X8_acts (d + 2) 0 [some (rv a0), some (iv x1), some (iv x2), none] [] h Q E := by
  refine mx_aload_n dX8_acts_0 rfl rfl ?_
  refine mx_iconst dX8_acts_1 ic_0 ?_
  refine mx_putI 8 1 (ref := "PrairiePoolModel") cl_8 (Nat.le_of_ble_eq_true rfl) (Or.inl q1628) (Or.inl rfl) dX8_acts_2 (Or.inl rfl) rfl (ly8_k La0_h) ?_
  refine mx_nmI  (fun h1 eh1 Xh1 Kh1 Lh1 => ?_)
  have H := H h1 eh1 Xh1
  have La0_h1 := La0_h.ext Xh1
  refine mx_aload_n dX8_acts_5 rfl rfl ?_
  refine mx_iconst dX8_acts_6 ic_0 ?_
  refine mx_putI 8 0 (ref := "PrairiePoolModel") cl_8 (Nat.le_of_ble_eq_true rfl) (Or.inl q1627) (Or.inl rfl) dX8_acts_7 (Or.inl rfl) rfl (ly8_k La0_h1) ?_
  refine mx_nmI  (fun h2 eh2 Xh2 Kh2 Lh2 => ?_)
  have H := H h2 eh2 Xh2
  have Kh2 := Kh2.trans Kh1
  have Lh2 := Lh2.trans Lh1
  have La0_h2 := La0_h1.ext Xh2
  refine mx_iload_n dX8_acts_10 rfl rfl ?_
  refine mx_if_lt (tgt := 29) dX8_acts_11 rfl (fun c3 => ?_) (fun c3 => ?_)
  · have H := H.1 c3
    refine mx_aload_n dX8_acts_29 rfl rfl ?_
    refine mx_iconst dX8_acts_30 ic_5 ?_
    refine mx_callV 8 (y' := mi_X8_refuse) (vs := [iv (5 : Int32)]) (st := []) (al' := [some (rv a0), some (iv (5 : Int32))]) cl_8 V_X8_refuse (Or.inl q1999) dX8_acts_31 rfl rfl (Nat.le_of_ble_eq_true rfl) (Nat.le_of_ble_eq_true rfl) (ly8_k La0_h2) ?_
    refine mx_aload_n dX8_refuse_0 rfl rfl ?_
    refine mx_iload_n dX8_refuse_1 rfl rfl ?_
    refine mx_putI 8 0 (ref := "PrairiePoolModel") cl_8 (Nat.le_of_ble_eq_true rfl) (Or.inl q1627) (Or.inl rfl) dX8_refuse_2 (Or.inl rfl) rfl (ly8_k La0_h2) ?_
    refine mx_nmI  (fun h4 eh4 Xh4 Kh4 Lh4 => ?_)
    have H := H h4 eh4 Xh4
    have Kh4 := Kh4.trans Kh2
    have Lh4 := Lh4.trans Lh2
    have La0_h4 := La0_h2.ext Xh4
    refine mx_iconst dX8_refuse_5 ic_m1 ?_
    refine mx_iretK rfl dX8_refuse_6 ?_
    exact mx_iret rfl dX8_acts_34 H
  · have H := H.2 c3
    refine mx_iload_n dX8_acts_14 rfl rfl ?_
    refine mx_aload_n dX8_acts_15 rfl rfl ?_
    refine mx_get 8 44 (ref := "PrairiePoolModel") cl_8 (Nat.le_of_ble_eq_true rfl) (Or.inl q1671) (Or.inl rfl) dX8_acts_16 (fv_8_44 _ _) (ly8_k La0_h2) ?_
    refine mx_ti ((ah_skIK eh2 (by decide)).trans (ah_skIK eh1 (by decide))) ?_
    refine mx_icmp_gt (tgt := 29) dX8_acts_19 rfl (fun c5 => ?_) (fun c5 => ?_)
    · have H := H.1 c5
      refine mx_aload_n dX8_acts_29 rfl rfl ?_
      refine mx_iconst dX8_acts_30 ic_5 ?_
      refine mx_callV 8 (y' := mi_X8_refuse) (vs := [iv (5 : Int32)]) (st := []) (al' := [some (rv a0), some (iv (5 : Int32))]) cl_8 V_X8_refuse (Or.inl q1999) dX8_acts_31 rfl rfl (Nat.le_of_ble_eq_true rfl) (Nat.le_of_ble_eq_true rfl) (ly8_k La0_h2) ?_
      refine mx_aload_n dX8_refuse_0 rfl rfl ?_
      refine mx_iload_n dX8_refuse_1 rfl rfl ?_
      refine mx_putI 8 0 (ref := "PrairiePoolModel") cl_8 (Nat.le_of_ble_eq_true rfl) (Or.inl q1627) (Or.inl rfl) dX8_refuse_2 (Or.inl rfl) rfl (ly8_k La0_h2) ?_
      refine mx_nmI  (fun h6 eh6 Xh6 Kh6 Lh6 => ?_)
      have H := H h6 eh6 Xh6
      have Kh6 := Kh6.trans Kh2
      have Lh6 := Lh6.trans Lh2
      have La0_h6 := La0_h2.ext Xh6
      refine mx_iconst dX8_refuse_5 ic_m1 ?_
      refine mx_iretK rfl dX8_refuse_6 ?_
      exact mx_iret rfl dX8_acts_34 H
    · have H := H.2 c5
      refine mx_iload_n dX8_acts_22 rfl rfl ?_
      refine mx_callS (y' := mi_X8_isDay) (vs := [iv x2]) (st := []) (al' := [some (iv x2)]) S_X8_isDay q2028 dX8_acts_23 rfl rfl (Nat.le_of_ble_eq_true rfl) (Nat.le_of_ble_eq_true rfl) ?_
      refine mx_iload_n dX8_isDay_0 rfl rfl ?_
      refine mx_i2l dX8_isDay_1 ?_
      refine mx_lconst dX8_isDay_2 lc_0 ?_
      refine mx_ldc2 q2031 dX8_isDay_3 ?_
      refine mx_callS (y' := mi_X8_isIn) (vs := [jv x2.toInt64, jv (0 : Int64), jv (519 : Int64)]) (st := []) (al' := [some (jv x2.toInt64), none, some (jv (0 : Int64)), none, some (jv (519 : Int64)), none]) S_X8_isIn q1996 dX8_isDay_6 rfl rfl (Nat.le_of_ble_eq_true rfl) (Nat.le_of_ble_eq_true rfl) ?_
      refine mx_lload_n dX8_isIn_0 rfl rfl ?_
      refine mx_lload_n dX8_isIn_1 rfl rfl ?_
      refine mx_lif_lt (tgt := 17) dX8_isIn_2 dX8_isIn_3 rfl (fun c7 => ?_) (fun c7 => ?_)
      · have H := H.1 c7
        refine mx_iconst dX8_isIn_17 ic_0 ?_
        refine mx_zretK rfl dX8_isIn_18 (Or.inl rfl) ?_
        refine mx_zretK rfl dX8_isDay_9 (Or.inl rfl) ?_
        refine mx_if_ne (tgt := 35) dX8_acts_26 rfl (fun _ => absurd ‹_› (by decide)) (fun _ => ?_)
        refine mx_aload_n dX8_acts_29 rfl rfl ?_
        refine mx_iconst dX8_acts_30 ic_5 ?_
        refine mx_callV 8 (y' := mi_X8_refuse) (vs := [iv (5 : Int32)]) (st := []) (al' := [some (rv a0), some (iv (5 : Int32))]) cl_8 V_X8_refuse (Or.inl q1999) dX8_acts_31 rfl rfl (Nat.le_of_ble_eq_true rfl) (Nat.le_of_ble_eq_true rfl) (ly8_k La0_h2) ?_
        refine mx_aload_n dX8_refuse_0 rfl rfl ?_
        refine mx_iload_n dX8_refuse_1 rfl rfl ?_
        refine mx_putI 8 0 (ref := "PrairiePoolModel") cl_8 (Nat.le_of_ble_eq_true rfl) (Or.inl q1627) (Or.inl rfl) dX8_refuse_2 (Or.inl rfl) rfl (ly8_k La0_h2) ?_
        refine mx_nmI  (fun h8 eh8 Xh8 Kh8 Lh8 => ?_)
        have H := H h8 eh8 Xh8
        have Kh8 := Kh8.trans Kh2
        have Lh8 := Lh8.trans Lh2
        have La0_h8 := La0_h2.ext Xh8
        refine mx_iconst dX8_refuse_5 ic_m1 ?_
        refine mx_iretK rfl dX8_refuse_6 ?_
        exact mx_iret rfl dX8_acts_34 H
      · have H := H.2 c7
        refine mx_lload_n dX8_isIn_6 rfl rfl ?_
        refine mx_lload dX8_isIn_7 rfl ?_
        refine mx_lif_gt (tgt := 17) dX8_isIn_9 dX8_isIn_10 rfl (fun c9 => ?_) (fun c9 => ?_)
        · have H := H.1 c9
          refine mx_iconst dX8_isIn_17 ic_0 ?_
          refine mx_zretK rfl dX8_isIn_18 (Or.inl rfl) ?_
          refine mx_zretK rfl dX8_isDay_9 (Or.inl rfl) ?_
          refine mx_if_ne (tgt := 35) dX8_acts_26 rfl (fun _ => absurd ‹_› (by decide)) (fun _ => ?_)
          refine mx_aload_n dX8_acts_29 rfl rfl ?_
          refine mx_iconst dX8_acts_30 ic_5 ?_
          refine mx_callV 8 (y' := mi_X8_refuse) (vs := [iv (5 : Int32)]) (st := []) (al' := [some (rv a0), some (iv (5 : Int32))]) cl_8 V_X8_refuse (Or.inl q1999) dX8_acts_31 rfl rfl (Nat.le_of_ble_eq_true rfl) (Nat.le_of_ble_eq_true rfl) (ly8_k La0_h2) ?_
          refine mx_aload_n dX8_refuse_0 rfl rfl ?_
          refine mx_iload_n dX8_refuse_1 rfl rfl ?_
          refine mx_putI 8 0 (ref := "PrairiePoolModel") cl_8 (Nat.le_of_ble_eq_true rfl) (Or.inl q1627) (Or.inl rfl) dX8_refuse_2 (Or.inl rfl) rfl (ly8_k La0_h2) ?_
          refine mx_nmI  (fun h10 eh10 Xh10 Kh10 Lh10 => ?_)
          have H := H h10 eh10 Xh10
          have Kh10 := Kh10.trans Kh2
          have Lh10 := Lh10.trans Lh2
          have La0_h10 := La0_h2.ext Xh10
          refine mx_iconst dX8_refuse_5 ic_m1 ?_
          refine mx_iretK rfl dX8_refuse_6 ?_
          exact mx_iret rfl dX8_acts_34 H
        · have H := H.2 c9
          refine mx_iconst dX8_isIn_13 ic_1 ?_
          refine mx_goto (tgt := 18) dX8_isIn_14 rfl ?_
          refine mx_zretK rfl dX8_isIn_18 (Or.inr rfl) ?_
          refine mx_zretK rfl dX8_isDay_9 (Or.inr rfl) ?_
          refine mx_if_ne (tgt := 35) dX8_acts_26 rfl (fun _ => ?_) (fun _ => absurd ‹_› (by decide))
          refine mx_aload_n dX8_acts_35 rfl rfl ?_
          refine mx_get 8 56 (ref := "PrairiePoolModel") cl_8 (Nat.le_of_ble_eq_true rfl) (Or.inl q1683) (Or.inl rfl) dX8_acts_36 (fv_8_56 _ _) (ly8_k La0_h2) ?_
          refine mx_ti ((ah_skIK eh2 (by decide)).trans (ah_skIK eh1 (by decide))) ?_
          refine mx_iconst dX8_acts_39 ic_4 ?_
          refine mx_icmp_ne (tgt := 50) dX8_acts_40 rfl (fun c11 => ?_) (fun c11 => ?_)
          · have H := H.1 c11
            refine mx_aload_n dX8_acts_50 rfl rfl ?_
            refine mx_iload_n dX8_acts_51 rfl rfl ?_
            refine mx_putI 8 45 (ref := "PrairiePoolModel") cl_8 (Nat.le_of_ble_eq_true rfl) (Or.inl q1672) (Or.inl rfl) dX8_acts_52 (Or.inl rfl) rfl (ly8_k La0_h2) ?_
            refine mx_nmI  (fun h12 eh12 Xh12 Kh12 Lh12 => ?_)
            have H := H h12 eh12 Xh12
            have Kh12 := Kh12.trans Kh2
            have Lh12 := Lh12.trans Lh2
            have La0_h12 := La0_h2.ext Xh12
            refine mx_aload_n dX8_acts_55 rfl rfl ?_
            refine mx_iconst dX8_acts_56 ic_0 ?_
            refine mx_putI 8 44 (ref := "PrairiePoolModel") cl_8 (Nat.le_of_ble_eq_true rfl) (Or.inl q1671) (Or.inl rfl) dX8_acts_57 (Or.inl rfl) rfl (ly8_k La0_h12) ?_
            refine mx_nmI  (fun h13 eh13 Xh13 Kh13 Lh13 => ?_)
            have H := H h13 eh13 Xh13
            have Kh13 := Kh13.trans Kh12
            have Lh13 := Lh13.trans Lh12
            have La0_h13 := La0_h12.ext Xh13
            refine mx_aload_n dX8_acts_60 rfl rfl ?_
            refine mx_iconst dX8_acts_61 ic_0 ?_
            refine mx_putI 8 52 (ref := "PrairiePoolModel") cl_8 (Nat.le_of_ble_eq_true rfl) (Or.inl q1679) (Or.inl rfl) dX8_acts_62 (Or.inl rfl) rfl (ly8_k La0_h13) ?_
            refine mx_nmI  (fun h14 eh14 Xh14 Kh14 Lh14 => ?_)
            have H := H h14 eh14 Xh14
            have Kh14 := Kh14.trans Kh13
            have Lh14 := Lh14.trans Lh13
            have La0_h14 := La0_h13.ext Xh14
            refine mx_aload_n dX8_acts_65 rfl rfl ?_
            refine mx_iconst dX8_acts_66 ic_0 ?_
            refine mx_putI 8 48 (ref := "PrairiePoolModel") cl_8 (Nat.le_of_ble_eq_true rfl) (Or.inl q1675) (Or.inl rfl) dX8_acts_67 (Or.inl rfl) rfl (ly8_k La0_h14) ?_
            refine mx_nmI  (fun h15 eh15 Xh15 Kh15 Lh15 => ?_)
            have H := H h15 eh15 Xh15
            have Kh15 := Kh15.trans Kh14
            have Lh15 := Lh15.trans Lh14
            have La0_h15 := La0_h14.ext Xh15
            refine mx_aload_n dX8_acts_70 rfl rfl ?_
            refine mx_iconst dX8_acts_71 ic_0 ?_
            refine mx_putI 8 57 (ref := "PrairiePoolModel") cl_8 (Nat.le_of_ble_eq_true rfl) (Or.inl q1684) (Or.inl rfl) dX8_acts_72 (Or.inl rfl) rfl (ly8_k La0_h15) ?_
            refine mx_nmI  (fun h16 eh16 Xh16 Kh16 Lh16 => ?_)
            have H := H h16 eh16 Xh16
            have Kh16 := Kh16.trans Kh15
            have Lh16 := Lh16.trans Lh15
            have La0_h16 := La0_h15.ext Xh16
            refine mx_aload_n dX8_acts_75 rfl rfl ?_
            refine mx_iconst dX8_acts_76 ic_0 ?_
            refine mx_putI 8 58 (ref := "PrairiePoolModel") cl_8 (Nat.le_of_ble_eq_true rfl) (Or.inl q1685) (Or.inl rfl) dX8_acts_77 (Or.inl rfl) rfl (ly8_k La0_h16) ?_
            refine mx_nmI  (fun h17 eh17 Xh17 Kh17 Lh17 => ?_)
            have H := H h17 eh17 Xh17
            have Kh17 := Kh17.trans Kh16
            have Lh17 := Lh17.trans Lh16
            have La0_h17 := La0_h16.ext Xh17
            refine mx_aload_n dX8_acts_80 rfl rfl ?_
            refine mx_get 8 63 (ref := "PrairiePoolModel") cl_8 (Nat.le_of_ble_eq_true rfl) (Or.inl q1690) (Or.inl rfl) dX8_acts_81 (fv_8_63 _ _) (ly8_k La0_h17) ?_
            refine mx_tr (ly8_R_0_63 La0_h17) ?_
            refine mx_iconst dX8_acts_84 ic_0 ?_
            refine mx_iconst dX8_acts_85 ic_0 ?_
            refine my_iast dX8_acts_86 cn_0 (ly8_A_40 La0_h17 (vp_c (by decide))) ?_
            refine mx_nmI  (fun h18 eh18 Xh18 Kh18 Lh18 => ?_)
            have H := H h18 eh18 Xh18
            have Kh18 := Kh18.trans Kh17
            have Lh18 := Lh18.trans Lh17
            have La0_h18 := La0_h17.ext Xh18
            refine mx_aload_n dX8_acts_87 rfl rfl ?_
            refine mx_callV 8 (y' := mi_X8_next) (vs := []) (st := []) (al' := [some (rv a0), none]) cl_8 V_X8_next (Or.inl q2170) dX8_acts_88 rfl rfl (Nat.le_of_ble_eq_true rfl) (Nat.le_of_ble_eq_true rfl) (ly8_k La0_h18) ?_
            refine ma_kv H (fun h19 Xh19 H => ?_) (fun x1 h1 X1 H => mt_out rfl H)
            have H := H Xh19
            have La0_h19 := La0_h18.ext Xh19
            exact mx_weak (al' := [some (rv a0), none, some (iv x2), none]) ⟨rfl, ⟨rfl, trivial⟩⟩ H
          · have H := H.2 c11
            refine mx_aload_n dX8_acts_43 rfl rfl ?_
            refine mx_bipush dX8_acts_44 ib_7 ?_
            refine mx_callV 8 (y' := mi_X8_refuse) (vs := [iv (7 : Int32)]) (st := []) (al' := [some (rv a0), some (iv (7 : Int32))]) cl_8 V_X8_refuse (Or.inl q1999) dX8_acts_46 rfl rfl (Nat.le_of_ble_eq_true rfl) (Nat.le_of_ble_eq_true rfl) (ly8_k La0_h2) ?_
            refine mx_aload_n dX8_refuse_0 rfl rfl ?_
            refine mx_iload_n dX8_refuse_1 rfl rfl ?_
            refine mx_putI 8 0 (ref := "PrairiePoolModel") cl_8 (Nat.le_of_ble_eq_true rfl) (Or.inl q1627) (Or.inl rfl) dX8_refuse_2 (Or.inl rfl) rfl (ly8_k La0_h2) ?_
            refine mx_nmI  (fun h21 eh21 Xh21 Kh21 Lh21 => ?_)
            have H := H h21 eh21 Xh21
            have Kh21 := Kh21.trans Kh2
            have Lh21 := Lh21.trans Lh2
            have La0_h21 := La0_h2.ext Xh21
            refine mx_iconst dX8_refuse_5 ic_m1 ?_
            refine mx_iretK rfl dX8_refuse_6 ?_
            exact mx_iret rfl dX8_acts_49 H
theorem v_X8_acts_91 {G : ma_G} {d : Nat} {a0 : Nat} {x2 : Int32} {h : ah_T} {Q : Option ma_V → ah_T → Prop} {E : Nat → ah_T → Prop} (La0_h : LY8 h a0) (H : (¬ (ah_I h a0 48) = 0 → MX G mi_X8_acts (d + 2) 112 [some (rv a0), none, some (iv x2), none] [] h Q E) ∧ ((ah_I h a0 48) = 0 → ((ah_I h a0 50) = 0 → MX G mi_X8_acts (d + 2) 112 [some (rv a0), none, some (iv x2), none] [] h Q E) ∧ (¬ (ah_I h a0 50) = 0 → MX G mi_X8_readDef (d + 1) 0 [some (rv a0), none, none] [] h (Qv fun h3 => ah_ext h h3 → MX G mi_X8_acts (d + 2) 91 [some (rv a0), none, some (iv x2), none] [] h3 Q E) E))) : MX G mi_X8_acts (d + 2) 91 [some (rv a0), none, some (iv x2), none] [] h Q E := by
  refine mx_aload_n dX8_acts_91 rfl rfl ?_
  refine mx_get 8 48 (ref := "PrairiePoolModel") cl_8 (Nat.le_of_ble_eq_true rfl) (Or.inl q1675) (Or.inl rfl) dX8_acts_92 (fv_8_48 _ _) (ly8_k La0_h) ?_
  refine mx_if_ne (tgt := 112) dX8_acts_95 rfl (fun c1 => ?_) (fun c1 => ?_)
  · have H := H.1 c1
    exact mx_weak (al' := [some (rv a0), none, some (iv x2), none]) ⟨rfl, ⟨rfl, trivial⟩⟩ H
  · have H := H.2 c1
    refine mx_aload_n dX8_acts_98 rfl rfl ?_
    refine mx_get 8 50 (ref := "PrairiePoolModel") cl_8 (Nat.le_of_ble_eq_true rfl) (Or.inl q1677) (Or.inl rfl) dX8_acts_99 (fv_8_50 _ _) (ly8_k La0_h) ?_
    refine mx_if_eq (tgt := 112) dX8_acts_102 rfl (fun c2 => ?_) (fun c2 => ?_)
    · have H := H.1 c2
      exact mx_weak (al' := [some (rv a0), none, some (iv x2), none]) ⟨rfl, ⟨rfl, trivial⟩⟩ H
    · have H := H.2 c2
      refine mx_aload_n dX8_acts_105 rfl rfl ?_
      refine mx_callV 8 (y' := mi_X8_readDef) (vs := []) (st := []) (al' := [some (rv a0), none, none]) cl_8 V_X8_readDef (Or.inl q2188) dX8_acts_106 rfl rfl (Nat.le_of_ble_eq_true rfl) (Nat.le_of_ble_eq_true rfl) (ly8_k La0_h) ?_
      refine ma_kv H (fun h3 Xh3 H => ?_) (fun x1 h1 X1 H => mt_out rfl H)
      have H := H Xh3
      have La0_h3 := La0_h.ext Xh3
      refine mx_goto (tgt := 91) dX8_acts_109 rfl ?_
      exact mx_weak (al' := [some (rv a0), none, some (iv x2), none]) ⟨rfl, ⟨rfl, trivial⟩⟩ H
theorem v_X8_acts_112 {G : ma_G} {d : Nat} {a0 : Nat} {x2 : Int32} {h : ah_T} {Q : Option ma_V → ah_T → Prop} {E : Nat → ah_T → Prop} (La0_h : LY8 h a0) (H : ∀ h1 : ah_T, h1 = ah_wI h a0 46 (ah_I h a0 48) → ah_ext h h1 → (¬ (ah_I h a0 48) = 0 → ∀ h3 : ah_T, h3 = ah_wI h1 a0 47 (ah_I h a0 49) → ah_ext h1 h3 → ((ah_I h a0 48) ≤ 0 → MX G mi_X8_acts (d + 2) 155 [some (rv a0), none, some (iv x2), some (iv (0 : Int32))] [] h3 Q E) ∧ (¬ (ah_I h a0 48) ≤ 0 → ∀ h5 : ah_T, h5 = ah_wI h3 a0 0 (10 : Int32) → ah_ext h3 h5 → Q (some (iv (-1 : Int32))) h5)) ∧ ((ah_I h a0 48) = 0 → ∀ h6 : ah_T, h6 = ah_wI h1 a0 47 (-1 : Int32) → ah_ext h1 h6 → ((ah_I h a0 48) ≤ 0 → MX G mi_X8_acts (d + 2) 155 [some (rv a0), none, some (iv x2), some (iv (0 : Int32))] [] h6 Q E) ∧ (¬ (ah_I h a0 48) ≤ 0 → ∀ h8 : ah_T, h8 = ah_wI h6 a0 0 (10 : Int32) → ah_ext h6 h8 → Q (some (iv (-1 : Int32))) h8))) : MX G mi_X8_acts (d + 2) 112 [some (rv a0), none, some (iv x2), none] [] h Q E := by
  refine mx_aload_n dX8_acts_112 rfl rfl ?_
  refine mx_aload_n dX8_acts_113 rfl rfl ?_
  refine mx_get 8 48 (ref := "PrairiePoolModel") cl_8 (Nat.le_of_ble_eq_true rfl) (Or.inl q1675) (Or.inl rfl) dX8_acts_114 (fv_8_48 _ _) (ly8_k La0_h) ?_
  refine mx_putI 8 46 (ref := "PrairiePoolModel") cl_8 (Nat.le_of_ble_eq_true rfl) (Or.inl q1673) (Or.inl rfl) dX8_acts_117 (Or.inl rfl) rfl (ly8_k La0_h) ?_
  refine mx_nmI  (fun h1 eh1 Xh1 Kh1 Lh1 => ?_)
  have H := H h1 eh1 Xh1
  have La0_h1 := La0_h.ext Xh1
  refine mx_aload_n dX8_acts_120 rfl rfl ?_
  refine mx_aload_n dX8_acts_121 rfl rfl ?_
  refine mx_get 8 48 (ref := "PrairiePoolModel") cl_8 (Nat.le_of_ble_eq_true rfl) (Or.inl q1675) (Or.inl rfl) dX8_acts_122 (fv_8_48 _ _) (ly8_k La0_h1) ?_
  refine mx_ti (ah_skIK eh1 (by decide)) ?_
  refine mx_if_ne (tgt := 132) dX8_acts_125 rfl (fun c2 => ?_) (fun c2 => ?_)
  · have H := H.1 c2
    refine mx_aload_n dX8_acts_132 rfl rfl ?_
    refine mx_get 8 49 (ref := "PrairiePoolModel") cl_8 (Nat.le_of_ble_eq_true rfl) (Or.inl q1676) (Or.inl rfl) dX8_acts_133 (fv_8_49 _ _) (ly8_k La0_h1) ?_
    refine mx_ti (ah_skIK eh1 (by decide)) ?_
    refine mx_putI 8 47 (ref := "PrairiePoolModel") cl_8 (Nat.le_of_ble_eq_true rfl) (Or.inl q1674) (Or.inl rfl) dX8_acts_136 (Or.inl rfl) rfl (ly8_k La0_h1) ?_
    refine mx_nmI  (fun h3 eh3 Xh3 Kh3 Lh3 => ?_)
    have H := H h3 eh3 Xh3
    have Kh3 := Kh3.trans Kh1
    have Lh3 := Lh3.trans Lh1
    have La0_h3 := La0_h1.ext Xh3
    refine mx_aload_n dX8_acts_139 rfl rfl ?_
    refine mx_get 8 48 (ref := "PrairiePoolModel") cl_8 (Nat.le_of_ble_eq_true rfl) (Or.inl q1675) (Or.inl rfl) dX8_acts_140 (fv_8_48 _ _) (ly8_k La0_h3) ?_
    refine mx_ti ((ah_skIK eh3 (by decide)).trans (ah_skIK eh1 (by decide))) ?_
    refine mx_if_le (tgt := 153) dX8_acts_143 rfl (fun c4 => ?_) (fun c4 => ?_)
    · have H := H.1 c4
      refine mx_iconst dX8_acts_153 ic_0 ?_
      refine mx_istore_n (al' := [some (rv a0), none, some (iv x2), some (iv (0 : Int32))]) dX8_acts_154 rfl (Nat.le_of_ble_eq_true rfl) rfl ?_
      exact mx_weak (al' := [some (rv a0), none, some (iv x2), some (iv (0 : Int32))]) ⟨rfl, ⟨rfl, ⟨rfl, trivial⟩⟩⟩ H
    · have H := H.2 c4
      refine mx_aload_n dX8_acts_146 rfl rfl ?_
      refine mx_bipush dX8_acts_147 ib_10 ?_
      refine mx_callV 8 (y' := mi_X8_refuse) (vs := [iv (10 : Int32)]) (st := []) (al' := [some (rv a0), some (iv (10 : Int32))]) cl_8 V_X8_refuse (Or.inl q1999) dX8_acts_149 rfl rfl (Nat.le_of_ble_eq_true rfl) (Nat.le_of_ble_eq_true rfl) (ly8_k La0_h3) ?_
      refine mx_aload_n dX8_refuse_0 rfl rfl ?_
      refine mx_iload_n dX8_refuse_1 rfl rfl ?_
      refine mx_putI 8 0 (ref := "PrairiePoolModel") cl_8 (Nat.le_of_ble_eq_true rfl) (Or.inl q1627) (Or.inl rfl) dX8_refuse_2 (Or.inl rfl) rfl (ly8_k La0_h3) ?_
      refine mx_nmI  (fun h5 eh5 Xh5 Kh5 Lh5 => ?_)
      have H := H h5 eh5 Xh5
      have Kh5 := Kh5.trans Kh3
      have Lh5 := Lh5.trans Lh3
      have La0_h5 := La0_h3.ext Xh5
      refine mx_iconst dX8_refuse_5 ic_m1 ?_
      refine mx_iretK rfl dX8_refuse_6 ?_
      exact mx_iret rfl dX8_acts_152 H
  · have H := H.2 c2
    refine mx_iconst dX8_acts_128 ic_m1 ?_
    refine mx_goto (tgt := 136) dX8_acts_129 rfl ?_
    refine mx_putI 8 47 (ref := "PrairiePoolModel") cl_8 (Nat.le_of_ble_eq_true rfl) (Or.inl q1674) (Or.inl rfl) dX8_acts_136 (Or.inl rfl) rfl (ly8_k La0_h1) ?_
    refine mx_nmI  (fun h6 eh6 Xh6 Kh6 Lh6 => ?_)
    have H := H h6 eh6 Xh6
    have Kh6 := Kh6.trans Kh1
    have Lh6 := Lh6.trans Lh1
    have La0_h6 := La0_h1.ext Xh6
    refine mx_aload_n dX8_acts_139 rfl rfl ?_
    refine mx_get 8 48 (ref := "PrairiePoolModel") cl_8 (Nat.le_of_ble_eq_true rfl) (Or.inl q1675) (Or.inl rfl) dX8_acts_140 (fv_8_48 _ _) (ly8_k La0_h6) ?_
    refine mx_ti ((ah_skIK eh6 (by decide)).trans (ah_skIK eh1 (by decide))) ?_
    refine mx_if_le (tgt := 153) dX8_acts_143 rfl (fun c7 => ?_) (fun c7 => ?_)
    · have H := H.1 c7
      refine mx_iconst dX8_acts_153 ic_0 ?_
      refine mx_istore_n (al' := [some (rv a0), none, some (iv x2), some (iv (0 : Int32))]) dX8_acts_154 rfl (Nat.le_of_ble_eq_true rfl) rfl ?_
      exact mx_weak (al' := [some (rv a0), none, some (iv x2), some (iv (0 : Int32))]) ⟨rfl, ⟨rfl, ⟨rfl, trivial⟩⟩⟩ H
    · have H := H.2 c7
      refine mx_aload_n dX8_acts_146 rfl rfl ?_
      refine mx_bipush dX8_acts_147 ib_10 ?_
      refine mx_callV 8 (y' := mi_X8_refuse) (vs := [iv (10 : Int32)]) (st := []) (al' := [some (rv a0), some (iv (10 : Int32))]) cl_8 V_X8_refuse (Or.inl q1999) dX8_acts_149 rfl rfl (Nat.le_of_ble_eq_true rfl) (Nat.le_of_ble_eq_true rfl) (ly8_k La0_h6) ?_
      refine mx_aload_n dX8_refuse_0 rfl rfl ?_
      refine mx_iload_n dX8_refuse_1 rfl rfl ?_
      refine mx_putI 8 0 (ref := "PrairiePoolModel") cl_8 (Nat.le_of_ble_eq_true rfl) (Or.inl q1627) (Or.inl rfl) dX8_refuse_2 (Or.inl rfl) rfl (ly8_k La0_h6) ?_
      refine mx_nmI  (fun h8 eh8 Xh8 Kh8 Lh8 => ?_)
      have H := H h8 eh8 Xh8
      have Kh8 := Kh8.trans Kh6
      have Lh8 := Lh8.trans Lh6
      have La0_h8 := La0_h6.ext Xh8
      refine mx_iconst dX8_refuse_5 ic_m1 ?_
      refine mx_iretK rfl dX8_refuse_6 ?_
      exact mx_iret rfl dX8_acts_152 H
theorem v_X8_acts_155 {G : ma_G} {d : Nat} {a0 : Nat} {x2 : Int32} {x3 : Int32} {h : ah_T} {Q : Option ma_V → ah_T → Prop} {E : Nat → ah_T → Prop} (La0_h : LY8 h a0) (H : ((ah_I h a0 58) ≤ x3 → MX G mi_X8_acts (d + 2) 192 [some (rv a0), none, some (iv x2), some (iv (0 : Int32))] [] h Q E) ∧ (¬ (ah_I h a0 58) ≤ x3 → vp_in x3 1100 ∧ vp_in (((1100 : Int32) * (ah_I h a0 56)) + x3) 4400 ∧ ∀ h4 : ah_T, h4 = ah_wI h (a0 + 39) (((1100 : Int32) * (ah_I h a0 56)) + x3).toNatClampNeg (ah_I h (a0 + 41) x3.toNatClampNeg) → ah_ext h h4 → MX G mi_X8_acts (d + 2) 155 [some (rv a0), none, some (iv x2), some (iv (x3 + (1 : Int32)))] [] h4 Q E)) : MX G mi_X8_acts (d + 2) 155 [some (rv a0), none, some (iv x2), some (iv x3)] [] h Q E := by
  refine mx_iload_n dX8_acts_155 rfl rfl ?_
  refine mx_aload_n dX8_acts_156 rfl rfl ?_
  refine mx_get 8 58 (ref := "PrairiePoolModel") cl_8 (Nat.le_of_ble_eq_true rfl) (Or.inl q1685) (Or.inl rfl) dX8_acts_157 (fv_8_58 _ _) (ly8_k La0_h) ?_
  refine mx_icmp_ge (tgt := 190) dX8_acts_160 rfl (fun c1 => ?_) (fun c1 => ?_)
  · have H := H.1 c1
    refine mx_iconst dX8_acts_190 ic_0 ?_
    refine mx_istore_n (al' := [some (rv a0), none, some (iv x2), some (iv (0 : Int32))]) dX8_acts_191 rfl (Nat.le_of_ble_eq_true rfl) rfl ?_
    exact mx_weak (al' := [some (rv a0), none, some (iv x2), some (iv (0 : Int32))]) ⟨rfl, ⟨rfl, ⟨rfl, trivial⟩⟩⟩ H
  · have H := H.2 c1
    refine mx_aload_n dX8_acts_163 rfl rfl ?_
    refine mx_get 8 62 (ref := "PrairiePoolModel") cl_8 (Nat.le_of_ble_eq_true rfl) (Or.inl q1689) (Or.inl rfl) dX8_acts_164 (fv_8_62 _ _) (ly8_k La0_h) ?_
    refine mx_tr (ly8_R_0_62 La0_h) ?_
    refine mx_sipush dX8_acts_167 is_1100 ?_
    refine mx_aload_n dX8_acts_170 rfl rfl ?_
    refine mx_get 8 56 (ref := "PrairiePoolModel") cl_8 (Nat.le_of_ble_eq_true rfl) (Or.inl q1683) (Or.inl rfl) dX8_acts_171 (fv_8_56 _ _) (ly8_k La0_h) ?_
    refine mx_imul dX8_acts_174 ?_
    refine mx_iload_n dX8_acts_175 rfl rfl ?_
    refine mx_iadd dX8_acts_176 ?_
    refine mx_aload_n dX8_acts_177 rfl rfl ?_
    refine mx_get 8 64 (ref := "PrairiePoolModel") cl_8 (Nat.le_of_ble_eq_true rfl) (Or.inl q1691) (Or.inl rfl) dX8_acts_178 (fv_8_64 _ _) (ly8_k La0_h) ?_
    refine mx_tr (ly8_R_0_64 La0_h) ?_
    refine mx_iload_n dX8_acts_181 rfl rfl ?_
    obtain ⟨k2, H⟩ := H
    refine my_iald dX8_acts_182 rfl (ly8_A_41 La0_h k2) ?_
    obtain ⟨k3, H⟩ := H
    refine my_iast dX8_acts_183 rfl (ly8_A_39 La0_h k3) ?_
    refine mx_nmI  (fun h4 eh4 Xh4 Kh4 Lh4 => ?_)
    have H := H h4 eh4 Xh4
    have La0_h4 := La0_h.ext Xh4
    refine mx_iinc (al' := [some (rv a0), none, some (iv x2), some (iv (x3 + (1 : Int32)))]) dX8_acts_184 rfl ic_1 rfl ?_
    refine mx_goto (tgt := 155) dX8_acts_187 rfl ?_
    exact mx_weak (al' := [some (rv a0), none, some (iv x2), some (iv (x3 + (1 : Int32)))]) ⟨rfl, ⟨rfl, ⟨rfl, trivial⟩⟩⟩ H
theorem v_X8_acts_192 {G : ma_G} {d : Nat} {a0 : Nat} {x2 : Int32} {x3 : Int32} {h : ah_T} {Q : Option ma_V → ah_T → Prop} {E : Nat → ah_T → Prop} (La0_h : LY8 h a0) (H : ((ah_I h a0 57) < x3 → MX G mi_X8_acts (d + 2) 228 [some (rv a0), none, some (iv x2), some (iv (0 : Int32))] [] h Q E) ∧ (¬ (ah_I h a0 57) < x3 → vp_in x3 11 ∧ vp_in (((11 : Int32) * (ah_I h a0 56)) + x3) 44 ∧ ∀ h4 : ah_T, h4 = ah_wI h (a0 + 38) (((11 : Int32) * (ah_I h a0 56)) + x3).toNatClampNeg (ah_I h (a0 + 40) x3.toNatClampNeg) → ah_ext h h4 → MX G mi_X8_acts (d + 2) 192 [some (rv a0), none, some (iv x2), some (iv (x3 + (1 : Int32)))] [] h4 Q E)) : MX G mi_X8_acts (d + 2) 192 [some (rv a0), none, some (iv x2), some (iv x3)] [] h Q E := by
  refine mx_iload_n dX8_acts_192 rfl rfl ?_
  refine mx_aload_n dX8_acts_193 rfl rfl ?_
  refine mx_get 8 57 (ref := "PrairiePoolModel") cl_8 (Nat.le_of_ble_eq_true rfl) (Or.inl q1684) (Or.inl rfl) dX8_acts_194 (fv_8_57 _ _) (ly8_k La0_h) ?_
  refine mx_icmp_gt (tgt := 226) dX8_acts_197 rfl (fun c1 => ?_) (fun c1 => ?_)
  · have H := H.1 c1
    refine mx_iconst dX8_acts_226 ic_0 ?_
    refine mx_istore_n (al' := [some (rv a0), none, some (iv x2), some (iv (0 : Int32))]) dX8_acts_227 rfl (Nat.le_of_ble_eq_true rfl) rfl ?_
    exact mx_weak (al' := [some (rv a0), none, some (iv x2), some (iv (0 : Int32))]) ⟨rfl, ⟨rfl, ⟨rfl, trivial⟩⟩⟩ H
  · have H := H.2 c1
    refine mx_aload_n dX8_acts_200 rfl rfl ?_
    refine mx_get 8 61 (ref := "PrairiePoolModel") cl_8 (Nat.le_of_ble_eq_true rfl) (Or.inl q1688) (Or.inl rfl) dX8_acts_201 (fv_8_61 _ _) (ly8_k La0_h) ?_
    refine mx_tr (ly8_R_0_61 La0_h) ?_
    refine mx_bipush dX8_acts_204 ib_11 ?_
    refine mx_aload_n dX8_acts_206 rfl rfl ?_
    refine mx_get 8 56 (ref := "PrairiePoolModel") cl_8 (Nat.le_of_ble_eq_true rfl) (Or.inl q1683) (Or.inl rfl) dX8_acts_207 (fv_8_56 _ _) (ly8_k La0_h) ?_
    refine mx_imul dX8_acts_210 ?_
    refine mx_iload_n dX8_acts_211 rfl rfl ?_
    refine mx_iadd dX8_acts_212 ?_
    refine mx_aload_n dX8_acts_213 rfl rfl ?_
    refine mx_get 8 63 (ref := "PrairiePoolModel") cl_8 (Nat.le_of_ble_eq_true rfl) (Or.inl q1690) (Or.inl rfl) dX8_acts_214 (fv_8_63 _ _) (ly8_k La0_h) ?_
    refine mx_tr (ly8_R_0_63 La0_h) ?_
    refine mx_iload_n dX8_acts_217 rfl rfl ?_
    obtain ⟨k2, H⟩ := H
    refine my_iald dX8_acts_218 rfl (ly8_A_40 La0_h k2) ?_
    obtain ⟨k3, H⟩ := H
    refine my_iast dX8_acts_219 rfl (ly8_A_38 La0_h k3) ?_
    refine mx_nmI  (fun h4 eh4 Xh4 Kh4 Lh4 => ?_)
    have H := H h4 eh4 Xh4
    have La0_h4 := La0_h.ext Xh4
    refine mx_iinc (al' := [some (rv a0), none, some (iv x2), some (iv (x3 + (1 : Int32)))]) dX8_acts_220 rfl ic_1 rfl ?_
    refine mx_goto (tgt := 192) dX8_acts_223 rfl ?_
    exact mx_weak (al' := [some (rv a0), none, some (iv x2), some (iv (x3 + (1 : Int32)))]) ⟨rfl, ⟨rfl, ⟨rfl, trivial⟩⟩⟩ H
theorem v_X8_acts_228 {G : ma_G} {d : Nat} {a0 : Nat} {x2 : Int32} {x3 : Int32} {h : ah_T} {Q : Option ma_V → ah_T → Prop} {E : Nat → ah_T → Prop} (La0_h : LY8 h a0) (H : ((ah_I h a0 57) ≤ x3 → vp_in (ah_I h a0 56) 4 ∧ ∀ h3 : ah_T, h3 = ah_wI h (a0 + 37) (ah_I h a0 56).toNatClampNeg (ah_I h a0 57) → ah_ext h h3 → ∀ h4 : ah_T, h4 = ah_wI h3 (a0 + 36) (ah_I h a0 56).toNatClampNeg x2 → ah_ext h3 h4 → ∀ h5 : ah_T, h5 = ah_wI h4 a0 56 ((ah_I h a0 56) + (1 : Int32)) → ah_ext h4 h5 → Q (some (iv (ah_I h a0 57))) h5) ∧ (¬ (ah_I h a0 57) ≤ x3 → vp_in x3 10 ∧ vp_in (((10 : Int32) * (ah_I h a0 56)) + x3) 40 ∧ ∀ h8 : ah_T, h8 = ah_wJ h (a0 + 42) (((10 : Int32) * (ah_I h a0 56)) + x3).toNatClampNeg (ah_J h (a0 + 43) x3.toNatClampNeg) → ah_ext h h8 → MX G mi_X8_acts (d + 2) 228 [some (rv a0), none, some (iv x2), some (iv (x3 + (1 : Int32)))] [] h8 Q E)) : MX G mi_X8_acts (d + 2) 228 [some (rv a0), none, some (iv x2), some (iv x3)] [] h Q E := by
  refine mx_iload_n dX8_acts_228 rfl rfl ?_
  refine mx_aload_n dX8_acts_229 rfl rfl ?_
  refine mx_get 8 57 (ref := "PrairiePoolModel") cl_8 (Nat.le_of_ble_eq_true rfl) (Or.inl q1684) (Or.inl rfl) dX8_acts_230 (fv_8_57 _ _) (ly8_k La0_h) ?_
  refine mx_icmp_ge (tgt := 262) dX8_acts_233 rfl (fun c1 => ?_) (fun c1 => ?_)
  · have H := H.1 c1
    refine mx_aload_n dX8_acts_262 rfl rfl ?_
    refine mx_get 8 60 (ref := "PrairiePoolModel") cl_8 (Nat.le_of_ble_eq_true rfl) (Or.inl q1687) (Or.inl rfl) dX8_acts_263 (fv_8_60 _ _) (ly8_k La0_h) ?_
    refine mx_tr (ly8_R_0_60 La0_h) ?_
    refine mx_aload_n dX8_acts_266 rfl rfl ?_
    refine mx_get 8 56 (ref := "PrairiePoolModel") cl_8 (Nat.le_of_ble_eq_true rfl) (Or.inl q1683) (Or.inl rfl) dX8_acts_267 (fv_8_56 _ _) (ly8_k La0_h) ?_
    refine mx_aload_n dX8_acts_270 rfl rfl ?_
    refine mx_get 8 57 (ref := "PrairiePoolModel") cl_8 (Nat.le_of_ble_eq_true rfl) (Or.inl q1684) (Or.inl rfl) dX8_acts_271 (fv_8_57 _ _) (ly8_k La0_h) ?_
    obtain ⟨k2, H⟩ := H
    refine my_iast dX8_acts_274 rfl (ly8_A_37 La0_h k2) ?_
    refine mx_nmI  (fun h3 eh3 Xh3 Kh3 Lh3 => ?_)
    have H := H h3 eh3 Xh3
    have La0_h3 := La0_h.ext Xh3
    refine mx_aload_n dX8_acts_275 rfl rfl ?_
    refine mx_get 8 59 (ref := "PrairiePoolModel") cl_8 (Nat.le_of_ble_eq_true rfl) (Or.inl q1686) (Or.inl rfl) dX8_acts_276 (fv_8_59 _ _) (ly8_k La0_h3) ?_
    refine mx_tr (ly8_R_0_59 La0_h3) ?_
    refine mx_aload_n dX8_acts_279 rfl rfl ?_
    refine mx_get 8 56 (ref := "PrairiePoolModel") cl_8 (Nat.le_of_ble_eq_true rfl) (Or.inl q1683) (Or.inl rfl) dX8_acts_280 (fv_8_56 _ _) (ly8_k La0_h3) ?_
    refine mx_ti (ah_skIA eh3 (by omega)) ?_
    refine mx_iload_n dX8_acts_283 rfl rfl ?_
    refine my_iast dX8_acts_284 rfl (ly8_A_36 La0_h3 k2) ?_
    refine mx_nmI  (fun h4 eh4 Xh4 Kh4 Lh4 => ?_)
    have H := H h4 eh4 Xh4
    have Kh4 := Kh4.trans Kh3
    have Lh4 := Lh4.trans Lh3
    have La0_h4 := La0_h3.ext Xh4
    refine mx_aload_n dX8_acts_285 rfl rfl ?_
    refine mx_dup_r dX8_acts_286 ?_
    refine mx_get 8 56 (ref := "PrairiePoolModel") cl_8 (Nat.le_of_ble_eq_true rfl) (Or.inl q1683) (Or.inl rfl) dX8_acts_287 (fv_8_56 _ _) (ly8_k La0_h4) ?_
    refine mx_ti ((ah_skIA eh4 (by omega)).trans (ah_skIA eh3 (by omega))) ?_
    refine mx_iconst dX8_acts_290 ic_1 ?_
    refine mx_iadd dX8_acts_291 ?_
    refine mx_putI 8 56 (ref := "PrairiePoolModel") cl_8 (Nat.le_of_ble_eq_true rfl) (Or.inl q1683) (Or.inl rfl) dX8_acts_292 (Or.inl rfl) rfl (ly8_k La0_h4) ?_
    refine mx_nmI  (fun h5 eh5 Xh5 Kh5 Lh5 => ?_)
    have H := H h5 eh5 Xh5
    have Kh5 := Kh5.trans Kh4
    have Lh5 := Lh5.trans Lh4
    have La0_h5 := La0_h4.ext Xh5
    refine mx_aload_n dX8_acts_295 rfl rfl ?_
    refine mx_get 8 57 (ref := "PrairiePoolModel") cl_8 (Nat.le_of_ble_eq_true rfl) (Or.inl q1684) (Or.inl rfl) dX8_acts_296 (fv_8_57 _ _) (ly8_k La0_h5) ?_
    refine mx_ti (((ah_skIK eh5 (by decide)).trans (ah_skIA eh4 (by omega))).trans (ah_skIA eh3 (by omega))) ?_
    exact mx_iret rfl dX8_acts_299 H
  · have H := H.2 c1
    refine mx_aload_n dX8_acts_236 rfl rfl ?_
    refine mx_get 8 65 (ref := "PrairiePoolModel") cl_8 (Nat.le_of_ble_eq_true rfl) (Or.inl q1692) (Or.inl rfl) dX8_acts_237 (fv_8_65 _ _) (ly8_k La0_h) ?_
    refine mx_tr (ly8_R_0_65 La0_h) ?_
    refine mx_bipush dX8_acts_240 ib_10 ?_
    refine mx_aload_n dX8_acts_242 rfl rfl ?_
    refine mx_get 8 56 (ref := "PrairiePoolModel") cl_8 (Nat.le_of_ble_eq_true rfl) (Or.inl q1683) (Or.inl rfl) dX8_acts_243 (fv_8_56 _ _) (ly8_k La0_h) ?_
    refine mx_imul dX8_acts_246 ?_
    refine mx_iload_n dX8_acts_247 rfl rfl ?_
    refine mx_iadd dX8_acts_248 ?_
    refine mx_aload_n dX8_acts_249 rfl rfl ?_
    refine mx_get 8 66 (ref := "PrairiePoolModel") cl_8 (Nat.le_of_ble_eq_true rfl) (Or.inl q1693) (Or.inl rfl) dX8_acts_250 (fv_8_66 _ _) (ly8_k La0_h) ?_
    refine mx_tr (ly8_R_0_66 La0_h) ?_
    refine mx_iload_n dX8_acts_253 rfl rfl ?_
    obtain ⟨k6, H⟩ := H
    refine my_lald dX8_acts_254 rfl (ly8_A_43 La0_h k6) ?_
    obtain ⟨k7, H⟩ := H
    refine my_last dX8_acts_255 rfl (ly8_A_42 La0_h k7) ?_
    refine mx_nmJ  (fun h8 eh8 Xh8 Kh8 Lh8 => ?_)
    have H := H h8 eh8 Xh8
    have La0_h8 := La0_h.ext Xh8
    refine mx_iinc (al' := [some (rv a0), none, some (iv x2), some (iv (x3 + (1 : Int32)))]) dX8_acts_256 rfl ic_1 rfl ?_
    refine mx_goto (tgt := 228) dX8_acts_259 rfl ?_
    exact mx_weak (al' := [some (rv a0), none, some (iv x2), some (iv (x3 + (1 : Int32)))]) ⟨rfl, ⟨rfl, ⟨rfl, trivial⟩⟩⟩ H
theorem dX8_next_0 : decode mi_X8_next.2.1 0 = .ok (.aload_n 0, 1) := by decide +kernel
theorem dX8_next_1 : decode mi_X8_next.2.1 1 = .ok (.aload_n 0, 1) := by decide +kernel
theorem dX8_next_2 : decode mi_X8_next.2.1 2 = .ok (.getfield 413, 3) := by decide +kernel
theorem dX8_next_5 : decode mi_X8_next.2.1 5 = .ok (.putfield 416, 3) := by decide +kernel
theorem dX8_next_8 : decode mi_X8_next.2.1 8 = .ok (.aload_n 0, 1) := by decide +kernel
theorem dX8_next_9 : decode mi_X8_next.2.1 9 = .ok (.getfield 416, 3) := by decide +kernel
theorem dX8_next_12 : decode mi_X8_next.2.1 12 = .ok (.aload_n 0, 1) := by decide +kernel
theorem dX8_next_13 : decode mi_X8_next.2.1 13 = .ok (.getfield 410, 3) := by decide +kernel
theorem dX8_next_16 : decode mi_X8_next.2.1 16 = .ok (.if_icmp .ge 42, 3) := by decide +kernel
theorem dX8_next_19 : decode mi_X8_next.2.1 19 = .ok (.aload_n 0, 1) := by decide +kernel
theorem dX8_next_20 : decode mi_X8_next.2.1 20 = .ok (.aload_n 0, 1) := by decide +kernel
theorem dX8_next_21 : decode mi_X8_next.2.1 21 = .ok (.getfield 416, 3) := by decide +kernel
theorem dX8_next_24 : decode mi_X8_next.2.1 24 = .ok (.invokevirtual 419, 3) := by decide +kernel
theorem dX8_next_27 : decode mi_X8_next.2.1 27 = .ok (.bipush 10, 2) := by decide +kernel
theorem dX8_next_29 : decode mi_X8_next.2.1 29 = .ok (.if_icmp .eq 16, 3) := by decide +kernel
theorem dX8_next_32 : decode mi_X8_next.2.1 32 = .ok (.aload_n 0, 1) := by decide +kernel
theorem dX8_next_33 : decode mi_X8_next.2.1 33 = .ok (.aload_n 0, 1) := by decide +kernel
theorem dX8_next_34 : decode mi_X8_next.2.1 34 = .ok (.getfield 416, 3) := by decide +kernel
theorem dX8_next_37 : decode mi_X8_next.2.1 37 = .ok (.invokevirtual 419, 3) := by decide +kernel
theorem dX8_next_40 : decode mi_X8_next.2.1 40 = .ok (.bipush 32, 2) := by decide +kernel
theorem dX8_next_42 : decode mi_X8_next.2.1 42 = .ok (.if_icmp .ne 16, 3) := by decide +kernel
theorem dX8_next_45 : decode mi_X8_next.2.1 45 = .ok (.aload_n 0, 1) := by decide +kernel
theorem dX8_next_46 : decode mi_X8_next.2.1 46 = .ok (.dup, 1) := by decide +kernel
theorem dX8_next_47 : decode mi_X8_next.2.1 47 = .ok (.getfield 416, 3) := by decide +kernel
theorem dX8_next_50 : decode mi_X8_next.2.1 50 = .ok (.iconst 1, 1) := by decide +kernel
theorem dX8_next_51 : decode mi_X8_next.2.1 51 = .ok (.iadd, 1) := by decide +kernel
theorem dX8_next_52 : decode mi_X8_next.2.1 52 = .ok (.putfield 416, 3) := by decide +kernel
theorem dX8_next_55 : decode mi_X8_next.2.1 55 = .ok (.goto (-47), 3) := by decide +kernel
theorem dX8_next_58 : decode mi_X8_next.2.1 58 = .ok (.aload_n 0, 1) := by decide +kernel
theorem dX8_next_59 : decode mi_X8_next.2.1 59 = .ok (.aload_n 0, 1) := by decide +kernel
theorem dX8_next_60 : decode mi_X8_next.2.1 60 = .ok (.getfield 416, 3) := by decide +kernel
theorem dX8_next_63 : decode mi_X8_next.2.1 63 = .ok (.putfield 413, 3) := by decide +kernel
theorem dX8_next_66 : decode mi_X8_next.2.1 66 = .ok (.aload_n 0, 1) := by decide +kernel
theorem dX8_next_67 : decode mi_X8_next.2.1 67 = .ok (.getfield 416, 3) := by decide +kernel
theorem dX8_next_70 : decode mi_X8_next.2.1 70 = .ok (.aload_n 0, 1) := by decide +kernel
theorem dX8_next_71 : decode mi_X8_next.2.1 71 = .ok (.getfield 410, 3) := by decide +kernel
theorem dX8_next_74 : decode mi_X8_next.2.1 74 = .ok (.if_icmp .lt 9, 3) := by decide +kernel
theorem dX8_next_77 : decode mi_X8_next.2.1 77 = .ok (.aload_n 0, 1) := by decide +kernel
theorem dX8_next_78 : decode mi_X8_next.2.1 78 = .ok (.iconst 0, 1) := by decide +kernel
theorem dX8_next_79 : decode mi_X8_next.2.1 79 = .ok (.putfield 422, 3) := by decide +kernel
theorem dX8_next_82 : decode mi_X8_next.2.1 82 = .ok (.return_, 1) := by decide +kernel
theorem dX8_next_83 : decode mi_X8_next.2.1 83 = .ok (.aload_n 0, 1) := by decide +kernel
theorem dX8_next_84 : decode mi_X8_next.2.1 84 = .ok (.aload_n 0, 1) := by decide +kernel
theorem dX8_next_85 : decode mi_X8_next.2.1 85 = .ok (.getfield 416, 3) := by decide +kernel
theorem dX8_next_88 : decode mi_X8_next.2.1 88 = .ok (.invokevirtual 419, 3) := by decide +kernel
theorem dX8_next_91 : decode mi_X8_next.2.1 91 = .ok (.istore_n 1, 1) := by decide +kernel
theorem dX8_next_92 : decode mi_X8_next.2.1 92 = .ok (.iload_n 1, 1) := by decide +kernel
theorem dX8_next_93 : decode mi_X8_next.2.1 93 = .ok (.invokestatic 425, 3) := by decide +kernel
theorem dX8_next_96 : decode mi_X8_next.2.1 96 = .ok (.ifCond .eq 102, 3) := by decide +kernel
theorem dX8_next_99 : decode mi_X8_next.2.1 99 = .ok (.aload_n 0, 1) := by decide +kernel
theorem dX8_next_100 : decode mi_X8_next.2.1 100 = .ok (.iconst 1, 1) := by decide +kernel
theorem dX8_next_101 : decode mi_X8_next.2.1 101 = .ok (.putfield 422, 3) := by decide +kernel
theorem dX8_next_104 : decode mi_X8_next.2.1 104 = .ok (.aload_n 0, 1) := by decide +kernel
theorem dX8_next_105 : decode mi_X8_next.2.1 105 = .ok (.lconst 0, 1) := by decide +kernel
theorem dX8_next_106 : decode mi_X8_next.2.1 106 = .ok (.putfield 428, 3) := by decide +kernel
theorem dX8_next_109 : decode mi_X8_next.2.1 109 = .ok (.aload_n 0, 1) := by decide +kernel
theorem dX8_next_110 : decode mi_X8_next.2.1 110 = .ok (.aload_n 0, 1) := by decide +kernel
theorem dX8_next_111 : decode mi_X8_next.2.1 111 = .ok (.getfield 413, 3) := by decide +kernel
theorem dX8_next_114 : decode mi_X8_next.2.1 114 = .ok (.invokevirtual 419, 3) := by decide +kernel
theorem dX8_next_117 : decode mi_X8_next.2.1 117 = .ok (.invokestatic 425, 3) := by decide +kernel
theorem dX8_next_120 : decode mi_X8_next.2.1 120 = .ok (.ifCond .eq 62, 3) := by decide +kernel
theorem dX8_next_123 : decode mi_X8_next.2.1 123 = .ok (.aload_n 0, 1) := by decide +kernel
theorem dX8_next_124 : decode mi_X8_next.2.1 124 = .ok (.aload_n 0, 1) := by decide +kernel
theorem dX8_next_125 : decode mi_X8_next.2.1 125 = .ok (.getfield 413, 3) := by decide +kernel
theorem dX8_next_128 : decode mi_X8_next.2.1 128 = .ok (.aload_n 0, 1) := by decide +kernel
theorem dX8_next_129 : decode mi_X8_next.2.1 129 = .ok (.getfield 416, 3) := by decide +kernel
theorem dX8_next_132 : decode mi_X8_next.2.1 132 = .ok (.isub, 1) := by decide +kernel
theorem dX8_next_133 : decode mi_X8_next.2.1 133 = .ok (.bipush 12, 2) := by decide +kernel
theorem dX8_next_135 : decode mi_X8_next.2.1 135 = .ok (.if_icmp .ge 28, 3) := by decide +kernel
theorem dX8_next_138 : decode mi_X8_next.2.1 138 = .ok (.aload_n 0, 1) := by decide +kernel
theorem dX8_next_139 : decode mi_X8_next.2.1 139 = .ok (.getfield 428, 3) := by decide +kernel
theorem dX8_next_142 : decode mi_X8_next.2.1 142 = .ok (.ldc2_w 432, 3) := by decide +kernel
theorem dX8_next_145 : decode mi_X8_next.2.1 145 = .ok (.lmul, 1) := by decide +kernel
theorem dX8_next_146 : decode mi_X8_next.2.1 146 = .ok (.aload_n 0, 1) := by decide +kernel
theorem dX8_next_147 : decode mi_X8_next.2.1 147 = .ok (.aload_n 0, 1) := by decide +kernel
theorem dX8_next_148 : decode mi_X8_next.2.1 148 = .ok (.getfield 413, 3) := by decide +kernel
theorem dX8_next_151 : decode mi_X8_next.2.1 151 = .ok (.invokevirtual 419, 3) := by decide +kernel
theorem dX8_next_154 : decode mi_X8_next.2.1 154 = .ok (.i2l, 1) := by decide +kernel
theorem dX8_next_155 : decode mi_X8_next.2.1 155 = .ok (.ladd, 1) := by decide +kernel
theorem dX8_next_156 : decode mi_X8_next.2.1 156 = .ok (.ldc2_w 434, 3) := by decide +kernel
theorem dX8_next_159 : decode mi_X8_next.2.1 159 = .ok (.lsub, 1) := by decide +kernel
theorem dX8_next_160 : decode mi_X8_next.2.1 160 = .ok (.goto 6, 3) := by decide +kernel
theorem dX8_next_163 : decode mi_X8_next.2.1 163 = .ok (.ldc2_w 289, 3) := by decide +kernel
theorem dX8_next_166 : decode mi_X8_next.2.1 166 = .ok (.putfield 428, 3) := by decide +kernel
theorem dX8_next_169 : decode mi_X8_next.2.1 169 = .ok (.aload_n 0, 1) := by decide +kernel
theorem dX8_next_170 : decode mi_X8_next.2.1 170 = .ok (.dup, 1) := by decide +kernel
theorem dX8_next_171 : decode mi_X8_next.2.1 171 = .ok (.getfield 413, 3) := by decide +kernel
theorem dX8_next_174 : decode mi_X8_next.2.1 174 = .ok (.iconst 1, 1) := by decide +kernel
theorem dX8_next_175 : decode mi_X8_next.2.1 175 = .ok (.iadd, 1) := by decide +kernel
theorem dX8_next_176 : decode mi_X8_next.2.1 176 = .ok (.putfield 413, 3) := by decide +kernel
theorem dX8_next_179 : decode mi_X8_next.2.1 179 = .ok (.goto (-70), 3) := by decide +kernel
theorem dX8_next_182 : decode mi_X8_next.2.1 182 = .ok (.aload_n 0, 1) := by decide +kernel
theorem dX8_next_183 : decode mi_X8_next.2.1 183 = .ok (.aload_n 0, 1) := by decide +kernel
theorem dX8_next_184 : decode mi_X8_next.2.1 184 = .ok (.getfield 413, 3) := by decide +kernel
theorem dX8_next_187 : decode mi_X8_next.2.1 187 = .ok (.aload_n 0, 1) := by decide +kernel
theorem dX8_next_188 : decode mi_X8_next.2.1 188 = .ok (.getfield 416, 3) := by decide +kernel
theorem dX8_next_191 : decode mi_X8_next.2.1 191 = .ok (.isub, 1) := by decide +kernel
theorem dX8_next_192 : decode mi_X8_next.2.1 192 = .ok (.putfield 436, 3) := by decide +kernel
theorem dX8_next_195 : decode mi_X8_next.2.1 195 = .ok (.goto 169, 3) := by decide +kernel
theorem dX8_next_198 : decode mi_X8_next.2.1 198 = .ok (.iload_n 1, 1) := by decide +kernel
theorem dX8_next_199 : decode mi_X8_next.2.1 199 = .ok (.invokestatic 439, 3) := by decide +kernel
theorem dX8_next_202 : decode mi_X8_next.2.1 202 = .ok (.ifCond .eq 98, 3) := by decide +kernel
theorem dX8_next_205 : decode mi_X8_next.2.1 205 = .ok (.aload_n 0, 1) := by decide +kernel
theorem dX8_next_206 : decode mi_X8_next.2.1 206 = .ok (.iconst 0, 1) := by decide +kernel
theorem dX8_next_207 : decode mi_X8_next.2.1 207 = .ok (.putfield 442, 3) := by decide +kernel
theorem dX8_next_210 : decode mi_X8_next.2.1 210 = .ok (.aload_n 0, 1) := by decide +kernel
theorem dX8_next_211 : decode mi_X8_next.2.1 211 = .ok (.aload_n 0, 1) := by decide +kernel
theorem dX8_next_212 : decode mi_X8_next.2.1 212 = .ok (.getfield 413, 3) := by decide +kernel
theorem dX8_next_215 : decode mi_X8_next.2.1 215 = .ok (.invokevirtual 419, 3) := by decide +kernel
theorem dX8_next_218 : decode mi_X8_next.2.1 218 = .ok (.invokestatic 439, 3) := by decide +kernel
theorem dX8_next_221 : decode mi_X8_next.2.1 221 = .ok (.ifCond .eq 53, 3) := by decide +kernel
theorem dX8_next_224 : decode mi_X8_next.2.1 224 = .ok (.aload_n 0, 1) := by decide +kernel
theorem dX8_next_225 : decode mi_X8_next.2.1 225 = .ok (.getfield 413, 3) := by decide +kernel
theorem dX8_next_228 : decode mi_X8_next.2.1 228 = .ok (.aload_n 0, 1) := by decide +kernel
theorem dX8_next_229 : decode mi_X8_next.2.1 229 = .ok (.getfield 416, 3) := by decide +kernel
theorem dX8_next_232 : decode mi_X8_next.2.1 232 = .ok (.isub, 1) := by decide +kernel
theorem dX8_next_233 : decode mi_X8_next.2.1 233 = .ok (.bipush 6, 2) := by decide +kernel
theorem dX8_next_235 : decode mi_X8_next.2.1 235 = .ok (.if_icmp .ge 26, 3) := by decide +kernel
theorem dX8_next_238 : decode mi_X8_next.2.1 238 = .ok (.aload_n 0, 1) := by decide +kernel
theorem dX8_next_239 : decode mi_X8_next.2.1 239 = .ok (.bipush 10, 2) := by decide +kernel
theorem dX8_next_241 : decode mi_X8_next.2.1 241 = .ok (.aload_n 0, 1) := by decide +kernel
theorem dX8_next_242 : decode mi_X8_next.2.1 242 = .ok (.getfield 442, 3) := by decide +kernel
theorem dX8_next_245 : decode mi_X8_next.2.1 245 = .ok (.imul, 1) := by decide +kernel
theorem dX8_next_246 : decode mi_X8_next.2.1 246 = .ok (.aload_n 0, 1) := by decide +kernel
theorem dX8_next_247 : decode mi_X8_next.2.1 247 = .ok (.aload_n 0, 1) := by decide +kernel
theorem dX8_next_248 : decode mi_X8_next.2.1 248 = .ok (.getfield 413, 3) := by decide +kernel
theorem dX8_next_251 : decode mi_X8_next.2.1 251 = .ok (.invokevirtual 419, 3) := by decide +kernel
theorem dX8_next_254 : decode mi_X8_next.2.1 254 = .ok (.iadd, 1) := by decide +kernel
theorem dX8_next_255 : decode mi_X8_next.2.1 255 = .ok (.bipush 48, 2) := by decide +kernel
theorem dX8_next_257 : decode mi_X8_next.2.1 257 = .ok (.isub, 1) := by decide +kernel
theorem dX8_next_258 : decode mi_X8_next.2.1 258 = .ok (.putfield 442, 3) := by decide +kernel
theorem dX8_next_261 : decode mi_X8_next.2.1 261 = .ok (.aload_n 0, 1) := by decide +kernel
theorem dX8_next_262 : decode mi_X8_next.2.1 262 = .ok (.dup, 1) := by decide +kernel
theorem dX8_next_263 : decode mi_X8_next.2.1 263 = .ok (.getfield 413, 3) := by decide +kernel
theorem dX8_next_266 : decode mi_X8_next.2.1 266 = .ok (.iconst 1, 1) := by decide +kernel
theorem dX8_next_267 : decode mi_X8_next.2.1 267 = .ok (.iadd, 1) := by decide +kernel
theorem dX8_next_268 : decode mi_X8_next.2.1 268 = .ok (.putfield 413, 3) := by decide +kernel
theorem dX8_next_271 : decode mi_X8_next.2.1 271 = .ok (.goto (-61), 3) := by decide +kernel
theorem dX8_next_274 : decode mi_X8_next.2.1 274 = .ok (.aload_n 0, 1) := by decide +kernel
theorem dX8_next_275 : decode mi_X8_next.2.1 275 = .ok (.aload_n 0, 1) := by decide +kernel
theorem dX8_next_276 : decode mi_X8_next.2.1 276 = .ok (.getfield 413, 3) := by decide +kernel
theorem dX8_next_279 : decode mi_X8_next.2.1 279 = .ok (.aload_n 0, 1) := by decide +kernel
theorem dX8_next_280 : decode mi_X8_next.2.1 280 = .ok (.getfield 416, 3) := by decide +kernel
theorem dX8_next_283 : decode mi_X8_next.2.1 283 = .ok (.isub, 1) := by decide +kernel
theorem dX8_next_284 : decode mi_X8_next.2.1 284 = .ok (.bipush 6, 2) := by decide +kernel
theorem dX8_next_286 : decode mi_X8_next.2.1 286 = .ok (.if_icmp .le 7, 3) := by decide +kernel
theorem dX8_next_289 : decode mi_X8_next.2.1 289 = .ok (.iconst 4, 1) := by decide +kernel
theorem dX8_next_290 : decode mi_X8_next.2.1 290 = .ok (.goto 4, 3) := by decide +kernel
theorem dX8_next_293 : decode mi_X8_next.2.1 293 = .ok (.iconst 2, 1) := by decide +kernel
theorem dX8_next_294 : decode mi_X8_next.2.1 294 = .ok (.putfield 422, 3) := by decide +kernel
theorem dX8_next_297 : decode mi_X8_next.2.1 297 = .ok (.goto 67, 3) := by decide +kernel
theorem dX8_next_300 : decode mi_X8_next.2.1 300 = .ok (.aload_n 0, 1) := by decide +kernel
theorem dX8_next_301 : decode mi_X8_next.2.1 301 = .ok (.aload_n 0, 1) := by decide +kernel
theorem dX8_next_302 : decode mi_X8_next.2.1 302 = .ok (.getfield 416, 3) := by decide +kernel
theorem dX8_next_305 : decode mi_X8_next.2.1 305 = .ok (.iconst 1, 1) := by decide +kernel
theorem dX8_next_306 : decode mi_X8_next.2.1 306 = .ok (.iadd, 1) := by decide +kernel
theorem dX8_next_307 : decode mi_X8_next.2.1 307 = .ok (.putfield 413, 3) := by decide +kernel
theorem dX8_next_310 : decode mi_X8_next.2.1 310 = .ok (.aload_n 0, 1) := by decide +kernel
theorem dX8_next_311 : decode mi_X8_next.2.1 311 = .ok (.iload_n 1, 1) := by decide +kernel
theorem dX8_next_312 : decode mi_X8_next.2.1 312 = .ok (.putfield 442, 3) := by decide +kernel
theorem dX8_next_315 : decode mi_X8_next.2.1 315 = .ok (.aload_n 0, 1) := by decide +kernel
theorem dX8_next_316 : decode mi_X8_next.2.1 316 = .ok (.iload_n 1, 1) := by decide +kernel
theorem dX8_next_317 : decode mi_X8_next.2.1 317 = .ok (.i2l, 1) := by decide +kernel
theorem dX8_next_318 : decode mi_X8_next.2.1 318 = .ok (.ldc2_w 445, 3) := by decide +kernel
theorem dX8_next_321 : decode mi_X8_next.2.1 321 = .ok (.ldc2_w 447, 3) := by decide +kernel
theorem dX8_next_324 : decode mi_X8_next.2.1 324 = .ok (.invokestatic 265, 3) := by decide +kernel
theorem dX8_next_327 : decode mi_X8_next.2.1 327 = .ok (.ifCond .ne 29, 3) := by decide +kernel
theorem dX8_next_330 : decode mi_X8_next.2.1 330 = .ok (.iload_n 1, 1) := by decide +kernel
theorem dX8_next_331 : decode mi_X8_next.2.1 331 = .ok (.i2l, 1) := by decide +kernel
theorem dX8_next_332 : decode mi_X8_next.2.1 332 = .ok (.ldc2_w 449, 3) := by decide +kernel
theorem dX8_next_335 : decode mi_X8_next.2.1 335 = .ok (.ldc2_w 451, 3) := by decide +kernel
theorem dX8_next_338 : decode mi_X8_next.2.1 338 = .ok (.invokestatic 265, 3) := by decide +kernel
theorem dX8_next_341 : decode mi_X8_next.2.1 341 = .ok (.ifCond .ne 15, 3) := by decide +kernel
theorem dX8_next_344 : decode mi_X8_next.2.1 344 = .ok (.iload_n 1, 1) := by decide +kernel
theorem dX8_next_345 : decode mi_X8_next.2.1 345 = .ok (.bipush 47, 2) := by decide +kernel
theorem dX8_next_347 : decode mi_X8_next.2.1 347 = .ok (.if_icmp .eq 9, 3) := by decide +kernel
theorem dX8_next_350 : decode mi_X8_next.2.1 350 = .ok (.iload_n 1, 1) := by decide +kernel
theorem dX8_next_351 : decode mi_X8_next.2.1 351 = .ok (.bipush 37, 2) := by decide +kernel
theorem dX8_next_353 : decode mi_X8_next.2.1 353 = .ok (.if_icmp .ne 7, 3) := by decide +kernel
theorem dX8_next_356 : decode mi_X8_next.2.1 356 = .ok (.iconst 3, 1) := by decide +kernel
theorem dX8_next_357 : decode mi_X8_next.2.1 357 = .ok (.goto 4, 3) := by decide +kernel
theorem dX8_next_360 : decode mi_X8_next.2.1 360 = .ok (.iconst 4, 1) := by decide +kernel
theorem dX8_next_361 : decode mi_X8_next.2.1 361 = .ok (.putfield 422, 3) := by decide +kernel
theorem dX8_next_364 : decode mi_X8_next.2.1 364 = .ok (.return_, 1) := by decide +kernel
theorem v_X8_next {G : ma_G} {d : Nat} {a0 : Nat} {h : ah_T} {Q : Option ma_V → ah_T → Prop} {E : Nat → ah_T → Prop} (La0_h : LY8 h a0) (H : ∀ h1 : ah_T, h1 = ah_wI h a0 51 (ah_I h a0 52) → ah_ext h h1 → MX G mi_X8_next (d + 1) 8 [some (rv a0), none] [] h1 Q E) : MX G mi_X8_next (d + 1) 0 [some (rv a0), none] [] h Q E := by
  refine mx_aload_n dX8_next_0 rfl rfl ?_
  refine mx_aload_n dX8_next_1 rfl rfl ?_
  refine mx_get 8 52 (ref := "PrairiePoolModel") cl_8 (Nat.le_of_ble_eq_true rfl) (Or.inl q1679) (Or.inl rfl) dX8_next_2 (fv_8_52 _ _) (ly8_k La0_h) ?_
  refine mx_putI 8 51 (ref := "PrairiePoolModel") cl_8 (Nat.le_of_ble_eq_true rfl) (Or.inl q1678) (Or.inl rfl) dX8_next_5 (Or.inl rfl) rfl (ly8_k La0_h) ?_
  refine mx_nmI  (fun h1 eh1 Xh1 Kh1 Lh1 => ?_)
  have H := H h1 eh1 Xh1
  have La0_h1 := La0_h.ext Xh1
  exact mx_weak (al' := [some (rv a0), none]) ⟨rfl, trivial⟩ H
theorem v_X8_next_8 {G : ma_G} {d : Nat} {a0 : Nat} {h : ah_T} {Q : Option ma_V → ah_T → Prop} {E : Nat → ah_T → Prop} (La0_h : LY8 h a0) (H : ((ah_I h a0 45) ≤ (ah_I h a0 51) → MX G mi_X8_next (d + 1) 58 [some (rv a0), none] [] h Q E) ∧ (¬ (ah_I h a0 45) ≤ (ah_I h a0 51) → vp_in (ah_I h a0 51) 500 ∧ (((ah_I h (a0 + 35) (ah_I h a0 51).toNatClampNeg) &&& (255 : Int32)) = (10 : Int32) → ∀ h4 : ah_T, h4 = ah_wI h a0 51 ((ah_I h a0 51) + (1 : Int32)) → ah_ext h h4 → MX G mi_X8_next (d + 1) 8 [some (rv a0), none] [] h4 Q E) ∧ (¬ ((ah_I h (a0 + 35) (ah_I h a0 51).toNatClampNeg) &&& (255 : Int32)) = (10 : Int32) → (¬ ((ah_I h (a0 + 35) (ah_I h a0 51).toNatClampNeg) &&& (255 : Int32)) = (32 : Int32) → MX G mi_X8_next (d + 1) 58 [some (rv a0), none] [] h Q E) ∧ (((ah_I h (a0 + 35) (ah_I h a0 51).toNatClampNeg) &&& (255 : Int32)) = (32 : Int32) → ∀ h6 : ah_T, h6 = ah_wI h a0 51 ((ah_I h a0 51) + (1 : Int32)) → ah_ext h h6 → MX G mi_X8_next (d + 1) 8 [some (rv a0), none] [] h6 Q E)))) : MX G mi_X8_next (d + 1) 8 [some (rv a0), none] [] h Q E := by
  refine mx_aload_n dX8_next_8 rfl rfl ?_
  refine mx_get 8 51 (ref := "PrairiePoolModel") cl_8 (Nat.le_of_ble_eq_true rfl) (Or.inl q1678) (Or.inl rfl) dX8_next_9 (fv_8_51 _ _) (ly8_k La0_h) ?_
  refine mx_aload_n dX8_next_12 rfl rfl ?_
  refine mx_get 8 45 (ref := "PrairiePoolModel") cl_8 (Nat.le_of_ble_eq_true rfl) (Or.inl q1672) (Or.inl rfl) dX8_next_13 (fv_8_45 _ _) (ly8_k La0_h) ?_
  refine mx_icmp_ge (tgt := 58) dX8_next_16 rfl (fun c1 => ?_) (fun c1 => ?_)
  · have H := H.1 c1
    exact mx_weak (al' := [some (rv a0), none]) ⟨rfl, trivial⟩ H
  · have H := H.2 c1
    refine mx_aload_n dX8_next_19 rfl rfl ?_
    refine mx_aload_n dX8_next_20 rfl rfl ?_
    refine mx_get 8 51 (ref := "PrairiePoolModel") cl_8 (Nat.le_of_ble_eq_true rfl) (Or.inl q1678) (Or.inl rfl) dX8_next_21 (fv_8_51 _ _) (ly8_k La0_h) ?_
    refine mx_callV 8 (y' := mi_X8_look) (vs := [iv (ah_I h a0 51)]) (st := []) (al' := [some (rv a0), some (iv (ah_I h a0 51))]) cl_8 V_X8_look (Or.inl q2174) dX8_next_24 rfl rfl (Nat.le_of_ble_eq_true rfl) (Nat.le_of_ble_eq_true rfl) (ly8_k La0_h) ?_
    refine mx_iload_n dX8_look_0 rfl rfl ?_
    refine mx_aload_n dX8_look_1 rfl rfl ?_
    refine mx_get 8 45 (ref := "PrairiePoolModel") cl_8 (Nat.le_of_ble_eq_true rfl) (Or.inl q1672) (Or.inl rfl) dX8_look_2 (fv_8_45 _ _) (ly8_k La0_h) ?_
    refine mx_icmp_ge (tgt := 21) dX8_look_5 rfl (fun q_ => absurd q_ c1) (fun _ => ?_)
    refine mx_aload_n dX8_look_8 rfl rfl ?_
    refine mx_get 8 43 (ref := "PrairiePoolModel") cl_8 (Nat.le_of_ble_eq_true rfl) (Or.inl q1670) (Or.inl rfl) dX8_look_9 (fv_8_43 _ _) (ly8_k La0_h) ?_
    refine mx_tr (ly8_R_0_43 La0_h) ?_
    refine mx_iload_n dX8_look_12 rfl rfl ?_
    obtain ⟨k2, H⟩ := H
    refine my_bald dX8_look_13 rfl (ly8_A_35 La0_h k2) ?_
    refine mx_sipush dX8_look_14 is_255 ?_
    refine mx_iand dX8_look_17 ?_
    refine mx_goto (tgt := 22) dX8_look_18 rfl ?_
    refine mx_iretK rfl dX8_look_22 ?_
    refine mx_bipush dX8_next_27 ib_10 ?_
    refine mx_icmp_eq (tgt := 45) dX8_next_29 rfl (fun c3 => ?_) (fun c3 => ?_)
    · have H := H.1 c3
      refine mx_aload_n dX8_next_45 rfl rfl ?_
      refine mx_dup_r dX8_next_46 ?_
      refine mx_get 8 51 (ref := "PrairiePoolModel") cl_8 (Nat.le_of_ble_eq_true rfl) (Or.inl q1678) (Or.inl rfl) dX8_next_47 (fv_8_51 _ _) (ly8_k La0_h) ?_
      refine mx_iconst dX8_next_50 ic_1 ?_
      refine mx_iadd dX8_next_51 ?_
      refine mx_putI 8 51 (ref := "PrairiePoolModel") cl_8 (Nat.le_of_ble_eq_true rfl) (Or.inl q1678) (Or.inl rfl) dX8_next_52 (Or.inl rfl) rfl (ly8_k La0_h) ?_
      refine mx_nmI  (fun h4 eh4 Xh4 Kh4 Lh4 => ?_)
      have H := H h4 eh4 Xh4
      have La0_h4 := La0_h.ext Xh4
      refine mx_goto (tgt := 8) dX8_next_55 rfl ?_
      exact mx_weak (al' := [some (rv a0), none]) ⟨rfl, trivial⟩ H
    · have H := H.2 c3
      refine mx_aload_n dX8_next_32 rfl rfl ?_
      refine mx_aload_n dX8_next_33 rfl rfl ?_
      refine mx_get 8 51 (ref := "PrairiePoolModel") cl_8 (Nat.le_of_ble_eq_true rfl) (Or.inl q1678) (Or.inl rfl) dX8_next_34 (fv_8_51 _ _) (ly8_k La0_h) ?_
      refine mx_callV 8 (y' := mi_X8_look) (vs := [iv (ah_I h a0 51)]) (st := []) (al' := [some (rv a0), some (iv (ah_I h a0 51))]) cl_8 V_X8_look (Or.inl q2174) dX8_next_37 rfl rfl (Nat.le_of_ble_eq_true rfl) (Nat.le_of_ble_eq_true rfl) (ly8_k La0_h) ?_
      refine mx_iload_n dX8_look_0 rfl rfl ?_
      refine mx_aload_n dX8_look_1 rfl rfl ?_
      refine mx_get 8 45 (ref := "PrairiePoolModel") cl_8 (Nat.le_of_ble_eq_true rfl) (Or.inl q1672) (Or.inl rfl) dX8_look_2 (fv_8_45 _ _) (ly8_k La0_h) ?_
      refine mx_icmp_ge (tgt := 21) dX8_look_5 rfl (fun q_ => absurd q_ c1) (fun _ => ?_)
      refine mx_aload_n dX8_look_8 rfl rfl ?_
      refine mx_get 8 43 (ref := "PrairiePoolModel") cl_8 (Nat.le_of_ble_eq_true rfl) (Or.inl q1670) (Or.inl rfl) dX8_look_9 (fv_8_43 _ _) (ly8_k La0_h) ?_
      refine mx_tr (ly8_R_0_43 La0_h) ?_
      refine mx_iload_n dX8_look_12 rfl rfl ?_
      refine my_bald dX8_look_13 rfl (ly8_A_35 La0_h k2) ?_
      refine mx_sipush dX8_look_14 is_255 ?_
      refine mx_iand dX8_look_17 ?_
      refine mx_goto (tgt := 22) dX8_look_18 rfl ?_
      refine mx_iretK rfl dX8_look_22 ?_
      refine mx_bipush dX8_next_40 ib_32 ?_
      refine mx_icmp_ne (tgt := 58) dX8_next_42 rfl (fun c5 => ?_) (fun c5 => ?_)
      · have H := H.1 c5
        exact mx_weak (al' := [some (rv a0), none]) ⟨rfl, trivial⟩ H
      · have H := H.2 c5
        refine mx_aload_n dX8_next_45 rfl rfl ?_
        refine mx_dup_r dX8_next_46 ?_
        refine mx_get 8 51 (ref := "PrairiePoolModel") cl_8 (Nat.le_of_ble_eq_true rfl) (Or.inl q1678) (Or.inl rfl) dX8_next_47 (fv_8_51 _ _) (ly8_k La0_h) ?_
        refine mx_iconst dX8_next_50 ic_1 ?_
        refine mx_iadd dX8_next_51 ?_
        refine mx_putI 8 51 (ref := "PrairiePoolModel") cl_8 (Nat.le_of_ble_eq_true rfl) (Or.inl q1678) (Or.inl rfl) dX8_next_52 (Or.inl rfl) rfl (ly8_k La0_h) ?_
        refine mx_nmI  (fun h6 eh6 Xh6 Kh6 Lh6 => ?_)
        have H := H h6 eh6 Xh6
        have La0_h6 := La0_h.ext Xh6
        refine mx_goto (tgt := 8) dX8_next_55 rfl ?_
        exact mx_weak (al' := [some (rv a0), none]) ⟨rfl, trivial⟩ H
theorem v_X8_next_58 {G : ma_G} {d : Nat} {a0 : Nat} {h : ah_T} {Q : Option ma_V → ah_T → Prop} {E : Nat → ah_T → Prop} (La0_h : LY8 h a0) (H : ∀ h1 : ah_T, h1 = ah_wI h a0 52 (ah_I h a0 51) → ah_ext h h1 → ((ah_I h a0 51) < (ah_I h a0 45) → ((ah_I h a0 45) ≤ (ah_I h a0 51) → ∀ h4 : ah_T, h4 = ah_wI h1 a0 52 ((ah_I h a0 51) + (1 : Int32)) → ah_ext h1 h4 → ∀ h5 : ah_T, h5 = ah_wI h4 a0 53 (0 : Int32) → ah_ext h4 h5 → ((0 : Int32).toInt64 < (58 : Int64) → ((0 : Int32).toInt64 < (40 : Int64) → ∀ h8 : ah_T, h8 = ah_wI h5 a0 50 (4 : Int32) → ah_ext h5 h8 → Q none h8) ∧ (¬ (0 : Int32).toInt64 < (40 : Int64) → ((45 : Int64) < (0 : Int32).toInt64 → ∀ h10 : ah_T, h10 = ah_wI h5 a0 50 (4 : Int32) → ah_ext h5 h10 → Q none h10) ∧ (¬ (45 : Int64) < (0 : Int32).toInt64 → ∀ h11 : ah_T, h11 = ah_wI h5 a0 50 (3 : Int32) → ah_ext h5 h11 → Q none h11))) ∧ (¬ (0 : Int32).toInt64 < (58 : Int64) → ((62 : Int64) < (0 : Int32).toInt64 → ((0 : Int32).toInt64 < (40 : Int64) → ∀ h14 : ah_T, h14 = ah_wI h5 a0 50 (4 : Int32) → ah_ext h5 h14 → Q none h14) ∧ (¬ (0 : Int32).toInt64 < (40 : Int64) → ((45 : Int64) < (0 : Int32).toInt64 → ∀ h16 : ah_T, h16 = ah_wI h5 a0 50 (4 : Int32) → ah_ext h5 h16 → Q none h16) ∧ (¬ (45 : Int64) < (0 : Int32).toInt64 → ∀ h17 : ah_T, h17 = ah_wI h5 a0 50 (3 : Int32) → ah_ext h5 h17 → Q none h17))) ∧ (¬ (62 : Int64) < (0 : Int32).toInt64 → ∀ h18 : ah_T, h18 = ah_wI h5 a0 50 (3 : Int32) → ah_ext h5 h18 → Q none h18))) ∧ (¬ (ah_I h a0 45) ≤ (ah_I h a0 51) → vp_in (ah_I h a0 51) 500 ∧ (((ah_I h (a0 + 35) (ah_I h a0 51).toNatClampNeg) &&& (255 : Int32)) < (97 : Int32) → (((ah_I h (a0 + 35) (ah_I h a0 51).toNatClampNeg) &&& (255 : Int32)) < (48 : Int32) → ∀ h22 : ah_T, h22 = ah_wI h1 a0 52 ((ah_I h a0 51) + (1 : Int32)) → ah_ext h1 h22 → ∀ h23 : ah_T, h23 = ah_wI h22 a0 53 ((ah_I h (a0 + 35) (ah_I h a0 51).toNatClampNeg) &&& (255 : Int32)) → ah_ext h22 h23 → (((ah_I h (a0 + 35) (ah_I h a0 51).toNatClampNeg) &&& (255 : Int32)).toInt64 < (58 : Int64) → (((ah_I h (a0 + 35) (ah_I h a0 51).toNatClampNeg) &&& (255 : Int32)).toInt64 < (40 : Int64) → (((ah_I h (a0 + 35) (ah_I h a0 51).toNatClampNeg) &&& (255 : Int32)) = (47 : Int32) → ∀ h27 : ah_T, h27 = ah_wI h23 a0 50 (3 : Int32) → ah_ext h23 h27 → Q none h27) ∧ (¬ ((ah_I h (a0 + 35) (ah_I h a0 51).toNatClampNeg) &&& (255 : Int32)) = (47 : Int32) → (¬ ((ah_I h (a0 + 35) (ah_I h a0 51).toNatClampNeg) &&& (255 : Int32)) = (37 : Int32) → ∀ h29 : ah_T, h29 = ah_wI h23 a0 50 (4 : Int32) → ah_ext h23 h29 → Q none h29) ∧ (((ah_I h (a0 + 35) (ah_I h a0 51).toNatClampNeg) &&& (255 : Int32)) = (37 : Int32) → ∀ h30 : ah_T, h30 = ah_wI h23 a0 50 (3 : Int32) → ah_ext h23 h30 → Q none h30))) ∧ (¬ ((ah_I h (a0 + 35) (ah_I h a0 51).toNatClampNeg) &&& (255 : Int32)).toInt64 < (40 : Int64) → ((45 : Int64) < ((ah_I h (a0 + 35) (ah_I h a0 51).toNatClampNeg) &&& (255 : Int32)).toInt64 → (((ah_I h (a0 + 35) (ah_I h a0 51).toNatClampNeg) &&& (255 : Int32)) = (47 : Int32) → ∀ h33 : ah_T, h33 = ah_wI h23 a0 50 (3 : Int32) → ah_ext h23 h33 → Q none h33) ∧ (¬ ((ah_I h (a0 + 35) (ah_I h a0 51).toNatClampNeg) &&& (255 : Int32)) = (47 : Int32) → (¬ ((ah_I h (a0 + 35) (ah_I h a0 51).toNatClampNeg) &&& (255 : Int32)) = (37 : Int32) → ∀ h35 : ah_T, h35 = ah_wI h23 a0 50 (4 : Int32) → ah_ext h23 h35 → Q none h35) ∧ (((ah_I h (a0 + 35) (ah_I h a0 51).toNatClampNeg) &&& (255 : Int32)) = (37 : Int32) → ∀ h36 : ah_T, h36 = ah_wI h23 a0 50 (3 : Int32) → ah_ext h23 h36 → Q none h36))) ∧ (¬ (45 : Int64) < ((ah_I h (a0 + 35) (ah_I h a0 51).toNatClampNeg) &&& (255 : Int32)).toInt64 → ∀ h37 : ah_T, h37 = ah_wI h23 a0 50 (3 : Int32) → ah_ext h23 h37 → Q none h37))) ∧ (¬ ((ah_I h (a0 + 35) (ah_I h a0 51).toNatClampNeg) &&& (255 : Int32)).toInt64 < (58 : Int64) → ((62 : Int64) < ((ah_I h (a0 + 35) (ah_I h a0 51).toNatClampNeg) &&& (255 : Int32)).toInt64 → (((ah_I h (a0 + 35) (ah_I h a0 51).toNatClampNeg) &&& (255 : Int32)).toInt64 < (40 : Int64) → (((ah_I h (a0 + 35) (ah_I h a0 51).toNatClampNeg) &&& (255 : Int32)) = (47 : Int32) → ∀ h41 : ah_T, h41 = ah_wI h23 a0 50 (3 : Int32) → ah_ext h23 h41 → Q none h41) ∧ (¬ ((ah_I h (a0 + 35) (ah_I h a0 51).toNatClampNeg) &&& (255 : Int32)) = (47 : Int32) → (¬ ((ah_I h (a0 + 35) (ah_I h a0 51).toNatClampNeg) &&& (255 : Int32)) = (37 : Int32) → ∀ h43 : ah_T, h43 = ah_wI h23 a0 50 (4 : Int32) → ah_ext h23 h43 → Q none h43) ∧ (((ah_I h (a0 + 35) (ah_I h a0 51).toNatClampNeg) &&& (255 : Int32)) = (37 : Int32) → ∀ h44 : ah_T, h44 = ah_wI h23 a0 50 (3 : Int32) → ah_ext h23 h44 → Q none h44))) ∧ (¬ ((ah_I h (a0 + 35) (ah_I h a0 51).toNatClampNeg) &&& (255 : Int32)).toInt64 < (40 : Int64) → ((45 : Int64) < ((ah_I h (a0 + 35) (ah_I h a0 51).toNatClampNeg) &&& (255 : Int32)).toInt64 → (((ah_I h (a0 + 35) (ah_I h a0 51).toNatClampNeg) &&& (255 : Int32)) = (47 : Int32) → ∀ h47 : ah_T, h47 = ah_wI h23 a0 50 (3 : Int32) → ah_ext h23 h47 → Q none h47) ∧ (¬ ((ah_I h (a0 + 35) (ah_I h a0 51).toNatClampNeg) &&& (255 : Int32)) = (47 : Int32) → (¬ ((ah_I h (a0 + 35) (ah_I h a0 51).toNatClampNeg) &&& (255 : Int32)) = (37 : Int32) → ∀ h49 : ah_T, h49 = ah_wI h23 a0 50 (4 : Int32) → ah_ext h23 h49 → Q none h49) ∧ (((ah_I h (a0 + 35) (ah_I h a0 51).toNatClampNeg) &&& (255 : Int32)) = (37 : Int32) → ∀ h50 : ah_T, h50 = ah_wI h23 a0 50 (3 : Int32) → ah_ext h23 h50 → Q none h50))) ∧ (¬ (45 : Int64) < ((ah_I h (a0 + 35) (ah_I h a0 51).toNatClampNeg) &&& (255 : Int32)).toInt64 → ∀ h51 : ah_T, h51 = ah_wI h23 a0 50 (3 : Int32) → ah_ext h23 h51 → Q none h51))) ∧ (¬ (62 : Int64) < ((ah_I h (a0 + 35) (ah_I h a0 51).toNatClampNeg) &&& (255 : Int32)).toInt64 → ∀ h52 : ah_T, h52 = ah_wI h23 a0 50 (3 : Int32) → ah_ext h23 h52 → Q none h52))) ∧ (¬ ((ah_I h (a0 + 35) (ah_I h a0 51).toNatClampNeg) &&& (255 : Int32)) < (48 : Int32) → ((57 : Int32) < ((ah_I h (a0 + 35) (ah_I h a0 51).toNatClampNeg) &&& (255 : Int32)) → ∀ h54 : ah_T, h54 = ah_wI h1 a0 52 ((ah_I h a0 51) + (1 : Int32)) → ah_ext h1 h54 → ∀ h55 : ah_T, h55 = ah_wI h54 a0 53 ((ah_I h (a0 + 35) (ah_I h a0 51).toNatClampNeg) &&& (255 : Int32)) → ah_ext h54 h55 → (((ah_I h (a0 + 35) (ah_I h a0 51).toNatClampNeg) &&& (255 : Int32)).toInt64 < (58 : Int64) → (((ah_I h (a0 + 35) (ah_I h a0 51).toNatClampNeg) &&& (255 : Int32)).toInt64 < (40 : Int64) → (((ah_I h (a0 + 35) (ah_I h a0 51).toNatClampNeg) &&& (255 : Int32)) = (47 : Int32) → ∀ h59 : ah_T, h59 = ah_wI h55 a0 50 (3 : Int32) → ah_ext h55 h59 → Q none h59) ∧ (¬ ((ah_I h (a0 + 35) (ah_I h a0 51).toNatClampNeg) &&& (255 : Int32)) = (47 : Int32) → (¬ ((ah_I h (a0 + 35) (ah_I h a0 51).toNatClampNeg) &&& (255 : Int32)) = (37 : Int32) → ∀ h61 : ah_T, h61 = ah_wI h55 a0 50 (4 : Int32) → ah_ext h55 h61 → Q none h61) ∧ (((ah_I h (a0 + 35) (ah_I h a0 51).toNatClampNeg) &&& (255 : Int32)) = (37 : Int32) → ∀ h62 : ah_T, h62 = ah_wI h55 a0 50 (3 : Int32) → ah_ext h55 h62 → Q none h62))) ∧ (¬ ((ah_I h (a0 + 35) (ah_I h a0 51).toNatClampNeg) &&& (255 : Int32)).toInt64 < (40 : Int64) → ((45 : Int64) < ((ah_I h (a0 + 35) (ah_I h a0 51).toNatClampNeg) &&& (255 : Int32)).toInt64 → (((ah_I h (a0 + 35) (ah_I h a0 51).toNatClampNeg) &&& (255 : Int32)) = (47 : Int32) → ∀ h65 : ah_T, h65 = ah_wI h55 a0 50 (3 : Int32) → ah_ext h55 h65 → Q none h65) ∧ (¬ ((ah_I h (a0 + 35) (ah_I h a0 51).toNatClampNeg) &&& (255 : Int32)) = (47 : Int32) → (¬ ((ah_I h (a0 + 35) (ah_I h a0 51).toNatClampNeg) &&& (255 : Int32)) = (37 : Int32) → ∀ h67 : ah_T, h67 = ah_wI h55 a0 50 (4 : Int32) → ah_ext h55 h67 → Q none h67) ∧ (((ah_I h (a0 + 35) (ah_I h a0 51).toNatClampNeg) &&& (255 : Int32)) = (37 : Int32) → ∀ h68 : ah_T, h68 = ah_wI h55 a0 50 (3 : Int32) → ah_ext h55 h68 → Q none h68))) ∧ (¬ (45 : Int64) < ((ah_I h (a0 + 35) (ah_I h a0 51).toNatClampNeg) &&& (255 : Int32)).toInt64 → ∀ h69 : ah_T, h69 = ah_wI h55 a0 50 (3 : Int32) → ah_ext h55 h69 → Q none h69))) ∧ (¬ ((ah_I h (a0 + 35) (ah_I h a0 51).toNatClampNeg) &&& (255 : Int32)).toInt64 < (58 : Int64) → ((62 : Int64) < ((ah_I h (a0 + 35) (ah_I h a0 51).toNatClampNeg) &&& (255 : Int32)).toInt64 → (((ah_I h (a0 + 35) (ah_I h a0 51).toNatClampNeg) &&& (255 : Int32)).toInt64 < (40 : Int64) → (((ah_I h (a0 + 35) (ah_I h a0 51).toNatClampNeg) &&& (255 : Int32)) = (47 : Int32) → ∀ h73 : ah_T, h73 = ah_wI h55 a0 50 (3 : Int32) → ah_ext h55 h73 → Q none h73) ∧ (¬ ((ah_I h (a0 + 35) (ah_I h a0 51).toNatClampNeg) &&& (255 : Int32)) = (47 : Int32) → (¬ ((ah_I h (a0 + 35) (ah_I h a0 51).toNatClampNeg) &&& (255 : Int32)) = (37 : Int32) → ∀ h75 : ah_T, h75 = ah_wI h55 a0 50 (4 : Int32) → ah_ext h55 h75 → Q none h75) ∧ (((ah_I h (a0 + 35) (ah_I h a0 51).toNatClampNeg) &&& (255 : Int32)) = (37 : Int32) → ∀ h76 : ah_T, h76 = ah_wI h55 a0 50 (3 : Int32) → ah_ext h55 h76 → Q none h76))) ∧ (¬ ((ah_I h (a0 + 35) (ah_I h a0 51).toNatClampNeg) &&& (255 : Int32)).toInt64 < (40 : Int64) → ((45 : Int64) < ((ah_I h (a0 + 35) (ah_I h a0 51).toNatClampNeg) &&& (255 : Int32)).toInt64 → (((ah_I h (a0 + 35) (ah_I h a0 51).toNatClampNeg) &&& (255 : Int32)) = (47 : Int32) → ∀ h79 : ah_T, h79 = ah_wI h55 a0 50 (3 : Int32) → ah_ext h55 h79 → Q none h79) ∧ (¬ ((ah_I h (a0 + 35) (ah_I h a0 51).toNatClampNeg) &&& (255 : Int32)) = (47 : Int32) → (¬ ((ah_I h (a0 + 35) (ah_I h a0 51).toNatClampNeg) &&& (255 : Int32)) = (37 : Int32) → ∀ h81 : ah_T, h81 = ah_wI h55 a0 50 (4 : Int32) → ah_ext h55 h81 → Q none h81) ∧ (((ah_I h (a0 + 35) (ah_I h a0 51).toNatClampNeg) &&& (255 : Int32)) = (37 : Int32) → ∀ h82 : ah_T, h82 = ah_wI h55 a0 50 (3 : Int32) → ah_ext h55 h82 → Q none h82))) ∧ (¬ (45 : Int64) < ((ah_I h (a0 + 35) (ah_I h a0 51).toNatClampNeg) &&& (255 : Int32)).toInt64 → ∀ h83 : ah_T, h83 = ah_wI h55 a0 50 (3 : Int32) → ah_ext h55 h83 → Q none h83))) ∧ (¬ (62 : Int64) < ((ah_I h (a0 + 35) (ah_I h a0 51).toNatClampNeg) &&& (255 : Int32)).toInt64 → ∀ h84 : ah_T, h84 = ah_wI h55 a0 50 (3 : Int32) → ah_ext h55 h84 → Q none h84))) ∧ (¬ (57 : Int32) < ((ah_I h (a0 + 35) (ah_I h a0 51).toNatClampNeg) &&& (255 : Int32)) → ∀ h85 : ah_T, h85 = ah_wI h1 a0 53 (0 : Int32) → ah_ext h1 h85 → MX G mi_X8_next (d + 1) 210 [some (rv a0), none] [] h85 Q E))) ∧ (¬ ((ah_I h (a0 + 35) (ah_I h a0 51).toNatClampNeg) &&& (255 : Int32)) < (97 : Int32) → ((122 : Int32) < ((ah_I h (a0 + 35) (ah_I h a0 51).toNatClampNeg) &&& (255 : Int32)) → (((ah_I h (a0 + 35) (ah_I h a0 51).toNatClampNeg) &&& (255 : Int32)) < (48 : Int32) → ∀ h88 : ah_T, h88 = ah_wI h1 a0 52 ((ah_I h a0 51) + (1 : Int32)) → ah_ext h1 h88 → ∀ h89 : ah_T, h89 = ah_wI h88 a0 53 ((ah_I h (a0 + 35) (ah_I h a0 51).toNatClampNeg) &&& (255 : Int32)) → ah_ext h88 h89 → (((ah_I h (a0 + 35) (ah_I h a0 51).toNatClampNeg) &&& (255 : Int32)).toInt64 < (58 : Int64) → (((ah_I h (a0 + 35) (ah_I h a0 51).toNatClampNeg) &&& (255 : Int32)).toInt64 < (40 : Int64) → (((ah_I h (a0 + 35) (ah_I h a0 51).toNatClampNeg) &&& (255 : Int32)) = (47 : Int32) → ∀ h93 : ah_T, h93 = ah_wI h89 a0 50 (3 : Int32) → ah_ext h89 h93 → Q none h93) ∧ (¬ ((ah_I h (a0 + 35) (ah_I h a0 51).toNatClampNeg) &&& (255 : Int32)) = (47 : Int32) → (¬ ((ah_I h (a0 + 35) (ah_I h a0 51).toNatClampNeg) &&& (255 : Int32)) = (37 : Int32) → ∀ h95 : ah_T, h95 = ah_wI h89 a0 50 (4 : Int32) → ah_ext h89 h95 → Q none h95) ∧ (((ah_I h (a0 + 35) (ah_I h a0 51).toNatClampNeg) &&& (255 : Int32)) = (37 : Int32) → ∀ h96 : ah_T, h96 = ah_wI h89 a0 50 (3 : Int32) → ah_ext h89 h96 → Q none h96))) ∧ (¬ ((ah_I h (a0 + 35) (ah_I h a0 51).toNatClampNeg) &&& (255 : Int32)).toInt64 < (40 : Int64) → ((45 : Int64) < ((ah_I h (a0 + 35) (ah_I h a0 51).toNatClampNeg) &&& (255 : Int32)).toInt64 → (((ah_I h (a0 + 35) (ah_I h a0 51).toNatClampNeg) &&& (255 : Int32)) = (47 : Int32) → ∀ h99 : ah_T, h99 = ah_wI h89 a0 50 (3 : Int32) → ah_ext h89 h99 → Q none h99) ∧ (¬ ((ah_I h (a0 + 35) (ah_I h a0 51).toNatClampNeg) &&& (255 : Int32)) = (47 : Int32) → (¬ ((ah_I h (a0 + 35) (ah_I h a0 51).toNatClampNeg) &&& (255 : Int32)) = (37 : Int32) → ∀ h101 : ah_T, h101 = ah_wI h89 a0 50 (4 : Int32) → ah_ext h89 h101 → Q none h101) ∧ (((ah_I h (a0 + 35) (ah_I h a0 51).toNatClampNeg) &&& (255 : Int32)) = (37 : Int32) → ∀ h102 : ah_T, h102 = ah_wI h89 a0 50 (3 : Int32) → ah_ext h89 h102 → Q none h102))) ∧ (¬ (45 : Int64) < ((ah_I h (a0 + 35) (ah_I h a0 51).toNatClampNeg) &&& (255 : Int32)).toInt64 → ∀ h103 : ah_T, h103 = ah_wI h89 a0 50 (3 : Int32) → ah_ext h89 h103 → Q none h103))) ∧ (¬ ((ah_I h (a0 + 35) (ah_I h a0 51).toNatClampNeg) &&& (255 : Int32)).toInt64 < (58 : Int64) → ((62 : Int64) < ((ah_I h (a0 + 35) (ah_I h a0 51).toNatClampNeg) &&& (255 : Int32)).toInt64 → (((ah_I h (a0 + 35) (ah_I h a0 51).toNatClampNeg) &&& (255 : Int32)).toInt64 < (40 : Int64) → (((ah_I h (a0 + 35) (ah_I h a0 51).toNatClampNeg) &&& (255 : Int32)) = (47 : Int32) → ∀ h107 : ah_T, h107 = ah_wI h89 a0 50 (3 : Int32) → ah_ext h89 h107 → Q none h107) ∧ (¬ ((ah_I h (a0 + 35) (ah_I h a0 51).toNatClampNeg) &&& (255 : Int32)) = (47 : Int32) → (¬ ((ah_I h (a0 + 35) (ah_I h a0 51).toNatClampNeg) &&& (255 : Int32)) = (37 : Int32) → ∀ h109 : ah_T, h109 = ah_wI h89 a0 50 (4 : Int32) → ah_ext h89 h109 → Q none h109) ∧ (((ah_I h (a0 + 35) (ah_I h a0 51).toNatClampNeg) &&& (255 : Int32)) = (37 : Int32) → ∀ h110 : ah_T, h110 = ah_wI h89 a0 50 (3 : Int32) → ah_ext h89 h110 → Q none h110))) ∧ (¬ ((ah_I h (a0 + 35) (ah_I h a0 51).toNatClampNeg) &&& (255 : Int32)).toInt64 < (40 : Int64) → ((45 : Int64) < ((ah_I h (a0 + 35) (ah_I h a0 51).toNatClampNeg) &&& (255 : Int32)).toInt64 → (((ah_I h (a0 + 35) (ah_I h a0 51).toNatClampNeg) &&& (255 : Int32)) = (47 : Int32) → ∀ h113 : ah_T, h113 = ah_wI h89 a0 50 (3 : Int32) → ah_ext h89 h113 → Q none h113) ∧ (¬ ((ah_I h (a0 + 35) (ah_I h a0 51).toNatClampNeg) &&& (255 : Int32)) = (47 : Int32) → (¬ ((ah_I h (a0 + 35) (ah_I h a0 51).toNatClampNeg) &&& (255 : Int32)) = (37 : Int32) → ∀ h115 : ah_T, h115 = ah_wI h89 a0 50 (4 : Int32) → ah_ext h89 h115 → Q none h115) ∧ (((ah_I h (a0 + 35) (ah_I h a0 51).toNatClampNeg) &&& (255 : Int32)) = (37 : Int32) → ∀ h116 : ah_T, h116 = ah_wI h89 a0 50 (3 : Int32) → ah_ext h89 h116 → Q none h116))) ∧ (¬ (45 : Int64) < ((ah_I h (a0 + 35) (ah_I h a0 51).toNatClampNeg) &&& (255 : Int32)).toInt64 → ∀ h117 : ah_T, h117 = ah_wI h89 a0 50 (3 : Int32) → ah_ext h89 h117 → Q none h117))) ∧ (¬ (62 : Int64) < ((ah_I h (a0 + 35) (ah_I h a0 51).toNatClampNeg) &&& (255 : Int32)).toInt64 → ∀ h118 : ah_T, h118 = ah_wI h89 a0 50 (3 : Int32) → ah_ext h89 h118 → Q none h118))) ∧ (¬ ((ah_I h (a0 + 35) (ah_I h a0 51).toNatClampNeg) &&& (255 : Int32)) < (48 : Int32) → ((57 : Int32) < ((ah_I h (a0 + 35) (ah_I h a0 51).toNatClampNeg) &&& (255 : Int32)) → ∀ h120 : ah_T, h120 = ah_wI h1 a0 52 ((ah_I h a0 51) + (1 : Int32)) → ah_ext h1 h120 → ∀ h121 : ah_T, h121 = ah_wI h120 a0 53 ((ah_I h (a0 + 35) (ah_I h a0 51).toNatClampNeg) &&& (255 : Int32)) → ah_ext h120 h121 → (((ah_I h (a0 + 35) (ah_I h a0 51).toNatClampNeg) &&& (255 : Int32)).toInt64 < (58 : Int64) → (((ah_I h (a0 + 35) (ah_I h a0 51).toNatClampNeg) &&& (255 : Int32)).toInt64 < (40 : Int64) → (((ah_I h (a0 + 35) (ah_I h a0 51).toNatClampNeg) &&& (255 : Int32)) = (47 : Int32) → ∀ h125 : ah_T, h125 = ah_wI h121 a0 50 (3 : Int32) → ah_ext h121 h125 → Q none h125) ∧ (¬ ((ah_I h (a0 + 35) (ah_I h a0 51).toNatClampNeg) &&& (255 : Int32)) = (47 : Int32) → (¬ ((ah_I h (a0 + 35) (ah_I h a0 51).toNatClampNeg) &&& (255 : Int32)) = (37 : Int32) → ∀ h127 : ah_T, h127 = ah_wI h121 a0 50 (4 : Int32) → ah_ext h121 h127 → Q none h127) ∧ (((ah_I h (a0 + 35) (ah_I h a0 51).toNatClampNeg) &&& (255 : Int32)) = (37 : Int32) → ∀ h128 : ah_T, h128 = ah_wI h121 a0 50 (3 : Int32) → ah_ext h121 h128 → Q none h128))) ∧ (¬ ((ah_I h (a0 + 35) (ah_I h a0 51).toNatClampNeg) &&& (255 : Int32)).toInt64 < (40 : Int64) → ((45 : Int64) < ((ah_I h (a0 + 35) (ah_I h a0 51).toNatClampNeg) &&& (255 : Int32)).toInt64 → (((ah_I h (a0 + 35) (ah_I h a0 51).toNatClampNeg) &&& (255 : Int32)) = (47 : Int32) → ∀ h131 : ah_T, h131 = ah_wI h121 a0 50 (3 : Int32) → ah_ext h121 h131 → Q none h131) ∧ (¬ ((ah_I h (a0 + 35) (ah_I h a0 51).toNatClampNeg) &&& (255 : Int32)) = (47 : Int32) → (¬ ((ah_I h (a0 + 35) (ah_I h a0 51).toNatClampNeg) &&& (255 : Int32)) = (37 : Int32) → ∀ h133 : ah_T, h133 = ah_wI h121 a0 50 (4 : Int32) → ah_ext h121 h133 → Q none h133) ∧ (((ah_I h (a0 + 35) (ah_I h a0 51).toNatClampNeg) &&& (255 : Int32)) = (37 : Int32) → ∀ h134 : ah_T, h134 = ah_wI h121 a0 50 (3 : Int32) → ah_ext h121 h134 → Q none h134))) ∧ (¬ (45 : Int64) < ((ah_I h (a0 + 35) (ah_I h a0 51).toNatClampNeg) &&& (255 : Int32)).toInt64 → ∀ h135 : ah_T, h135 = ah_wI h121 a0 50 (3 : Int32) → ah_ext h121 h135 → Q none h135))) ∧ (¬ ((ah_I h (a0 + 35) (ah_I h a0 51).toNatClampNeg) &&& (255 : Int32)).toInt64 < (58 : Int64) → ((62 : Int64) < ((ah_I h (a0 + 35) (ah_I h a0 51).toNatClampNeg) &&& (255 : Int32)).toInt64 → (((ah_I h (a0 + 35) (ah_I h a0 51).toNatClampNeg) &&& (255 : Int32)).toInt64 < (40 : Int64) → (((ah_I h (a0 + 35) (ah_I h a0 51).toNatClampNeg) &&& (255 : Int32)) = (47 : Int32) → ∀ h139 : ah_T, h139 = ah_wI h121 a0 50 (3 : Int32) → ah_ext h121 h139 → Q none h139) ∧ (¬ ((ah_I h (a0 + 35) (ah_I h a0 51).toNatClampNeg) &&& (255 : Int32)) = (47 : Int32) → (¬ ((ah_I h (a0 + 35) (ah_I h a0 51).toNatClampNeg) &&& (255 : Int32)) = (37 : Int32) → ∀ h141 : ah_T, h141 = ah_wI h121 a0 50 (4 : Int32) → ah_ext h121 h141 → Q none h141) ∧ (((ah_I h (a0 + 35) (ah_I h a0 51).toNatClampNeg) &&& (255 : Int32)) = (37 : Int32) → ∀ h142 : ah_T, h142 = ah_wI h121 a0 50 (3 : Int32) → ah_ext h121 h142 → Q none h142))) ∧ (¬ ((ah_I h (a0 + 35) (ah_I h a0 51).toNatClampNeg) &&& (255 : Int32)).toInt64 < (40 : Int64) → ((45 : Int64) < ((ah_I h (a0 + 35) (ah_I h a0 51).toNatClampNeg) &&& (255 : Int32)).toInt64 → (((ah_I h (a0 + 35) (ah_I h a0 51).toNatClampNeg) &&& (255 : Int32)) = (47 : Int32) → ∀ h145 : ah_T, h145 = ah_wI h121 a0 50 (3 : Int32) → ah_ext h121 h145 → Q none h145) ∧ (¬ ((ah_I h (a0 + 35) (ah_I h a0 51).toNatClampNeg) &&& (255 : Int32)) = (47 : Int32) → (¬ ((ah_I h (a0 + 35) (ah_I h a0 51).toNatClampNeg) &&& (255 : Int32)) = (37 : Int32) → ∀ h147 : ah_T, h147 = ah_wI h121 a0 50 (4 : Int32) → ah_ext h121 h147 → Q none h147) ∧ (((ah_I h (a0 + 35) (ah_I h a0 51).toNatClampNeg) &&& (255 : Int32)) = (37 : Int32) → ∀ h148 : ah_T, h148 = ah_wI h121 a0 50 (3 : Int32) → ah_ext h121 h148 → Q none h148))) ∧ (¬ (45 : Int64) < ((ah_I h (a0 + 35) (ah_I h a0 51).toNatClampNeg) &&& (255 : Int32)).toInt64 → ∀ h149 : ah_T, h149 = ah_wI h121 a0 50 (3 : Int32) → ah_ext h121 h149 → Q none h149))) ∧ (¬ (62 : Int64) < ((ah_I h (a0 + 35) (ah_I h a0 51).toNatClampNeg) &&& (255 : Int32)).toInt64 → ∀ h150 : ah_T, h150 = ah_wI h121 a0 50 (3 : Int32) → ah_ext h121 h150 → Q none h150))) ∧ (¬ (57 : Int32) < ((ah_I h (a0 + 35) (ah_I h a0 51).toNatClampNeg) &&& (255 : Int32)) → ∀ h151 : ah_T, h151 = ah_wI h1 a0 53 (0 : Int32) → ah_ext h1 h151 → MX G mi_X8_next (d + 1) 210 [some (rv a0), none] [] h151 Q E))) ∧ (¬ (122 : Int32) < ((ah_I h (a0 + 35) (ah_I h a0 51).toNatClampNeg) &&& (255 : Int32)) → ∀ h152 : ah_T, h152 = ah_wI h1 a0 50 (1 : Int32) → ah_ext h1 h152 → ∀ h153 : ah_T, h153 = ah_wJ h152 a0 55 (0 : Int64) → ah_ext h152 h153 → MX G mi_X8_next (d + 1) 109 [some (rv a0), none] [] h153 Q E)))) ∧ (¬ (ah_I h a0 51) < (ah_I h a0 45) → ∀ h154 : ah_T, h154 = ah_wI h1 a0 50 (0 : Int32) → ah_ext h1 h154 → Q none h154)) : MX G mi_X8_next (d + 1) 58 [some (rv a0), none] [] h Q E := by
  refine mx_aload_n dX8_next_58 rfl rfl ?_
  refine mx_aload_n dX8_next_59 rfl rfl ?_
  refine mx_get 8 51 (ref := "PrairiePoolModel") cl_8 (Nat.le_of_ble_eq_true rfl) (Or.inl q1678) (Or.inl rfl) dX8_next_60 (fv_8_51 _ _) (ly8_k La0_h) ?_
  refine mx_putI 8 52 (ref := "PrairiePoolModel") cl_8 (Nat.le_of_ble_eq_true rfl) (Or.inl q1679) (Or.inl rfl) dX8_next_63 (Or.inl rfl) rfl (ly8_k La0_h) ?_
  refine mx_nmI  (fun h1 eh1 Xh1 Kh1 Lh1 => ?_)
  have H := H h1 eh1 Xh1
  have La0_h1 := La0_h.ext Xh1
  refine mx_aload_n dX8_next_66 rfl rfl ?_
  refine mx_get 8 51 (ref := "PrairiePoolModel") cl_8 (Nat.le_of_ble_eq_true rfl) (Or.inl q1678) (Or.inl rfl) dX8_next_67 (fv_8_51 _ _) (ly8_k La0_h1) ?_
  refine mx_ti (ah_skIK eh1 (by decide)) ?_
  refine mx_aload_n dX8_next_70 rfl rfl ?_
  refine mx_get 8 45 (ref := "PrairiePoolModel") cl_8 (Nat.le_of_ble_eq_true rfl) (Or.inl q1672) (Or.inl rfl) dX8_next_71 (fv_8_45 _ _) (ly8_k La0_h1) ?_
  refine mx_ti (ah_skIK eh1 (by decide)) ?_
  refine mx_icmp_lt (tgt := 83) dX8_next_74 rfl (fun c2 => ?_) (fun c2 => ?_)
  · have H := H.1 c2
    refine mx_aload_n dX8_next_83 rfl rfl ?_
    refine mx_aload_n dX8_next_84 rfl rfl ?_
    refine mx_get 8 51 (ref := "PrairiePoolModel") cl_8 (Nat.le_of_ble_eq_true rfl) (Or.inl q1678) (Or.inl rfl) dX8_next_85 (fv_8_51 _ _) (ly8_k La0_h1) ?_
    refine mx_ti (ah_skIK eh1 (by decide)) ?_
    refine mx_callV 8 (y' := mi_X8_look) (vs := [iv (ah_I h a0 51)]) (st := []) (al' := [some (rv a0), some (iv (ah_I h a0 51))]) cl_8 V_X8_look (Or.inl q2174) dX8_next_88 rfl rfl (Nat.le_of_ble_eq_true rfl) (Nat.le_of_ble_eq_true rfl) (ly8_k La0_h1) ?_
    refine mx_iload_n dX8_look_0 rfl rfl ?_
    refine mx_aload_n dX8_look_1 rfl rfl ?_
    refine mx_get 8 45 (ref := "PrairiePoolModel") cl_8 (Nat.le_of_ble_eq_true rfl) (Or.inl q1672) (Or.inl rfl) dX8_look_2 (fv_8_45 _ _) (ly8_k La0_h1) ?_
    refine mx_ti (ah_skIK eh1 (by decide)) ?_
    refine mx_icmp_ge (tgt := 21) dX8_look_5 rfl (fun c3 => ?_) (fun c3 => ?_)
    · have H := H.1 c3
      refine mx_iconst dX8_look_21 ic_0 ?_
      refine mx_iretK rfl dX8_look_22 ?_
      refine mx_istore_n (al' := [some (rv a0), some (iv (0 : Int32))]) dX8_next_91 rfl (Nat.le_of_ble_eq_true rfl) rfl ?_
      refine mx_iload_n dX8_next_92 rfl rfl ?_
      refine mx_callS (y' := mi_X8_isLetter) (vs := [iv (0 : Int32)]) (st := []) (al' := [some (iv (0 : Int32))]) S_X8_isLetter q2178 dX8_next_93 rfl rfl (Nat.le_of_ble_eq_true rfl) (Nat.le_of_ble_eq_true rfl) ?_
      refine mx_iload_n dX8_isLetter_0 rfl rfl ?_
      refine mx_bipush dX8_isLetter_1 ib_97 ?_
      refine mx_icmp_lt (tgt := 16) dX8_isLetter_3 rfl (fun _ => ?_) (fun _ => absurd ‹_› (by decide))
      refine mx_iconst dX8_isLetter_16 ic_0 ?_
      refine mx_zretK rfl dX8_isLetter_17 (Or.inl rfl) ?_
      refine mx_if_eq (tgt := 198) dX8_next_96 rfl (fun _ => ?_) (fun _ => absurd ‹_› (by decide))
      refine mx_iload_n dX8_next_198 rfl rfl ?_
      refine mx_callS (y' := mi_X8_isDigit) (vs := [iv (0 : Int32)]) (st := []) (al' := [some (iv (0 : Int32))]) S_X8_isDigit q2181 dX8_next_199 rfl rfl (Nat.le_of_ble_eq_true rfl) (Nat.le_of_ble_eq_true rfl) ?_
      refine mx_iload_n dX8_isDigit_0 rfl rfl ?_
      refine mx_bipush dX8_isDigit_1 ib_48 ?_
      refine mx_icmp_lt (tgt := 16) dX8_isDigit_3 rfl (fun _ => ?_) (fun _ => absurd ‹_› (by decide))
      refine mx_iconst dX8_isDigit_16 ic_0 ?_
      refine mx_zretK rfl dX8_isDigit_17 (Or.inl rfl) ?_
      refine mx_if_eq (tgt := 300) dX8_next_202 rfl (fun _ => ?_) (fun _ => absurd ‹_› (by decide))
      refine mx_aload_n dX8_next_300 rfl rfl ?_
      refine mx_aload_n dX8_next_301 rfl rfl ?_
      refine mx_get 8 51 (ref := "PrairiePoolModel") cl_8 (Nat.le_of_ble_eq_true rfl) (Or.inl q1678) (Or.inl rfl) dX8_next_302 (fv_8_51 _ _) (ly8_k La0_h1) ?_
      refine mx_ti (ah_skIK eh1 (by decide)) ?_
      refine mx_iconst dX8_next_305 ic_1 ?_
      refine mx_iadd dX8_next_306 ?_
      refine mx_putI 8 52 (ref := "PrairiePoolModel") cl_8 (Nat.le_of_ble_eq_true rfl) (Or.inl q1679) (Or.inl rfl) dX8_next_307 (Or.inl rfl) rfl (ly8_k La0_h1) ?_
      refine mx_nmI  (fun h4 eh4 Xh4 Kh4 Lh4 => ?_)
      have H := H h4 eh4 Xh4
      have Kh4 := Kh4.trans Kh1
      have Lh4 := Lh4.trans Lh1
      have La0_h4 := La0_h1.ext Xh4
      refine mx_aload_n dX8_next_310 rfl rfl ?_
      refine mx_iload_n dX8_next_311 rfl rfl ?_
      refine mx_putI 8 53 (ref := "PrairiePoolModel") cl_8 (Nat.le_of_ble_eq_true rfl) (Or.inl q1680) (Or.inl rfl) dX8_next_312 (Or.inl rfl) rfl (ly8_k La0_h4) ?_
      refine mx_nmI  (fun h5 eh5 Xh5 Kh5 Lh5 => ?_)
      have H := H h5 eh5 Xh5
      have Kh5 := Kh5.trans Kh4
      have Lh5 := Lh5.trans Lh4
      have La0_h5 := La0_h4.ext Xh5
      refine mx_aload_n dX8_next_315 rfl rfl ?_
      refine mx_iload_n dX8_next_316 rfl rfl ?_
      refine mx_i2l dX8_next_317 ?_
      refine mx_ldc2 q2184 dX8_next_318 ?_
      refine mx_ldc2 q2185 dX8_next_321 ?_
      refine mx_callS (y' := mi_X8_isIn) (vs := [jv (0 : Int32).toInt64, jv (58 : Int64), jv (62 : Int64)]) (st := [rv a0]) (al' := [some (jv (0 : Int32).toInt64), none, some (jv (58 : Int64)), none, some (jv (62 : Int64)), none]) S_X8_isIn q1996 dX8_next_324 rfl rfl (Nat.le_of_ble_eq_true rfl) (Nat.le_of_ble_eq_true rfl) ?_
      refine mx_lload_n dX8_isIn_0 rfl rfl ?_
      refine mx_lload_n dX8_isIn_1 rfl rfl ?_
      refine mx_lif_lt (tgt := 17) dX8_isIn_2 dX8_isIn_3 rfl (fun c6 => ?_) (fun c6 => ?_)
      · have H := H.1 c6
        refine mx_iconst dX8_isIn_17 ic_0 ?_
        refine mx_zretK rfl dX8_isIn_18 (Or.inl rfl) ?_
        refine mx_if_ne (tgt := 356) dX8_next_327 rfl (fun _ => absurd ‹_› (by decide)) (fun _ => ?_)
        refine mx_iload_n dX8_next_330 rfl rfl ?_
        refine mx_i2l dX8_next_331 ?_
        refine mx_ldc2 q2186 dX8_next_332 ?_
        refine mx_ldc2 q2187 dX8_next_335 ?_
        refine mx_callS (y' := mi_X8_isIn) (vs := [jv (0 : Int32).toInt64, jv (40 : Int64), jv (45 : Int64)]) (st := [rv a0]) (al' := [some (jv (0 : Int32).toInt64), none, some (jv (40 : Int64)), none, some (jv (45 : Int64)), none]) S_X8_isIn q1996 dX8_next_338 rfl rfl (Nat.le_of_ble_eq_true rfl) (Nat.le_of_ble_eq_true rfl) ?_
        refine mx_lload_n dX8_isIn_0 rfl rfl ?_
        refine mx_lload_n dX8_isIn_1 rfl rfl ?_
        refine mx_lif_lt (tgt := 17) dX8_isIn_2 dX8_isIn_3 rfl (fun c7 => ?_) (fun c7 => ?_)
        · have H := H.1 c7
          refine mx_iconst dX8_isIn_17 ic_0 ?_
          refine mx_zretK rfl dX8_isIn_18 (Or.inl rfl) ?_
          refine mx_if_ne (tgt := 356) dX8_next_341 rfl (fun _ => absurd ‹_› (by decide)) (fun _ => ?_)
          refine mx_iload_n dX8_next_344 rfl rfl ?_
          refine mx_bipush dX8_next_345 ib_47 ?_
          refine mx_icmp_eq (tgt := 356) dX8_next_347 rfl (fun _ => absurd ‹_› (by decide)) (fun _ => ?_)
          refine mx_iload_n dX8_next_350 rfl rfl ?_
          refine mx_bipush dX8_next_351 ib_37 ?_
          refine mx_icmp_ne (tgt := 360) dX8_next_353 rfl (fun _ => ?_) (fun _ => absurd ‹_› (by decide))
          refine mx_iconst dX8_next_360 ic_4 ?_
          refine mx_putI 8 50 (ref := "PrairiePoolModel") cl_8 (Nat.le_of_ble_eq_true rfl) (Or.inl q1677) (Or.inl rfl) dX8_next_361 (Or.inl rfl) rfl (ly8_k La0_h5) ?_
          refine mx_nmI  (fun h8 eh8 Xh8 Kh8 Lh8 => ?_)
          have H := H h8 eh8 Xh8
          have Kh8 := Kh8.trans Kh5
          have Lh8 := Lh8.trans Lh5
          have La0_h8 := La0_h5.ext Xh8
          exact mx_vret rfl dX8_next_364 H
        · have H := H.2 c7
          refine mx_lload_n dX8_isIn_6 rfl rfl ?_
          refine mx_lload dX8_isIn_7 rfl ?_
          refine mx_lif_gt (tgt := 17) dX8_isIn_9 dX8_isIn_10 rfl (fun c9 => ?_) (fun c9 => ?_)
          · have H := H.1 c9
            refine mx_iconst dX8_isIn_17 ic_0 ?_
            refine mx_zretK rfl dX8_isIn_18 (Or.inl rfl) ?_
            refine mx_if_ne (tgt := 356) dX8_next_341 rfl (fun _ => absurd ‹_› (by decide)) (fun _ => ?_)
            refine mx_iload_n dX8_next_344 rfl rfl ?_
            refine mx_bipush dX8_next_345 ib_47 ?_
            refine mx_icmp_eq (tgt := 356) dX8_next_347 rfl (fun _ => absurd ‹_› (by decide)) (fun _ => ?_)
            refine mx_iload_n dX8_next_350 rfl rfl ?_
            refine mx_bipush dX8_next_351 ib_37 ?_
            refine mx_icmp_ne (tgt := 360) dX8_next_353 rfl (fun _ => ?_) (fun _ => absurd ‹_› (by decide))
            refine mx_iconst dX8_next_360 ic_4 ?_
            refine mx_putI 8 50 (ref := "PrairiePoolModel") cl_8 (Nat.le_of_ble_eq_true rfl) (Or.inl q1677) (Or.inl rfl) dX8_next_361 (Or.inl rfl) rfl (ly8_k La0_h5) ?_
            refine mx_nmI  (fun h10 eh10 Xh10 Kh10 Lh10 => ?_)
            have H := H h10 eh10 Xh10
            have Kh10 := Kh10.trans Kh5
            have Lh10 := Lh10.trans Lh5
            have La0_h10 := La0_h5.ext Xh10
            exact mx_vret rfl dX8_next_364 H
          · have H := H.2 c9
            refine mx_iconst dX8_isIn_13 ic_1 ?_
            refine mx_goto (tgt := 18) dX8_isIn_14 rfl ?_
            refine mx_zretK rfl dX8_isIn_18 (Or.inr rfl) ?_
            refine mx_if_ne (tgt := 356) dX8_next_341 rfl (fun _ => ?_) (fun _ => absurd ‹_› (by decide))
            refine mx_iconst dX8_next_356 ic_3 ?_
            refine mx_goto (tgt := 361) dX8_next_357 rfl ?_
            refine mx_putI 8 50 (ref := "PrairiePoolModel") cl_8 (Nat.le_of_ble_eq_true rfl) (Or.inl q1677) (Or.inl rfl) dX8_next_361 (Or.inl rfl) rfl (ly8_k La0_h5) ?_
            refine mx_nmI  (fun h11 eh11 Xh11 Kh11 Lh11 => ?_)
            have H := H h11 eh11 Xh11
            have Kh11 := Kh11.trans Kh5
            have Lh11 := Lh11.trans Lh5
            have La0_h11 := La0_h5.ext Xh11
            exact mx_vret rfl dX8_next_364 H
      · have H := H.2 c6
        refine mx_lload_n dX8_isIn_6 rfl rfl ?_
        refine mx_lload dX8_isIn_7 rfl ?_
        refine mx_lif_gt (tgt := 17) dX8_isIn_9 dX8_isIn_10 rfl (fun c12 => ?_) (fun c12 => ?_)
        · have H := H.1 c12
          refine mx_iconst dX8_isIn_17 ic_0 ?_
          refine mx_zretK rfl dX8_isIn_18 (Or.inl rfl) ?_
          refine mx_if_ne (tgt := 356) dX8_next_327 rfl (fun _ => absurd ‹_› (by decide)) (fun _ => ?_)
          refine mx_iload_n dX8_next_330 rfl rfl ?_
          refine mx_i2l dX8_next_331 ?_
          refine mx_ldc2 q2186 dX8_next_332 ?_
          refine mx_ldc2 q2187 dX8_next_335 ?_
          refine mx_callS (y' := mi_X8_isIn) (vs := [jv (0 : Int32).toInt64, jv (40 : Int64), jv (45 : Int64)]) (st := [rv a0]) (al' := [some (jv (0 : Int32).toInt64), none, some (jv (40 : Int64)), none, some (jv (45 : Int64)), none]) S_X8_isIn q1996 dX8_next_338 rfl rfl (Nat.le_of_ble_eq_true rfl) (Nat.le_of_ble_eq_true rfl) ?_
          refine mx_lload_n dX8_isIn_0 rfl rfl ?_
          refine mx_lload_n dX8_isIn_1 rfl rfl ?_
          refine mx_lif_lt (tgt := 17) dX8_isIn_2 dX8_isIn_3 rfl (fun c13 => ?_) (fun c13 => ?_)
          · have H := H.1 c13
            refine mx_iconst dX8_isIn_17 ic_0 ?_
            refine mx_zretK rfl dX8_isIn_18 (Or.inl rfl) ?_
            refine mx_if_ne (tgt := 356) dX8_next_341 rfl (fun _ => absurd ‹_› (by decide)) (fun _ => ?_)
            refine mx_iload_n dX8_next_344 rfl rfl ?_
            refine mx_bipush dX8_next_345 ib_47 ?_
            refine mx_icmp_eq (tgt := 356) dX8_next_347 rfl (fun _ => absurd ‹_› (by decide)) (fun _ => ?_)
            refine mx_iload_n dX8_next_350 rfl rfl ?_
            refine mx_bipush dX8_next_351 ib_37 ?_
            refine mx_icmp_ne (tgt := 360) dX8_next_353 rfl (fun _ => ?_) (fun _ => absurd ‹_› (by decide))
            refine mx_iconst dX8_next_360 ic_4 ?_
            refine mx_putI 8 50 (ref := "PrairiePoolModel") cl_8 (Nat.le_of_ble_eq_true rfl) (Or.inl q1677) (Or.inl rfl) dX8_next_361 (Or.inl rfl) rfl (ly8_k La0_h5) ?_
            refine mx_nmI  (fun h14 eh14 Xh14 Kh14 Lh14 => ?_)
            have H := H h14 eh14 Xh14
            have Kh14 := Kh14.trans Kh5
            have Lh14 := Lh14.trans Lh5
            have La0_h14 := La0_h5.ext Xh14
            exact mx_vret rfl dX8_next_364 H
          · have H := H.2 c13
            refine mx_lload_n dX8_isIn_6 rfl rfl ?_
            refine mx_lload dX8_isIn_7 rfl ?_
            refine mx_lif_gt (tgt := 17) dX8_isIn_9 dX8_isIn_10 rfl (fun c15 => ?_) (fun c15 => ?_)
            · have H := H.1 c15
              refine mx_iconst dX8_isIn_17 ic_0 ?_
              refine mx_zretK rfl dX8_isIn_18 (Or.inl rfl) ?_
              refine mx_if_ne (tgt := 356) dX8_next_341 rfl (fun _ => absurd ‹_› (by decide)) (fun _ => ?_)
              refine mx_iload_n dX8_next_344 rfl rfl ?_
              refine mx_bipush dX8_next_345 ib_47 ?_
              refine mx_icmp_eq (tgt := 356) dX8_next_347 rfl (fun _ => absurd ‹_› (by decide)) (fun _ => ?_)
              refine mx_iload_n dX8_next_350 rfl rfl ?_
              refine mx_bipush dX8_next_351 ib_37 ?_
              refine mx_icmp_ne (tgt := 360) dX8_next_353 rfl (fun _ => ?_) (fun _ => absurd ‹_› (by decide))
              refine mx_iconst dX8_next_360 ic_4 ?_
              refine mx_putI 8 50 (ref := "PrairiePoolModel") cl_8 (Nat.le_of_ble_eq_true rfl) (Or.inl q1677) (Or.inl rfl) dX8_next_361 (Or.inl rfl) rfl (ly8_k La0_h5) ?_
              refine mx_nmI  (fun h16 eh16 Xh16 Kh16 Lh16 => ?_)
              have H := H h16 eh16 Xh16
              have Kh16 := Kh16.trans Kh5
              have Lh16 := Lh16.trans Lh5
              have La0_h16 := La0_h5.ext Xh16
              exact mx_vret rfl dX8_next_364 H
            · have H := H.2 c15
              refine mx_iconst dX8_isIn_13 ic_1 ?_
              refine mx_goto (tgt := 18) dX8_isIn_14 rfl ?_
              refine mx_zretK rfl dX8_isIn_18 (Or.inr rfl) ?_
              refine mx_if_ne (tgt := 356) dX8_next_341 rfl (fun _ => ?_) (fun _ => absurd ‹_› (by decide))
              refine mx_iconst dX8_next_356 ic_3 ?_
              refine mx_goto (tgt := 361) dX8_next_357 rfl ?_
              refine mx_putI 8 50 (ref := "PrairiePoolModel") cl_8 (Nat.le_of_ble_eq_true rfl) (Or.inl q1677) (Or.inl rfl) dX8_next_361 (Or.inl rfl) rfl (ly8_k La0_h5) ?_
              refine mx_nmI  (fun h17 eh17 Xh17 Kh17 Lh17 => ?_)
              have H := H h17 eh17 Xh17
              have Kh17 := Kh17.trans Kh5
              have Lh17 := Lh17.trans Lh5
              have La0_h17 := La0_h5.ext Xh17
              exact mx_vret rfl dX8_next_364 H
        · have H := H.2 c12
          refine mx_iconst dX8_isIn_13 ic_1 ?_
          refine mx_goto (tgt := 18) dX8_isIn_14 rfl ?_
          refine mx_zretK rfl dX8_isIn_18 (Or.inr rfl) ?_
          refine mx_if_ne (tgt := 356) dX8_next_327 rfl (fun _ => ?_) (fun _ => absurd ‹_› (by decide))
          refine mx_iconst dX8_next_356 ic_3 ?_
          refine mx_goto (tgt := 361) dX8_next_357 rfl ?_
          refine mx_putI 8 50 (ref := "PrairiePoolModel") cl_8 (Nat.le_of_ble_eq_true rfl) (Or.inl q1677) (Or.inl rfl) dX8_next_361 (Or.inl rfl) rfl (ly8_k La0_h5) ?_
          refine mx_nmI  (fun h18 eh18 Xh18 Kh18 Lh18 => ?_)
          have H := H h18 eh18 Xh18
          have Kh18 := Kh18.trans Kh5
          have Lh18 := Lh18.trans Lh5
          have La0_h18 := La0_h5.ext Xh18
          exact mx_vret rfl dX8_next_364 H
    · have H := H.2 c3
      refine mx_aload_n dX8_look_8 rfl rfl ?_
      refine mx_get 8 43 (ref := "PrairiePoolModel") cl_8 (Nat.le_of_ble_eq_true rfl) (Or.inl q1670) (Or.inl rfl) dX8_look_9 (fv_8_43 _ _) (ly8_k La0_h1) ?_
      refine mx_tr (ly8_R_0_43 La0_h1) ?_
      refine mx_iload_n dX8_look_12 rfl rfl ?_
      obtain ⟨k19, H⟩ := H
      refine my_bald dX8_look_13 rfl (ly8_A_35 La0_h1 k19) ?_
      refine mx_ti (ah_skIA eh1 (by omega)) ?_
      refine mx_sipush dX8_look_14 is_255 ?_
      refine mx_iand dX8_look_17 ?_
      refine mx_goto (tgt := 22) dX8_look_18 rfl ?_
      refine mx_iretK rfl dX8_look_22 ?_
      refine mx_istore_n (al' := [some (rv a0), some (iv ((ah_I h (a0 + 35) (ah_I h a0 51).toNatClampNeg) &&& (255 : Int32)))]) dX8_next_91 rfl (Nat.le_of_ble_eq_true rfl) rfl ?_
      refine mx_iload_n dX8_next_92 rfl rfl ?_
      refine mx_callS (y' := mi_X8_isLetter) (vs := [iv ((ah_I h (a0 + 35) (ah_I h a0 51).toNatClampNeg) &&& (255 : Int32))]) (st := []) (al' := [some (iv ((ah_I h (a0 + 35) (ah_I h a0 51).toNatClampNeg) &&& (255 : Int32)))]) S_X8_isLetter q2178 dX8_next_93 rfl rfl (Nat.le_of_ble_eq_true rfl) (Nat.le_of_ble_eq_true rfl) ?_
      refine mx_iload_n dX8_isLetter_0 rfl rfl ?_
      refine mx_bipush dX8_isLetter_1 ib_97 ?_
      refine mx_icmp_lt (tgt := 16) dX8_isLetter_3 rfl (fun c20 => ?_) (fun c20 => ?_)
      · have H := H.1 c20
        refine mx_iconst dX8_isLetter_16 ic_0 ?_
        refine mx_zretK rfl dX8_isLetter_17 (Or.inl rfl) ?_
        refine mx_if_eq (tgt := 198) dX8_next_96 rfl (fun _ => ?_) (fun _ => absurd ‹_› (by decide))
        refine mx_iload_n dX8_next_198 rfl rfl ?_
        refine mx_callS (y' := mi_X8_isDigit) (vs := [iv ((ah_I h (a0 + 35) (ah_I h a0 51).toNatClampNeg) &&& (255 : Int32))]) (st := []) (al' := [some (iv ((ah_I h (a0 + 35) (ah_I h a0 51).toNatClampNeg) &&& (255 : Int32)))]) S_X8_isDigit q2181 dX8_next_199 rfl rfl (Nat.le_of_ble_eq_true rfl) (Nat.le_of_ble_eq_true rfl) ?_
        refine mx_iload_n dX8_isDigit_0 rfl rfl ?_
        refine mx_bipush dX8_isDigit_1 ib_48 ?_
        refine mx_icmp_lt (tgt := 16) dX8_isDigit_3 rfl (fun c21 => ?_) (fun c21 => ?_)
        · have H := H.1 c21
          refine mx_iconst dX8_isDigit_16 ic_0 ?_
          refine mx_zretK rfl dX8_isDigit_17 (Or.inl rfl) ?_
          refine mx_if_eq (tgt := 300) dX8_next_202 rfl (fun _ => ?_) (fun _ => absurd ‹_› (by decide))
          refine mx_aload_n dX8_next_300 rfl rfl ?_
          refine mx_aload_n dX8_next_301 rfl rfl ?_
          refine mx_get 8 51 (ref := "PrairiePoolModel") cl_8 (Nat.le_of_ble_eq_true rfl) (Or.inl q1678) (Or.inl rfl) dX8_next_302 (fv_8_51 _ _) (ly8_k La0_h1) ?_
          refine mx_ti (ah_skIK eh1 (by decide)) ?_
          refine mx_iconst dX8_next_305 ic_1 ?_
          refine mx_iadd dX8_next_306 ?_
          refine mx_putI 8 52 (ref := "PrairiePoolModel") cl_8 (Nat.le_of_ble_eq_true rfl) (Or.inl q1679) (Or.inl rfl) dX8_next_307 (Or.inl rfl) rfl (ly8_k La0_h1) ?_
          refine mx_nmI  (fun h22 eh22 Xh22 Kh22 Lh22 => ?_)
          have H := H h22 eh22 Xh22
          have Kh22 := Kh22.trans Kh1
          have Lh22 := Lh22.trans Lh1
          have La0_h22 := La0_h1.ext Xh22
          refine mx_aload_n dX8_next_310 rfl rfl ?_
          refine mx_iload_n dX8_next_311 rfl rfl ?_
          refine mx_putI 8 53 (ref := "PrairiePoolModel") cl_8 (Nat.le_of_ble_eq_true rfl) (Or.inl q1680) (Or.inl rfl) dX8_next_312 (Or.inl rfl) rfl (ly8_k La0_h22) ?_
          refine mx_nmI  (fun h23 eh23 Xh23 Kh23 Lh23 => ?_)
          have H := H h23 eh23 Xh23
          have Kh23 := Kh23.trans Kh22
          have Lh23 := Lh23.trans Lh22
          have La0_h23 := La0_h22.ext Xh23
          refine mx_aload_n dX8_next_315 rfl rfl ?_
          refine mx_iload_n dX8_next_316 rfl rfl ?_
          refine mx_i2l dX8_next_317 ?_
          refine mx_ldc2 q2184 dX8_next_318 ?_
          refine mx_ldc2 q2185 dX8_next_321 ?_
          refine mx_callS (y' := mi_X8_isIn) (vs := [jv ((ah_I h (a0 + 35) (ah_I h a0 51).toNatClampNeg) &&& (255 : Int32)).toInt64, jv (58 : Int64), jv (62 : Int64)]) (st := [rv a0]) (al' := [some (jv ((ah_I h (a0 + 35) (ah_I h a0 51).toNatClampNeg) &&& (255 : Int32)).toInt64), none, some (jv (58 : Int64)), none, some (jv (62 : Int64)), none]) S_X8_isIn q1996 dX8_next_324 rfl rfl (Nat.le_of_ble_eq_true rfl) (Nat.le_of_ble_eq_true rfl) ?_
          refine mx_lload_n dX8_isIn_0 rfl rfl ?_
          refine mx_lload_n dX8_isIn_1 rfl rfl ?_
          refine mx_lif_lt (tgt := 17) dX8_isIn_2 dX8_isIn_3 rfl (fun c24 => ?_) (fun c24 => ?_)
          · have H := H.1 c24
            refine mx_iconst dX8_isIn_17 ic_0 ?_
            refine mx_zretK rfl dX8_isIn_18 (Or.inl rfl) ?_
            refine mx_if_ne (tgt := 356) dX8_next_327 rfl (fun _ => absurd ‹_› (by decide)) (fun _ => ?_)
            refine mx_iload_n dX8_next_330 rfl rfl ?_
            refine mx_i2l dX8_next_331 ?_
            refine mx_ldc2 q2186 dX8_next_332 ?_
            refine mx_ldc2 q2187 dX8_next_335 ?_
            refine mx_callS (y' := mi_X8_isIn) (vs := [jv ((ah_I h (a0 + 35) (ah_I h a0 51).toNatClampNeg) &&& (255 : Int32)).toInt64, jv (40 : Int64), jv (45 : Int64)]) (st := [rv a0]) (al' := [some (jv ((ah_I h (a0 + 35) (ah_I h a0 51).toNatClampNeg) &&& (255 : Int32)).toInt64), none, some (jv (40 : Int64)), none, some (jv (45 : Int64)), none]) S_X8_isIn q1996 dX8_next_338 rfl rfl (Nat.le_of_ble_eq_true rfl) (Nat.le_of_ble_eq_true rfl) ?_
            refine mx_lload_n dX8_isIn_0 rfl rfl ?_
            refine mx_lload_n dX8_isIn_1 rfl rfl ?_
            refine mx_lif_lt (tgt := 17) dX8_isIn_2 dX8_isIn_3 rfl (fun c25 => ?_) (fun c25 => ?_)
            · have H := H.1 c25
              refine mx_iconst dX8_isIn_17 ic_0 ?_
              refine mx_zretK rfl dX8_isIn_18 (Or.inl rfl) ?_
              refine mx_if_ne (tgt := 356) dX8_next_341 rfl (fun _ => absurd ‹_› (by decide)) (fun _ => ?_)
              refine mx_iload_n dX8_next_344 rfl rfl ?_
              refine mx_bipush dX8_next_345 ib_47 ?_
              refine mx_icmp_eq (tgt := 356) dX8_next_347 rfl (fun c26 => ?_) (fun c26 => ?_)
              · have H := H.1 c26
                refine mx_iconst dX8_next_356 ic_3 ?_
                refine mx_goto (tgt := 361) dX8_next_357 rfl ?_
                refine mx_putI 8 50 (ref := "PrairiePoolModel") cl_8 (Nat.le_of_ble_eq_true rfl) (Or.inl q1677) (Or.inl rfl) dX8_next_361 (Or.inl rfl) rfl (ly8_k La0_h23) ?_
                refine mx_nmI  (fun h27 eh27 Xh27 Kh27 Lh27 => ?_)
                have H := H h27 eh27 Xh27
                have Kh27 := Kh27.trans Kh23
                have Lh27 := Lh27.trans Lh23
                have La0_h27 := La0_h23.ext Xh27
                exact mx_vret rfl dX8_next_364 H
              · have H := H.2 c26
                refine mx_iload_n dX8_next_350 rfl rfl ?_
                refine mx_bipush dX8_next_351 ib_37 ?_
                refine mx_icmp_ne (tgt := 360) dX8_next_353 rfl (fun c28 => ?_) (fun c28 => ?_)
                · have H := H.1 c28
                  refine mx_iconst dX8_next_360 ic_4 ?_
                  refine mx_putI 8 50 (ref := "PrairiePoolModel") cl_8 (Nat.le_of_ble_eq_true rfl) (Or.inl q1677) (Or.inl rfl) dX8_next_361 (Or.inl rfl) rfl (ly8_k La0_h23) ?_
                  refine mx_nmI  (fun h29 eh29 Xh29 Kh29 Lh29 => ?_)
                  have H := H h29 eh29 Xh29
                  have Kh29 := Kh29.trans Kh23
                  have Lh29 := Lh29.trans Lh23
                  have La0_h29 := La0_h23.ext Xh29
                  exact mx_vret rfl dX8_next_364 H
                · have H := H.2 c28
                  refine mx_iconst dX8_next_356 ic_3 ?_
                  refine mx_goto (tgt := 361) dX8_next_357 rfl ?_
                  refine mx_putI 8 50 (ref := "PrairiePoolModel") cl_8 (Nat.le_of_ble_eq_true rfl) (Or.inl q1677) (Or.inl rfl) dX8_next_361 (Or.inl rfl) rfl (ly8_k La0_h23) ?_
                  refine mx_nmI  (fun h30 eh30 Xh30 Kh30 Lh30 => ?_)
                  have H := H h30 eh30 Xh30
                  have Kh30 := Kh30.trans Kh23
                  have Lh30 := Lh30.trans Lh23
                  have La0_h30 := La0_h23.ext Xh30
                  exact mx_vret rfl dX8_next_364 H
            · have H := H.2 c25
              refine mx_lload_n dX8_isIn_6 rfl rfl ?_
              refine mx_lload dX8_isIn_7 rfl ?_
              refine mx_lif_gt (tgt := 17) dX8_isIn_9 dX8_isIn_10 rfl (fun c31 => ?_) (fun c31 => ?_)
              · have H := H.1 c31
                refine mx_iconst dX8_isIn_17 ic_0 ?_
                refine mx_zretK rfl dX8_isIn_18 (Or.inl rfl) ?_
                refine mx_if_ne (tgt := 356) dX8_next_341 rfl (fun _ => absurd ‹_› (by decide)) (fun _ => ?_)
                refine mx_iload_n dX8_next_344 rfl rfl ?_
                refine mx_bipush dX8_next_345 ib_47 ?_
                refine mx_icmp_eq (tgt := 356) dX8_next_347 rfl (fun c32 => ?_) (fun c32 => ?_)
                · have H := H.1 c32
                  refine mx_iconst dX8_next_356 ic_3 ?_
                  refine mx_goto (tgt := 361) dX8_next_357 rfl ?_
                  refine mx_putI 8 50 (ref := "PrairiePoolModel") cl_8 (Nat.le_of_ble_eq_true rfl) (Or.inl q1677) (Or.inl rfl) dX8_next_361 (Or.inl rfl) rfl (ly8_k La0_h23) ?_
                  refine mx_nmI  (fun h33 eh33 Xh33 Kh33 Lh33 => ?_)
                  have H := H h33 eh33 Xh33
                  have Kh33 := Kh33.trans Kh23
                  have Lh33 := Lh33.trans Lh23
                  have La0_h33 := La0_h23.ext Xh33
                  exact mx_vret rfl dX8_next_364 H
                · have H := H.2 c32
                  refine mx_iload_n dX8_next_350 rfl rfl ?_
                  refine mx_bipush dX8_next_351 ib_37 ?_
                  refine mx_icmp_ne (tgt := 360) dX8_next_353 rfl (fun c34 => ?_) (fun c34 => ?_)
                  · have H := H.1 c34
                    refine mx_iconst dX8_next_360 ic_4 ?_
                    refine mx_putI 8 50 (ref := "PrairiePoolModel") cl_8 (Nat.le_of_ble_eq_true rfl) (Or.inl q1677) (Or.inl rfl) dX8_next_361 (Or.inl rfl) rfl (ly8_k La0_h23) ?_
                    refine mx_nmI  (fun h35 eh35 Xh35 Kh35 Lh35 => ?_)
                    have H := H h35 eh35 Xh35
                    have Kh35 := Kh35.trans Kh23
                    have Lh35 := Lh35.trans Lh23
                    have La0_h35 := La0_h23.ext Xh35
                    exact mx_vret rfl dX8_next_364 H
                  · have H := H.2 c34
                    refine mx_iconst dX8_next_356 ic_3 ?_
                    refine mx_goto (tgt := 361) dX8_next_357 rfl ?_
                    refine mx_putI 8 50 (ref := "PrairiePoolModel") cl_8 (Nat.le_of_ble_eq_true rfl) (Or.inl q1677) (Or.inl rfl) dX8_next_361 (Or.inl rfl) rfl (ly8_k La0_h23) ?_
                    refine mx_nmI  (fun h36 eh36 Xh36 Kh36 Lh36 => ?_)
                    have H := H h36 eh36 Xh36
                    have Kh36 := Kh36.trans Kh23
                    have Lh36 := Lh36.trans Lh23
                    have La0_h36 := La0_h23.ext Xh36
                    exact mx_vret rfl dX8_next_364 H
              · have H := H.2 c31
                refine mx_iconst dX8_isIn_13 ic_1 ?_
                refine mx_goto (tgt := 18) dX8_isIn_14 rfl ?_
                refine mx_zretK rfl dX8_isIn_18 (Or.inr rfl) ?_
                refine mx_if_ne (tgt := 356) dX8_next_341 rfl (fun _ => ?_) (fun _ => absurd ‹_› (by decide))
                refine mx_iconst dX8_next_356 ic_3 ?_
                refine mx_goto (tgt := 361) dX8_next_357 rfl ?_
                refine mx_putI 8 50 (ref := "PrairiePoolModel") cl_8 (Nat.le_of_ble_eq_true rfl) (Or.inl q1677) (Or.inl rfl) dX8_next_361 (Or.inl rfl) rfl (ly8_k La0_h23) ?_
                refine mx_nmI  (fun h37 eh37 Xh37 Kh37 Lh37 => ?_)
                have H := H h37 eh37 Xh37
                have Kh37 := Kh37.trans Kh23
                have Lh37 := Lh37.trans Lh23
                have La0_h37 := La0_h23.ext Xh37
                exact mx_vret rfl dX8_next_364 H
          · have H := H.2 c24
            refine mx_lload_n dX8_isIn_6 rfl rfl ?_
            refine mx_lload dX8_isIn_7 rfl ?_
            refine mx_lif_gt (tgt := 17) dX8_isIn_9 dX8_isIn_10 rfl (fun c38 => ?_) (fun c38 => ?_)
            · have H := H.1 c38
              refine mx_iconst dX8_isIn_17 ic_0 ?_
              refine mx_zretK rfl dX8_isIn_18 (Or.inl rfl) ?_
              refine mx_if_ne (tgt := 356) dX8_next_327 rfl (fun _ => absurd ‹_› (by decide)) (fun _ => ?_)
              refine mx_iload_n dX8_next_330 rfl rfl ?_
              refine mx_i2l dX8_next_331 ?_
              refine mx_ldc2 q2186 dX8_next_332 ?_
              refine mx_ldc2 q2187 dX8_next_335 ?_
              refine mx_callS (y' := mi_X8_isIn) (vs := [jv ((ah_I h (a0 + 35) (ah_I h a0 51).toNatClampNeg) &&& (255 : Int32)).toInt64, jv (40 : Int64), jv (45 : Int64)]) (st := [rv a0]) (al' := [some (jv ((ah_I h (a0 + 35) (ah_I h a0 51).toNatClampNeg) &&& (255 : Int32)).toInt64), none, some (jv (40 : Int64)), none, some (jv (45 : Int64)), none]) S_X8_isIn q1996 dX8_next_338 rfl rfl (Nat.le_of_ble_eq_true rfl) (Nat.le_of_ble_eq_true rfl) ?_
              refine mx_lload_n dX8_isIn_0 rfl rfl ?_
              refine mx_lload_n dX8_isIn_1 rfl rfl ?_
              refine mx_lif_lt (tgt := 17) dX8_isIn_2 dX8_isIn_3 rfl (fun c39 => ?_) (fun c39 => ?_)
              · have H := H.1 c39
                refine mx_iconst dX8_isIn_17 ic_0 ?_
                refine mx_zretK rfl dX8_isIn_18 (Or.inl rfl) ?_
                refine mx_if_ne (tgt := 356) dX8_next_341 rfl (fun _ => absurd ‹_› (by decide)) (fun _ => ?_)
                refine mx_iload_n dX8_next_344 rfl rfl ?_
                refine mx_bipush dX8_next_345 ib_47 ?_
                refine mx_icmp_eq (tgt := 356) dX8_next_347 rfl (fun c40 => ?_) (fun c40 => ?_)
                · have H := H.1 c40
                  refine mx_iconst dX8_next_356 ic_3 ?_
                  refine mx_goto (tgt := 361) dX8_next_357 rfl ?_
                  refine mx_putI 8 50 (ref := "PrairiePoolModel") cl_8 (Nat.le_of_ble_eq_true rfl) (Or.inl q1677) (Or.inl rfl) dX8_next_361 (Or.inl rfl) rfl (ly8_k La0_h23) ?_
                  refine mx_nmI  (fun h41 eh41 Xh41 Kh41 Lh41 => ?_)
                  have H := H h41 eh41 Xh41
                  have Kh41 := Kh41.trans Kh23
                  have Lh41 := Lh41.trans Lh23
                  have La0_h41 := La0_h23.ext Xh41
                  exact mx_vret rfl dX8_next_364 H
                · have H := H.2 c40
                  refine mx_iload_n dX8_next_350 rfl rfl ?_
                  refine mx_bipush dX8_next_351 ib_37 ?_
                  refine mx_icmp_ne (tgt := 360) dX8_next_353 rfl (fun c42 => ?_) (fun c42 => ?_)
                  · have H := H.1 c42
                    refine mx_iconst dX8_next_360 ic_4 ?_
                    refine mx_putI 8 50 (ref := "PrairiePoolModel") cl_8 (Nat.le_of_ble_eq_true rfl) (Or.inl q1677) (Or.inl rfl) dX8_next_361 (Or.inl rfl) rfl (ly8_k La0_h23) ?_
                    refine mx_nmI  (fun h43 eh43 Xh43 Kh43 Lh43 => ?_)
                    have H := H h43 eh43 Xh43
                    have Kh43 := Kh43.trans Kh23
                    have Lh43 := Lh43.trans Lh23
                    have La0_h43 := La0_h23.ext Xh43
                    exact mx_vret rfl dX8_next_364 H
                  · have H := H.2 c42
                    refine mx_iconst dX8_next_356 ic_3 ?_
                    refine mx_goto (tgt := 361) dX8_next_357 rfl ?_
                    refine mx_putI 8 50 (ref := "PrairiePoolModel") cl_8 (Nat.le_of_ble_eq_true rfl) (Or.inl q1677) (Or.inl rfl) dX8_next_361 (Or.inl rfl) rfl (ly8_k La0_h23) ?_
                    refine mx_nmI  (fun h44 eh44 Xh44 Kh44 Lh44 => ?_)
                    have H := H h44 eh44 Xh44
                    have Kh44 := Kh44.trans Kh23
                    have Lh44 := Lh44.trans Lh23
                    have La0_h44 := La0_h23.ext Xh44
                    exact mx_vret rfl dX8_next_364 H
              · have H := H.2 c39
                refine mx_lload_n dX8_isIn_6 rfl rfl ?_
                refine mx_lload dX8_isIn_7 rfl ?_
                refine mx_lif_gt (tgt := 17) dX8_isIn_9 dX8_isIn_10 rfl (fun c45 => ?_) (fun c45 => ?_)
                · have H := H.1 c45
                  refine mx_iconst dX8_isIn_17 ic_0 ?_
                  refine mx_zretK rfl dX8_isIn_18 (Or.inl rfl) ?_
                  refine mx_if_ne (tgt := 356) dX8_next_341 rfl (fun _ => absurd ‹_› (by decide)) (fun _ => ?_)
                  refine mx_iload_n dX8_next_344 rfl rfl ?_
                  refine mx_bipush dX8_next_345 ib_47 ?_
                  refine mx_icmp_eq (tgt := 356) dX8_next_347 rfl (fun c46 => ?_) (fun c46 => ?_)
                  · have H := H.1 c46
                    refine mx_iconst dX8_next_356 ic_3 ?_
                    refine mx_goto (tgt := 361) dX8_next_357 rfl ?_
                    refine mx_putI 8 50 (ref := "PrairiePoolModel") cl_8 (Nat.le_of_ble_eq_true rfl) (Or.inl q1677) (Or.inl rfl) dX8_next_361 (Or.inl rfl) rfl (ly8_k La0_h23) ?_
                    refine mx_nmI  (fun h47 eh47 Xh47 Kh47 Lh47 => ?_)
                    have H := H h47 eh47 Xh47
                    have Kh47 := Kh47.trans Kh23
                    have Lh47 := Lh47.trans Lh23
                    have La0_h47 := La0_h23.ext Xh47
                    exact mx_vret rfl dX8_next_364 H
                  · have H := H.2 c46
                    refine mx_iload_n dX8_next_350 rfl rfl ?_
                    refine mx_bipush dX8_next_351 ib_37 ?_
                    refine mx_icmp_ne (tgt := 360) dX8_next_353 rfl (fun c48 => ?_) (fun c48 => ?_)
                    · have H := H.1 c48
                      refine mx_iconst dX8_next_360 ic_4 ?_
                      refine mx_putI 8 50 (ref := "PrairiePoolModel") cl_8 (Nat.le_of_ble_eq_true rfl) (Or.inl q1677) (Or.inl rfl) dX8_next_361 (Or.inl rfl) rfl (ly8_k La0_h23) ?_
                      refine mx_nmI  (fun h49 eh49 Xh49 Kh49 Lh49 => ?_)
                      have H := H h49 eh49 Xh49
                      have Kh49 := Kh49.trans Kh23
                      have Lh49 := Lh49.trans Lh23
                      have La0_h49 := La0_h23.ext Xh49
                      exact mx_vret rfl dX8_next_364 H
                    · have H := H.2 c48
                      refine mx_iconst dX8_next_356 ic_3 ?_
                      refine mx_goto (tgt := 361) dX8_next_357 rfl ?_
                      refine mx_putI 8 50 (ref := "PrairiePoolModel") cl_8 (Nat.le_of_ble_eq_true rfl) (Or.inl q1677) (Or.inl rfl) dX8_next_361 (Or.inl rfl) rfl (ly8_k La0_h23) ?_
                      refine mx_nmI  (fun h50 eh50 Xh50 Kh50 Lh50 => ?_)
                      have H := H h50 eh50 Xh50
                      have Kh50 := Kh50.trans Kh23
                      have Lh50 := Lh50.trans Lh23
                      have La0_h50 := La0_h23.ext Xh50
                      exact mx_vret rfl dX8_next_364 H
                · have H := H.2 c45
                  refine mx_iconst dX8_isIn_13 ic_1 ?_
                  refine mx_goto (tgt := 18) dX8_isIn_14 rfl ?_
                  refine mx_zretK rfl dX8_isIn_18 (Or.inr rfl) ?_
                  refine mx_if_ne (tgt := 356) dX8_next_341 rfl (fun _ => ?_) (fun _ => absurd ‹_› (by decide))
                  refine mx_iconst dX8_next_356 ic_3 ?_
                  refine mx_goto (tgt := 361) dX8_next_357 rfl ?_
                  refine mx_putI 8 50 (ref := "PrairiePoolModel") cl_8 (Nat.le_of_ble_eq_true rfl) (Or.inl q1677) (Or.inl rfl) dX8_next_361 (Or.inl rfl) rfl (ly8_k La0_h23) ?_
                  refine mx_nmI  (fun h51 eh51 Xh51 Kh51 Lh51 => ?_)
                  have H := H h51 eh51 Xh51
                  have Kh51 := Kh51.trans Kh23
                  have Lh51 := Lh51.trans Lh23
                  have La0_h51 := La0_h23.ext Xh51
                  exact mx_vret rfl dX8_next_364 H
            · have H := H.2 c38
              refine mx_iconst dX8_isIn_13 ic_1 ?_
              refine mx_goto (tgt := 18) dX8_isIn_14 rfl ?_
              refine mx_zretK rfl dX8_isIn_18 (Or.inr rfl) ?_
              refine mx_if_ne (tgt := 356) dX8_next_327 rfl (fun _ => ?_) (fun _ => absurd ‹_› (by decide))
              refine mx_iconst dX8_next_356 ic_3 ?_
              refine mx_goto (tgt := 361) dX8_next_357 rfl ?_
              refine mx_putI 8 50 (ref := "PrairiePoolModel") cl_8 (Nat.le_of_ble_eq_true rfl) (Or.inl q1677) (Or.inl rfl) dX8_next_361 (Or.inl rfl) rfl (ly8_k La0_h23) ?_
              refine mx_nmI  (fun h52 eh52 Xh52 Kh52 Lh52 => ?_)
              have H := H h52 eh52 Xh52
              have Kh52 := Kh52.trans Kh23
              have Lh52 := Lh52.trans Lh23
              have La0_h52 := La0_h23.ext Xh52
              exact mx_vret rfl dX8_next_364 H
        · have H := H.2 c21
          refine mx_iload_n dX8_isDigit_6 rfl rfl ?_
          refine mx_bipush dX8_isDigit_7 ib_57 ?_
          refine mx_icmp_gt (tgt := 16) dX8_isDigit_9 rfl (fun c53 => ?_) (fun c53 => ?_)
          · have H := H.1 c53
            refine mx_iconst dX8_isDigit_16 ic_0 ?_
            refine mx_zretK rfl dX8_isDigit_17 (Or.inl rfl) ?_
            refine mx_if_eq (tgt := 300) dX8_next_202 rfl (fun _ => ?_) (fun _ => absurd ‹_› (by decide))
            refine mx_aload_n dX8_next_300 rfl rfl ?_
            refine mx_aload_n dX8_next_301 rfl rfl ?_
            refine mx_get 8 51 (ref := "PrairiePoolModel") cl_8 (Nat.le_of_ble_eq_true rfl) (Or.inl q1678) (Or.inl rfl) dX8_next_302 (fv_8_51 _ _) (ly8_k La0_h1) ?_
            refine mx_ti (ah_skIK eh1 (by decide)) ?_
            refine mx_iconst dX8_next_305 ic_1 ?_
            refine mx_iadd dX8_next_306 ?_
            refine mx_putI 8 52 (ref := "PrairiePoolModel") cl_8 (Nat.le_of_ble_eq_true rfl) (Or.inl q1679) (Or.inl rfl) dX8_next_307 (Or.inl rfl) rfl (ly8_k La0_h1) ?_
            refine mx_nmI  (fun h54 eh54 Xh54 Kh54 Lh54 => ?_)
            have H := H h54 eh54 Xh54
            have Kh54 := Kh54.trans Kh1
            have Lh54 := Lh54.trans Lh1
            have La0_h54 := La0_h1.ext Xh54
            refine mx_aload_n dX8_next_310 rfl rfl ?_
            refine mx_iload_n dX8_next_311 rfl rfl ?_
            refine mx_putI 8 53 (ref := "PrairiePoolModel") cl_8 (Nat.le_of_ble_eq_true rfl) (Or.inl q1680) (Or.inl rfl) dX8_next_312 (Or.inl rfl) rfl (ly8_k La0_h54) ?_
            refine mx_nmI  (fun h55 eh55 Xh55 Kh55 Lh55 => ?_)
            have H := H h55 eh55 Xh55
            have Kh55 := Kh55.trans Kh54
            have Lh55 := Lh55.trans Lh54
            have La0_h55 := La0_h54.ext Xh55
            refine mx_aload_n dX8_next_315 rfl rfl ?_
            refine mx_iload_n dX8_next_316 rfl rfl ?_
            refine mx_i2l dX8_next_317 ?_
            refine mx_ldc2 q2184 dX8_next_318 ?_
            refine mx_ldc2 q2185 dX8_next_321 ?_
            refine mx_callS (y' := mi_X8_isIn) (vs := [jv ((ah_I h (a0 + 35) (ah_I h a0 51).toNatClampNeg) &&& (255 : Int32)).toInt64, jv (58 : Int64), jv (62 : Int64)]) (st := [rv a0]) (al' := [some (jv ((ah_I h (a0 + 35) (ah_I h a0 51).toNatClampNeg) &&& (255 : Int32)).toInt64), none, some (jv (58 : Int64)), none, some (jv (62 : Int64)), none]) S_X8_isIn q1996 dX8_next_324 rfl rfl (Nat.le_of_ble_eq_true rfl) (Nat.le_of_ble_eq_true rfl) ?_
            refine mx_lload_n dX8_isIn_0 rfl rfl ?_
            refine mx_lload_n dX8_isIn_1 rfl rfl ?_
            refine mx_lif_lt (tgt := 17) dX8_isIn_2 dX8_isIn_3 rfl (fun c56 => ?_) (fun c56 => ?_)
            · have H := H.1 c56
              refine mx_iconst dX8_isIn_17 ic_0 ?_
              refine mx_zretK rfl dX8_isIn_18 (Or.inl rfl) ?_
              refine mx_if_ne (tgt := 356) dX8_next_327 rfl (fun _ => absurd ‹_› (by decide)) (fun _ => ?_)
              refine mx_iload_n dX8_next_330 rfl rfl ?_
              refine mx_i2l dX8_next_331 ?_
              refine mx_ldc2 q2186 dX8_next_332 ?_
              refine mx_ldc2 q2187 dX8_next_335 ?_
              refine mx_callS (y' := mi_X8_isIn) (vs := [jv ((ah_I h (a0 + 35) (ah_I h a0 51).toNatClampNeg) &&& (255 : Int32)).toInt64, jv (40 : Int64), jv (45 : Int64)]) (st := [rv a0]) (al' := [some (jv ((ah_I h (a0 + 35) (ah_I h a0 51).toNatClampNeg) &&& (255 : Int32)).toInt64), none, some (jv (40 : Int64)), none, some (jv (45 : Int64)), none]) S_X8_isIn q1996 dX8_next_338 rfl rfl (Nat.le_of_ble_eq_true rfl) (Nat.le_of_ble_eq_true rfl) ?_
              refine mx_lload_n dX8_isIn_0 rfl rfl ?_
              refine mx_lload_n dX8_isIn_1 rfl rfl ?_
              refine mx_lif_lt (tgt := 17) dX8_isIn_2 dX8_isIn_3 rfl (fun c57 => ?_) (fun c57 => ?_)
              · have H := H.1 c57
                refine mx_iconst dX8_isIn_17 ic_0 ?_
                refine mx_zretK rfl dX8_isIn_18 (Or.inl rfl) ?_
                refine mx_if_ne (tgt := 356) dX8_next_341 rfl (fun _ => absurd ‹_› (by decide)) (fun _ => ?_)
                refine mx_iload_n dX8_next_344 rfl rfl ?_
                refine mx_bipush dX8_next_345 ib_47 ?_
                refine mx_icmp_eq (tgt := 356) dX8_next_347 rfl (fun c58 => ?_) (fun c58 => ?_)
                · have H := H.1 c58
                  refine mx_iconst dX8_next_356 ic_3 ?_
                  refine mx_goto (tgt := 361) dX8_next_357 rfl ?_
                  refine mx_putI 8 50 (ref := "PrairiePoolModel") cl_8 (Nat.le_of_ble_eq_true rfl) (Or.inl q1677) (Or.inl rfl) dX8_next_361 (Or.inl rfl) rfl (ly8_k La0_h55) ?_
                  refine mx_nmI  (fun h59 eh59 Xh59 Kh59 Lh59 => ?_)
                  have H := H h59 eh59 Xh59
                  have Kh59 := Kh59.trans Kh55
                  have Lh59 := Lh59.trans Lh55
                  have La0_h59 := La0_h55.ext Xh59
                  exact mx_vret rfl dX8_next_364 H
                · have H := H.2 c58
                  refine mx_iload_n dX8_next_350 rfl rfl ?_
                  refine mx_bipush dX8_next_351 ib_37 ?_
                  refine mx_icmp_ne (tgt := 360) dX8_next_353 rfl (fun c60 => ?_) (fun c60 => ?_)
                  · have H := H.1 c60
                    refine mx_iconst dX8_next_360 ic_4 ?_
                    refine mx_putI 8 50 (ref := "PrairiePoolModel") cl_8 (Nat.le_of_ble_eq_true rfl) (Or.inl q1677) (Or.inl rfl) dX8_next_361 (Or.inl rfl) rfl (ly8_k La0_h55) ?_
                    refine mx_nmI  (fun h61 eh61 Xh61 Kh61 Lh61 => ?_)
                    have H := H h61 eh61 Xh61
                    have Kh61 := Kh61.trans Kh55
                    have Lh61 := Lh61.trans Lh55
                    have La0_h61 := La0_h55.ext Xh61
                    exact mx_vret rfl dX8_next_364 H
                  · have H := H.2 c60
                    refine mx_iconst dX8_next_356 ic_3 ?_
                    refine mx_goto (tgt := 361) dX8_next_357 rfl ?_
                    refine mx_putI 8 50 (ref := "PrairiePoolModel") cl_8 (Nat.le_of_ble_eq_true rfl) (Or.inl q1677) (Or.inl rfl) dX8_next_361 (Or.inl rfl) rfl (ly8_k La0_h55) ?_
                    refine mx_nmI  (fun h62 eh62 Xh62 Kh62 Lh62 => ?_)
                    have H := H h62 eh62 Xh62
                    have Kh62 := Kh62.trans Kh55
                    have Lh62 := Lh62.trans Lh55
                    have La0_h62 := La0_h55.ext Xh62
                    exact mx_vret rfl dX8_next_364 H
              · have H := H.2 c57
                refine mx_lload_n dX8_isIn_6 rfl rfl ?_
                refine mx_lload dX8_isIn_7 rfl ?_
                refine mx_lif_gt (tgt := 17) dX8_isIn_9 dX8_isIn_10 rfl (fun c63 => ?_) (fun c63 => ?_)
                · have H := H.1 c63
                  refine mx_iconst dX8_isIn_17 ic_0 ?_
                  refine mx_zretK rfl dX8_isIn_18 (Or.inl rfl) ?_
                  refine mx_if_ne (tgt := 356) dX8_next_341 rfl (fun _ => absurd ‹_› (by decide)) (fun _ => ?_)
                  refine mx_iload_n dX8_next_344 rfl rfl ?_
                  refine mx_bipush dX8_next_345 ib_47 ?_
                  refine mx_icmp_eq (tgt := 356) dX8_next_347 rfl (fun c64 => ?_) (fun c64 => ?_)
                  · have H := H.1 c64
                    refine mx_iconst dX8_next_356 ic_3 ?_
                    refine mx_goto (tgt := 361) dX8_next_357 rfl ?_
                    refine mx_putI 8 50 (ref := "PrairiePoolModel") cl_8 (Nat.le_of_ble_eq_true rfl) (Or.inl q1677) (Or.inl rfl) dX8_next_361 (Or.inl rfl) rfl (ly8_k La0_h55) ?_
                    refine mx_nmI  (fun h65 eh65 Xh65 Kh65 Lh65 => ?_)
                    have H := H h65 eh65 Xh65
                    have Kh65 := Kh65.trans Kh55
                    have Lh65 := Lh65.trans Lh55
                    have La0_h65 := La0_h55.ext Xh65
                    exact mx_vret rfl dX8_next_364 H
                  · have H := H.2 c64
                    refine mx_iload_n dX8_next_350 rfl rfl ?_
                    refine mx_bipush dX8_next_351 ib_37 ?_
                    refine mx_icmp_ne (tgt := 360) dX8_next_353 rfl (fun c66 => ?_) (fun c66 => ?_)
                    · have H := H.1 c66
                      refine mx_iconst dX8_next_360 ic_4 ?_
                      refine mx_putI 8 50 (ref := "PrairiePoolModel") cl_8 (Nat.le_of_ble_eq_true rfl) (Or.inl q1677) (Or.inl rfl) dX8_next_361 (Or.inl rfl) rfl (ly8_k La0_h55) ?_
                      refine mx_nmI  (fun h67 eh67 Xh67 Kh67 Lh67 => ?_)
                      have H := H h67 eh67 Xh67
                      have Kh67 := Kh67.trans Kh55
                      have Lh67 := Lh67.trans Lh55
                      have La0_h67 := La0_h55.ext Xh67
                      exact mx_vret rfl dX8_next_364 H
                    · have H := H.2 c66
                      refine mx_iconst dX8_next_356 ic_3 ?_
                      refine mx_goto (tgt := 361) dX8_next_357 rfl ?_
                      refine mx_putI 8 50 (ref := "PrairiePoolModel") cl_8 (Nat.le_of_ble_eq_true rfl) (Or.inl q1677) (Or.inl rfl) dX8_next_361 (Or.inl rfl) rfl (ly8_k La0_h55) ?_
                      refine mx_nmI  (fun h68 eh68 Xh68 Kh68 Lh68 => ?_)
                      have H := H h68 eh68 Xh68
                      have Kh68 := Kh68.trans Kh55
                      have Lh68 := Lh68.trans Lh55
                      have La0_h68 := La0_h55.ext Xh68
                      exact mx_vret rfl dX8_next_364 H
                · have H := H.2 c63
                  refine mx_iconst dX8_isIn_13 ic_1 ?_
                  refine mx_goto (tgt := 18) dX8_isIn_14 rfl ?_
                  refine mx_zretK rfl dX8_isIn_18 (Or.inr rfl) ?_
                  refine mx_if_ne (tgt := 356) dX8_next_341 rfl (fun _ => ?_) (fun _ => absurd ‹_› (by decide))
                  refine mx_iconst dX8_next_356 ic_3 ?_
                  refine mx_goto (tgt := 361) dX8_next_357 rfl ?_
                  refine mx_putI 8 50 (ref := "PrairiePoolModel") cl_8 (Nat.le_of_ble_eq_true rfl) (Or.inl q1677) (Or.inl rfl) dX8_next_361 (Or.inl rfl) rfl (ly8_k La0_h55) ?_
                  refine mx_nmI  (fun h69 eh69 Xh69 Kh69 Lh69 => ?_)
                  have H := H h69 eh69 Xh69
                  have Kh69 := Kh69.trans Kh55
                  have Lh69 := Lh69.trans Lh55
                  have La0_h69 := La0_h55.ext Xh69
                  exact mx_vret rfl dX8_next_364 H
            · have H := H.2 c56
              refine mx_lload_n dX8_isIn_6 rfl rfl ?_
              refine mx_lload dX8_isIn_7 rfl ?_
              refine mx_lif_gt (tgt := 17) dX8_isIn_9 dX8_isIn_10 rfl (fun c70 => ?_) (fun c70 => ?_)
              · have H := H.1 c70
                refine mx_iconst dX8_isIn_17 ic_0 ?_
                refine mx_zretK rfl dX8_isIn_18 (Or.inl rfl) ?_
                refine mx_if_ne (tgt := 356) dX8_next_327 rfl (fun _ => absurd ‹_› (by decide)) (fun _ => ?_)
                refine mx_iload_n dX8_next_330 rfl rfl ?_
                refine mx_i2l dX8_next_331 ?_
                refine mx_ldc2 q2186 dX8_next_332 ?_
                refine mx_ldc2 q2187 dX8_next_335 ?_
                refine mx_callS (y' := mi_X8_isIn) (vs := [jv ((ah_I h (a0 + 35) (ah_I h a0 51).toNatClampNeg) &&& (255 : Int32)).toInt64, jv (40 : Int64), jv (45 : Int64)]) (st := [rv a0]) (al' := [some (jv ((ah_I h (a0 + 35) (ah_I h a0 51).toNatClampNeg) &&& (255 : Int32)).toInt64), none, some (jv (40 : Int64)), none, some (jv (45 : Int64)), none]) S_X8_isIn q1996 dX8_next_338 rfl rfl (Nat.le_of_ble_eq_true rfl) (Nat.le_of_ble_eq_true rfl) ?_
                refine mx_lload_n dX8_isIn_0 rfl rfl ?_
                refine mx_lload_n dX8_isIn_1 rfl rfl ?_
                refine mx_lif_lt (tgt := 17) dX8_isIn_2 dX8_isIn_3 rfl (fun c71 => ?_) (fun c71 => ?_)
                · have H := H.1 c71
                  refine mx_iconst dX8_isIn_17 ic_0 ?_
                  refine mx_zretK rfl dX8_isIn_18 (Or.inl rfl) ?_
                  refine mx_if_ne (tgt := 356) dX8_next_341 rfl (fun _ => absurd ‹_› (by decide)) (fun _ => ?_)
                  refine mx_iload_n dX8_next_344 rfl rfl ?_
                  refine mx_bipush dX8_next_345 ib_47 ?_
                  refine mx_icmp_eq (tgt := 356) dX8_next_347 rfl (fun c72 => ?_) (fun c72 => ?_)
                  · have H := H.1 c72
                    refine mx_iconst dX8_next_356 ic_3 ?_
                    refine mx_goto (tgt := 361) dX8_next_357 rfl ?_
                    refine mx_putI 8 50 (ref := "PrairiePoolModel") cl_8 (Nat.le_of_ble_eq_true rfl) (Or.inl q1677) (Or.inl rfl) dX8_next_361 (Or.inl rfl) rfl (ly8_k La0_h55) ?_
                    refine mx_nmI  (fun h73 eh73 Xh73 Kh73 Lh73 => ?_)
                    have H := H h73 eh73 Xh73
                    have Kh73 := Kh73.trans Kh55
                    have Lh73 := Lh73.trans Lh55
                    have La0_h73 := La0_h55.ext Xh73
                    exact mx_vret rfl dX8_next_364 H
                  · have H := H.2 c72
                    refine mx_iload_n dX8_next_350 rfl rfl ?_
                    refine mx_bipush dX8_next_351 ib_37 ?_
                    refine mx_icmp_ne (tgt := 360) dX8_next_353 rfl (fun c74 => ?_) (fun c74 => ?_)
                    · have H := H.1 c74
                      refine mx_iconst dX8_next_360 ic_4 ?_
                      refine mx_putI 8 50 (ref := "PrairiePoolModel") cl_8 (Nat.le_of_ble_eq_true rfl) (Or.inl q1677) (Or.inl rfl) dX8_next_361 (Or.inl rfl) rfl (ly8_k La0_h55) ?_
                      refine mx_nmI  (fun h75 eh75 Xh75 Kh75 Lh75 => ?_)
                      have H := H h75 eh75 Xh75
                      have Kh75 := Kh75.trans Kh55
                      have Lh75 := Lh75.trans Lh55
                      have La0_h75 := La0_h55.ext Xh75
                      exact mx_vret rfl dX8_next_364 H
                    · have H := H.2 c74
                      refine mx_iconst dX8_next_356 ic_3 ?_
                      refine mx_goto (tgt := 361) dX8_next_357 rfl ?_
                      refine mx_putI 8 50 (ref := "PrairiePoolModel") cl_8 (Nat.le_of_ble_eq_true rfl) (Or.inl q1677) (Or.inl rfl) dX8_next_361 (Or.inl rfl) rfl (ly8_k La0_h55) ?_
                      refine mx_nmI  (fun h76 eh76 Xh76 Kh76 Lh76 => ?_)
                      have H := H h76 eh76 Xh76
                      have Kh76 := Kh76.trans Kh55
                      have Lh76 := Lh76.trans Lh55
                      have La0_h76 := La0_h55.ext Xh76
                      exact mx_vret rfl dX8_next_364 H
                · have H := H.2 c71
                  refine mx_lload_n dX8_isIn_6 rfl rfl ?_
                  refine mx_lload dX8_isIn_7 rfl ?_
                  refine mx_lif_gt (tgt := 17) dX8_isIn_9 dX8_isIn_10 rfl (fun c77 => ?_) (fun c77 => ?_)
                  · have H := H.1 c77
                    refine mx_iconst dX8_isIn_17 ic_0 ?_
                    refine mx_zretK rfl dX8_isIn_18 (Or.inl rfl) ?_
                    refine mx_if_ne (tgt := 356) dX8_next_341 rfl (fun _ => absurd ‹_› (by decide)) (fun _ => ?_)
                    refine mx_iload_n dX8_next_344 rfl rfl ?_
                    refine mx_bipush dX8_next_345 ib_47 ?_
                    refine mx_icmp_eq (tgt := 356) dX8_next_347 rfl (fun c78 => ?_) (fun c78 => ?_)
                    · have H := H.1 c78
                      refine mx_iconst dX8_next_356 ic_3 ?_
                      refine mx_goto (tgt := 361) dX8_next_357 rfl ?_
                      refine mx_putI 8 50 (ref := "PrairiePoolModel") cl_8 (Nat.le_of_ble_eq_true rfl) (Or.inl q1677) (Or.inl rfl) dX8_next_361 (Or.inl rfl) rfl (ly8_k La0_h55) ?_
                      refine mx_nmI  (fun h79 eh79 Xh79 Kh79 Lh79 => ?_)
                      have H := H h79 eh79 Xh79
                      have Kh79 := Kh79.trans Kh55
                      have Lh79 := Lh79.trans Lh55
                      have La0_h79 := La0_h55.ext Xh79
                      exact mx_vret rfl dX8_next_364 H
                    · have H := H.2 c78
                      refine mx_iload_n dX8_next_350 rfl rfl ?_
                      refine mx_bipush dX8_next_351 ib_37 ?_
                      refine mx_icmp_ne (tgt := 360) dX8_next_353 rfl (fun c80 => ?_) (fun c80 => ?_)
                      · have H := H.1 c80
                        refine mx_iconst dX8_next_360 ic_4 ?_
                        refine mx_putI 8 50 (ref := "PrairiePoolModel") cl_8 (Nat.le_of_ble_eq_true rfl) (Or.inl q1677) (Or.inl rfl) dX8_next_361 (Or.inl rfl) rfl (ly8_k La0_h55) ?_
                        refine mx_nmI  (fun h81 eh81 Xh81 Kh81 Lh81 => ?_)
                        have H := H h81 eh81 Xh81
                        have Kh81 := Kh81.trans Kh55
                        have Lh81 := Lh81.trans Lh55
                        have La0_h81 := La0_h55.ext Xh81
                        exact mx_vret rfl dX8_next_364 H
                      · have H := H.2 c80
                        refine mx_iconst dX8_next_356 ic_3 ?_
                        refine mx_goto (tgt := 361) dX8_next_357 rfl ?_
                        refine mx_putI 8 50 (ref := "PrairiePoolModel") cl_8 (Nat.le_of_ble_eq_true rfl) (Or.inl q1677) (Or.inl rfl) dX8_next_361 (Or.inl rfl) rfl (ly8_k La0_h55) ?_
                        refine mx_nmI  (fun h82 eh82 Xh82 Kh82 Lh82 => ?_)
                        have H := H h82 eh82 Xh82
                        have Kh82 := Kh82.trans Kh55
                        have Lh82 := Lh82.trans Lh55
                        have La0_h82 := La0_h55.ext Xh82
                        exact mx_vret rfl dX8_next_364 H
                  · have H := H.2 c77
                    refine mx_iconst dX8_isIn_13 ic_1 ?_
                    refine mx_goto (tgt := 18) dX8_isIn_14 rfl ?_
                    refine mx_zretK rfl dX8_isIn_18 (Or.inr rfl) ?_
                    refine mx_if_ne (tgt := 356) dX8_next_341 rfl (fun _ => ?_) (fun _ => absurd ‹_› (by decide))
                    refine mx_iconst dX8_next_356 ic_3 ?_
                    refine mx_goto (tgt := 361) dX8_next_357 rfl ?_
                    refine mx_putI 8 50 (ref := "PrairiePoolModel") cl_8 (Nat.le_of_ble_eq_true rfl) (Or.inl q1677) (Or.inl rfl) dX8_next_361 (Or.inl rfl) rfl (ly8_k La0_h55) ?_
                    refine mx_nmI  (fun h83 eh83 Xh83 Kh83 Lh83 => ?_)
                    have H := H h83 eh83 Xh83
                    have Kh83 := Kh83.trans Kh55
                    have Lh83 := Lh83.trans Lh55
                    have La0_h83 := La0_h55.ext Xh83
                    exact mx_vret rfl dX8_next_364 H
              · have H := H.2 c70
                refine mx_iconst dX8_isIn_13 ic_1 ?_
                refine mx_goto (tgt := 18) dX8_isIn_14 rfl ?_
                refine mx_zretK rfl dX8_isIn_18 (Or.inr rfl) ?_
                refine mx_if_ne (tgt := 356) dX8_next_327 rfl (fun _ => ?_) (fun _ => absurd ‹_› (by decide))
                refine mx_iconst dX8_next_356 ic_3 ?_
                refine mx_goto (tgt := 361) dX8_next_357 rfl ?_
                refine mx_putI 8 50 (ref := "PrairiePoolModel") cl_8 (Nat.le_of_ble_eq_true rfl) (Or.inl q1677) (Or.inl rfl) dX8_next_361 (Or.inl rfl) rfl (ly8_k La0_h55) ?_
                refine mx_nmI  (fun h84 eh84 Xh84 Kh84 Lh84 => ?_)
                have H := H h84 eh84 Xh84
                have Kh84 := Kh84.trans Kh55
                have Lh84 := Lh84.trans Lh55
                have La0_h84 := La0_h55.ext Xh84
                exact mx_vret rfl dX8_next_364 H
          · have H := H.2 c53
            refine mx_iconst dX8_isDigit_12 ic_1 ?_
            refine mx_goto (tgt := 17) dX8_isDigit_13 rfl ?_
            refine mx_zretK rfl dX8_isDigit_17 (Or.inr rfl) ?_
            refine mx_if_eq (tgt := 300) dX8_next_202 rfl (fun _ => absurd ‹_› (by decide)) (fun _ => ?_)
            refine mx_aload_n dX8_next_205 rfl rfl ?_
            refine mx_iconst dX8_next_206 ic_0 ?_
            refine mx_putI 8 53 (ref := "PrairiePoolModel") cl_8 (Nat.le_of_ble_eq_true rfl) (Or.inl q1680) (Or.inl rfl) dX8_next_207 (Or.inl rfl) rfl (ly8_k La0_h1) ?_
            refine mx_nmI  (fun h85 eh85 Xh85 Kh85 Lh85 => ?_)
            have H := H h85 eh85 Xh85
            have Kh85 := Kh85.trans Kh1
            have Lh85 := Lh85.trans Lh1
            have La0_h85 := La0_h1.ext Xh85
            exact mx_weak (al' := [some (rv a0), none]) ⟨rfl, trivial⟩ H
      · have H := H.2 c20
        refine mx_iload_n dX8_isLetter_6 rfl rfl ?_
        refine mx_bipush dX8_isLetter_7 ib_122 ?_
        refine mx_icmp_gt (tgt := 16) dX8_isLetter_9 rfl (fun c86 => ?_) (fun c86 => ?_)
        · have H := H.1 c86
          refine mx_iconst dX8_isLetter_16 ic_0 ?_
          refine mx_zretK rfl dX8_isLetter_17 (Or.inl rfl) ?_
          refine mx_if_eq (tgt := 198) dX8_next_96 rfl (fun _ => ?_) (fun _ => absurd ‹_› (by decide))
          refine mx_iload_n dX8_next_198 rfl rfl ?_
          refine mx_callS (y' := mi_X8_isDigit) (vs := [iv ((ah_I h (a0 + 35) (ah_I h a0 51).toNatClampNeg) &&& (255 : Int32))]) (st := []) (al' := [some (iv ((ah_I h (a0 + 35) (ah_I h a0 51).toNatClampNeg) &&& (255 : Int32)))]) S_X8_isDigit q2181 dX8_next_199 rfl rfl (Nat.le_of_ble_eq_true rfl) (Nat.le_of_ble_eq_true rfl) ?_
          refine mx_iload_n dX8_isDigit_0 rfl rfl ?_
          refine mx_bipush dX8_isDigit_1 ib_48 ?_
          refine mx_icmp_lt (tgt := 16) dX8_isDigit_3 rfl (fun c87 => ?_) (fun c87 => ?_)
          · have H := H.1 c87
            refine mx_iconst dX8_isDigit_16 ic_0 ?_
            refine mx_zretK rfl dX8_isDigit_17 (Or.inl rfl) ?_
            refine mx_if_eq (tgt := 300) dX8_next_202 rfl (fun _ => ?_) (fun _ => absurd ‹_› (by decide))
            refine mx_aload_n dX8_next_300 rfl rfl ?_
            refine mx_aload_n dX8_next_301 rfl rfl ?_
            refine mx_get 8 51 (ref := "PrairiePoolModel") cl_8 (Nat.le_of_ble_eq_true rfl) (Or.inl q1678) (Or.inl rfl) dX8_next_302 (fv_8_51 _ _) (ly8_k La0_h1) ?_
            refine mx_ti (ah_skIK eh1 (by decide)) ?_
            refine mx_iconst dX8_next_305 ic_1 ?_
            refine mx_iadd dX8_next_306 ?_
            refine mx_putI 8 52 (ref := "PrairiePoolModel") cl_8 (Nat.le_of_ble_eq_true rfl) (Or.inl q1679) (Or.inl rfl) dX8_next_307 (Or.inl rfl) rfl (ly8_k La0_h1) ?_
            refine mx_nmI  (fun h88 eh88 Xh88 Kh88 Lh88 => ?_)
            have H := H h88 eh88 Xh88
            have Kh88 := Kh88.trans Kh1
            have Lh88 := Lh88.trans Lh1
            have La0_h88 := La0_h1.ext Xh88
            refine mx_aload_n dX8_next_310 rfl rfl ?_
            refine mx_iload_n dX8_next_311 rfl rfl ?_
            refine mx_putI 8 53 (ref := "PrairiePoolModel") cl_8 (Nat.le_of_ble_eq_true rfl) (Or.inl q1680) (Or.inl rfl) dX8_next_312 (Or.inl rfl) rfl (ly8_k La0_h88) ?_
            refine mx_nmI  (fun h89 eh89 Xh89 Kh89 Lh89 => ?_)
            have H := H h89 eh89 Xh89
            have Kh89 := Kh89.trans Kh88
            have Lh89 := Lh89.trans Lh88
            have La0_h89 := La0_h88.ext Xh89
            refine mx_aload_n dX8_next_315 rfl rfl ?_
            refine mx_iload_n dX8_next_316 rfl rfl ?_
            refine mx_i2l dX8_next_317 ?_
            refine mx_ldc2 q2184 dX8_next_318 ?_
            refine mx_ldc2 q2185 dX8_next_321 ?_
            refine mx_callS (y' := mi_X8_isIn) (vs := [jv ((ah_I h (a0 + 35) (ah_I h a0 51).toNatClampNeg) &&& (255 : Int32)).toInt64, jv (58 : Int64), jv (62 : Int64)]) (st := [rv a0]) (al' := [some (jv ((ah_I h (a0 + 35) (ah_I h a0 51).toNatClampNeg) &&& (255 : Int32)).toInt64), none, some (jv (58 : Int64)), none, some (jv (62 : Int64)), none]) S_X8_isIn q1996 dX8_next_324 rfl rfl (Nat.le_of_ble_eq_true rfl) (Nat.le_of_ble_eq_true rfl) ?_
            refine mx_lload_n dX8_isIn_0 rfl rfl ?_
            refine mx_lload_n dX8_isIn_1 rfl rfl ?_
            refine mx_lif_lt (tgt := 17) dX8_isIn_2 dX8_isIn_3 rfl (fun c90 => ?_) (fun c90 => ?_)
            · have H := H.1 c90
              refine mx_iconst dX8_isIn_17 ic_0 ?_
              refine mx_zretK rfl dX8_isIn_18 (Or.inl rfl) ?_
              refine mx_if_ne (tgt := 356) dX8_next_327 rfl (fun _ => absurd ‹_› (by decide)) (fun _ => ?_)
              refine mx_iload_n dX8_next_330 rfl rfl ?_
              refine mx_i2l dX8_next_331 ?_
              refine mx_ldc2 q2186 dX8_next_332 ?_
              refine mx_ldc2 q2187 dX8_next_335 ?_
              refine mx_callS (y' := mi_X8_isIn) (vs := [jv ((ah_I h (a0 + 35) (ah_I h a0 51).toNatClampNeg) &&& (255 : Int32)).toInt64, jv (40 : Int64), jv (45 : Int64)]) (st := [rv a0]) (al' := [some (jv ((ah_I h (a0 + 35) (ah_I h a0 51).toNatClampNeg) &&& (255 : Int32)).toInt64), none, some (jv (40 : Int64)), none, some (jv (45 : Int64)), none]) S_X8_isIn q1996 dX8_next_338 rfl rfl (Nat.le_of_ble_eq_true rfl) (Nat.le_of_ble_eq_true rfl) ?_
              refine mx_lload_n dX8_isIn_0 rfl rfl ?_
              refine mx_lload_n dX8_isIn_1 rfl rfl ?_
              refine mx_lif_lt (tgt := 17) dX8_isIn_2 dX8_isIn_3 rfl (fun c91 => ?_) (fun c91 => ?_)
              · have H := H.1 c91
                refine mx_iconst dX8_isIn_17 ic_0 ?_
                refine mx_zretK rfl dX8_isIn_18 (Or.inl rfl) ?_
                refine mx_if_ne (tgt := 356) dX8_next_341 rfl (fun _ => absurd ‹_› (by decide)) (fun _ => ?_)
                refine mx_iload_n dX8_next_344 rfl rfl ?_
                refine mx_bipush dX8_next_345 ib_47 ?_
                refine mx_icmp_eq (tgt := 356) dX8_next_347 rfl (fun c92 => ?_) (fun c92 => ?_)
                · have H := H.1 c92
                  refine mx_iconst dX8_next_356 ic_3 ?_
                  refine mx_goto (tgt := 361) dX8_next_357 rfl ?_
                  refine mx_putI 8 50 (ref := "PrairiePoolModel") cl_8 (Nat.le_of_ble_eq_true rfl) (Or.inl q1677) (Or.inl rfl) dX8_next_361 (Or.inl rfl) rfl (ly8_k La0_h89) ?_
                  refine mx_nmI  (fun h93 eh93 Xh93 Kh93 Lh93 => ?_)
                  have H := H h93 eh93 Xh93
                  have Kh93 := Kh93.trans Kh89
                  have Lh93 := Lh93.trans Lh89
                  have La0_h93 := La0_h89.ext Xh93
                  exact mx_vret rfl dX8_next_364 H
                · have H := H.2 c92
                  refine mx_iload_n dX8_next_350 rfl rfl ?_
                  refine mx_bipush dX8_next_351 ib_37 ?_
                  refine mx_icmp_ne (tgt := 360) dX8_next_353 rfl (fun c94 => ?_) (fun c94 => ?_)
                  · have H := H.1 c94
                    refine mx_iconst dX8_next_360 ic_4 ?_
                    refine mx_putI 8 50 (ref := "PrairiePoolModel") cl_8 (Nat.le_of_ble_eq_true rfl) (Or.inl q1677) (Or.inl rfl) dX8_next_361 (Or.inl rfl) rfl (ly8_k La0_h89) ?_
                    refine mx_nmI  (fun h95 eh95 Xh95 Kh95 Lh95 => ?_)
                    have H := H h95 eh95 Xh95
                    have Kh95 := Kh95.trans Kh89
                    have Lh95 := Lh95.trans Lh89
                    have La0_h95 := La0_h89.ext Xh95
                    exact mx_vret rfl dX8_next_364 H
                  · have H := H.2 c94
                    refine mx_iconst dX8_next_356 ic_3 ?_
                    refine mx_goto (tgt := 361) dX8_next_357 rfl ?_
                    refine mx_putI 8 50 (ref := "PrairiePoolModel") cl_8 (Nat.le_of_ble_eq_true rfl) (Or.inl q1677) (Or.inl rfl) dX8_next_361 (Or.inl rfl) rfl (ly8_k La0_h89) ?_
                    refine mx_nmI  (fun h96 eh96 Xh96 Kh96 Lh96 => ?_)
                    have H := H h96 eh96 Xh96
                    have Kh96 := Kh96.trans Kh89
                    have Lh96 := Lh96.trans Lh89
                    have La0_h96 := La0_h89.ext Xh96
                    exact mx_vret rfl dX8_next_364 H
              · have H := H.2 c91
                refine mx_lload_n dX8_isIn_6 rfl rfl ?_
                refine mx_lload dX8_isIn_7 rfl ?_
                refine mx_lif_gt (tgt := 17) dX8_isIn_9 dX8_isIn_10 rfl (fun c97 => ?_) (fun c97 => ?_)
                · have H := H.1 c97
                  refine mx_iconst dX8_isIn_17 ic_0 ?_
                  refine mx_zretK rfl dX8_isIn_18 (Or.inl rfl) ?_
                  refine mx_if_ne (tgt := 356) dX8_next_341 rfl (fun _ => absurd ‹_› (by decide)) (fun _ => ?_)
                  refine mx_iload_n dX8_next_344 rfl rfl ?_
                  refine mx_bipush dX8_next_345 ib_47 ?_
                  refine mx_icmp_eq (tgt := 356) dX8_next_347 rfl (fun c98 => ?_) (fun c98 => ?_)
                  · have H := H.1 c98
                    refine mx_iconst dX8_next_356 ic_3 ?_
                    refine mx_goto (tgt := 361) dX8_next_357 rfl ?_
                    refine mx_putI 8 50 (ref := "PrairiePoolModel") cl_8 (Nat.le_of_ble_eq_true rfl) (Or.inl q1677) (Or.inl rfl) dX8_next_361 (Or.inl rfl) rfl (ly8_k La0_h89) ?_
                    refine mx_nmI  (fun h99 eh99 Xh99 Kh99 Lh99 => ?_)
                    have H := H h99 eh99 Xh99
                    have Kh99 := Kh99.trans Kh89
                    have Lh99 := Lh99.trans Lh89
                    have La0_h99 := La0_h89.ext Xh99
                    exact mx_vret rfl dX8_next_364 H
                  · have H := H.2 c98
                    refine mx_iload_n dX8_next_350 rfl rfl ?_
                    refine mx_bipush dX8_next_351 ib_37 ?_
                    refine mx_icmp_ne (tgt := 360) dX8_next_353 rfl (fun c100 => ?_) (fun c100 => ?_)
                    · have H := H.1 c100
                      refine mx_iconst dX8_next_360 ic_4 ?_
                      refine mx_putI 8 50 (ref := "PrairiePoolModel") cl_8 (Nat.le_of_ble_eq_true rfl) (Or.inl q1677) (Or.inl rfl) dX8_next_361 (Or.inl rfl) rfl (ly8_k La0_h89) ?_
                      refine mx_nmI  (fun h101 eh101 Xh101 Kh101 Lh101 => ?_)
                      have H := H h101 eh101 Xh101
                      have Kh101 := Kh101.trans Kh89
                      have Lh101 := Lh101.trans Lh89
                      have La0_h101 := La0_h89.ext Xh101
                      exact mx_vret rfl dX8_next_364 H
                    · have H := H.2 c100
                      refine mx_iconst dX8_next_356 ic_3 ?_
                      refine mx_goto (tgt := 361) dX8_next_357 rfl ?_
                      refine mx_putI 8 50 (ref := "PrairiePoolModel") cl_8 (Nat.le_of_ble_eq_true rfl) (Or.inl q1677) (Or.inl rfl) dX8_next_361 (Or.inl rfl) rfl (ly8_k La0_h89) ?_
                      refine mx_nmI  (fun h102 eh102 Xh102 Kh102 Lh102 => ?_)
                      have H := H h102 eh102 Xh102
                      have Kh102 := Kh102.trans Kh89
                      have Lh102 := Lh102.trans Lh89
                      have La0_h102 := La0_h89.ext Xh102
                      exact mx_vret rfl dX8_next_364 H
                · have H := H.2 c97
                  refine mx_iconst dX8_isIn_13 ic_1 ?_
                  refine mx_goto (tgt := 18) dX8_isIn_14 rfl ?_
                  refine mx_zretK rfl dX8_isIn_18 (Or.inr rfl) ?_
                  refine mx_if_ne (tgt := 356) dX8_next_341 rfl (fun _ => ?_) (fun _ => absurd ‹_› (by decide))
                  refine mx_iconst dX8_next_356 ic_3 ?_
                  refine mx_goto (tgt := 361) dX8_next_357 rfl ?_
                  refine mx_putI 8 50 (ref := "PrairiePoolModel") cl_8 (Nat.le_of_ble_eq_true rfl) (Or.inl q1677) (Or.inl rfl) dX8_next_361 (Or.inl rfl) rfl (ly8_k La0_h89) ?_
                  refine mx_nmI  (fun h103 eh103 Xh103 Kh103 Lh103 => ?_)
                  have H := H h103 eh103 Xh103
                  have Kh103 := Kh103.trans Kh89
                  have Lh103 := Lh103.trans Lh89
                  have La0_h103 := La0_h89.ext Xh103
                  exact mx_vret rfl dX8_next_364 H
            · have H := H.2 c90
              refine mx_lload_n dX8_isIn_6 rfl rfl ?_
              refine mx_lload dX8_isIn_7 rfl ?_
              refine mx_lif_gt (tgt := 17) dX8_isIn_9 dX8_isIn_10 rfl (fun c104 => ?_) (fun c104 => ?_)
              · have H := H.1 c104
                refine mx_iconst dX8_isIn_17 ic_0 ?_
                refine mx_zretK rfl dX8_isIn_18 (Or.inl rfl) ?_
                refine mx_if_ne (tgt := 356) dX8_next_327 rfl (fun _ => absurd ‹_› (by decide)) (fun _ => ?_)
                refine mx_iload_n dX8_next_330 rfl rfl ?_
                refine mx_i2l dX8_next_331 ?_
                refine mx_ldc2 q2186 dX8_next_332 ?_
                refine mx_ldc2 q2187 dX8_next_335 ?_
                refine mx_callS (y' := mi_X8_isIn) (vs := [jv ((ah_I h (a0 + 35) (ah_I h a0 51).toNatClampNeg) &&& (255 : Int32)).toInt64, jv (40 : Int64), jv (45 : Int64)]) (st := [rv a0]) (al' := [some (jv ((ah_I h (a0 + 35) (ah_I h a0 51).toNatClampNeg) &&& (255 : Int32)).toInt64), none, some (jv (40 : Int64)), none, some (jv (45 : Int64)), none]) S_X8_isIn q1996 dX8_next_338 rfl rfl (Nat.le_of_ble_eq_true rfl) (Nat.le_of_ble_eq_true rfl) ?_
                refine mx_lload_n dX8_isIn_0 rfl rfl ?_
                refine mx_lload_n dX8_isIn_1 rfl rfl ?_
                refine mx_lif_lt (tgt := 17) dX8_isIn_2 dX8_isIn_3 rfl (fun c105 => ?_) (fun c105 => ?_)
                · have H := H.1 c105
                  refine mx_iconst dX8_isIn_17 ic_0 ?_
                  refine mx_zretK rfl dX8_isIn_18 (Or.inl rfl) ?_
                  refine mx_if_ne (tgt := 356) dX8_next_341 rfl (fun _ => absurd ‹_› (by decide)) (fun _ => ?_)
                  refine mx_iload_n dX8_next_344 rfl rfl ?_
                  refine mx_bipush dX8_next_345 ib_47 ?_
                  refine mx_icmp_eq (tgt := 356) dX8_next_347 rfl (fun c106 => ?_) (fun c106 => ?_)
                  · have H := H.1 c106
                    refine mx_iconst dX8_next_356 ic_3 ?_
                    refine mx_goto (tgt := 361) dX8_next_357 rfl ?_
                    refine mx_putI 8 50 (ref := "PrairiePoolModel") cl_8 (Nat.le_of_ble_eq_true rfl) (Or.inl q1677) (Or.inl rfl) dX8_next_361 (Or.inl rfl) rfl (ly8_k La0_h89) ?_
                    refine mx_nmI  (fun h107 eh107 Xh107 Kh107 Lh107 => ?_)
                    have H := H h107 eh107 Xh107
                    have Kh107 := Kh107.trans Kh89
                    have Lh107 := Lh107.trans Lh89
                    have La0_h107 := La0_h89.ext Xh107
                    exact mx_vret rfl dX8_next_364 H
                  · have H := H.2 c106
                    refine mx_iload_n dX8_next_350 rfl rfl ?_
                    refine mx_bipush dX8_next_351 ib_37 ?_
                    refine mx_icmp_ne (tgt := 360) dX8_next_353 rfl (fun c108 => ?_) (fun c108 => ?_)
                    · have H := H.1 c108
                      refine mx_iconst dX8_next_360 ic_4 ?_
                      refine mx_putI 8 50 (ref := "PrairiePoolModel") cl_8 (Nat.le_of_ble_eq_true rfl) (Or.inl q1677) (Or.inl rfl) dX8_next_361 (Or.inl rfl) rfl (ly8_k La0_h89) ?_
                      refine mx_nmI  (fun h109 eh109 Xh109 Kh109 Lh109 => ?_)
                      have H := H h109 eh109 Xh109
                      have Kh109 := Kh109.trans Kh89
                      have Lh109 := Lh109.trans Lh89
                      have La0_h109 := La0_h89.ext Xh109
                      exact mx_vret rfl dX8_next_364 H
                    · have H := H.2 c108
                      refine mx_iconst dX8_next_356 ic_3 ?_
                      refine mx_goto (tgt := 361) dX8_next_357 rfl ?_
                      refine mx_putI 8 50 (ref := "PrairiePoolModel") cl_8 (Nat.le_of_ble_eq_true rfl) (Or.inl q1677) (Or.inl rfl) dX8_next_361 (Or.inl rfl) rfl (ly8_k La0_h89) ?_
                      refine mx_nmI  (fun h110 eh110 Xh110 Kh110 Lh110 => ?_)
                      have H := H h110 eh110 Xh110
                      have Kh110 := Kh110.trans Kh89
                      have Lh110 := Lh110.trans Lh89
                      have La0_h110 := La0_h89.ext Xh110
                      exact mx_vret rfl dX8_next_364 H
                · have H := H.2 c105
                  refine mx_lload_n dX8_isIn_6 rfl rfl ?_
                  refine mx_lload dX8_isIn_7 rfl ?_
                  refine mx_lif_gt (tgt := 17) dX8_isIn_9 dX8_isIn_10 rfl (fun c111 => ?_) (fun c111 => ?_)
                  · have H := H.1 c111
                    refine mx_iconst dX8_isIn_17 ic_0 ?_
                    refine mx_zretK rfl dX8_isIn_18 (Or.inl rfl) ?_
                    refine mx_if_ne (tgt := 356) dX8_next_341 rfl (fun _ => absurd ‹_› (by decide)) (fun _ => ?_)
                    refine mx_iload_n dX8_next_344 rfl rfl ?_
                    refine mx_bipush dX8_next_345 ib_47 ?_
                    refine mx_icmp_eq (tgt := 356) dX8_next_347 rfl (fun c112 => ?_) (fun c112 => ?_)
                    · have H := H.1 c112
                      refine mx_iconst dX8_next_356 ic_3 ?_
                      refine mx_goto (tgt := 361) dX8_next_357 rfl ?_
                      refine mx_putI 8 50 (ref := "PrairiePoolModel") cl_8 (Nat.le_of_ble_eq_true rfl) (Or.inl q1677) (Or.inl rfl) dX8_next_361 (Or.inl rfl) rfl (ly8_k La0_h89) ?_
                      refine mx_nmI  (fun h113 eh113 Xh113 Kh113 Lh113 => ?_)
                      have H := H h113 eh113 Xh113
                      have Kh113 := Kh113.trans Kh89
                      have Lh113 := Lh113.trans Lh89
                      have La0_h113 := La0_h89.ext Xh113
                      exact mx_vret rfl dX8_next_364 H
                    · have H := H.2 c112
                      refine mx_iload_n dX8_next_350 rfl rfl ?_
                      refine mx_bipush dX8_next_351 ib_37 ?_
                      refine mx_icmp_ne (tgt := 360) dX8_next_353 rfl (fun c114 => ?_) (fun c114 => ?_)
                      · have H := H.1 c114
                        refine mx_iconst dX8_next_360 ic_4 ?_
                        refine mx_putI 8 50 (ref := "PrairiePoolModel") cl_8 (Nat.le_of_ble_eq_true rfl) (Or.inl q1677) (Or.inl rfl) dX8_next_361 (Or.inl rfl) rfl (ly8_k La0_h89) ?_
                        refine mx_nmI  (fun h115 eh115 Xh115 Kh115 Lh115 => ?_)
                        have H := H h115 eh115 Xh115
                        have Kh115 := Kh115.trans Kh89
                        have Lh115 := Lh115.trans Lh89
                        have La0_h115 := La0_h89.ext Xh115
                        exact mx_vret rfl dX8_next_364 H
                      · have H := H.2 c114
                        refine mx_iconst dX8_next_356 ic_3 ?_
                        refine mx_goto (tgt := 361) dX8_next_357 rfl ?_
                        refine mx_putI 8 50 (ref := "PrairiePoolModel") cl_8 (Nat.le_of_ble_eq_true rfl) (Or.inl q1677) (Or.inl rfl) dX8_next_361 (Or.inl rfl) rfl (ly8_k La0_h89) ?_
                        refine mx_nmI  (fun h116 eh116 Xh116 Kh116 Lh116 => ?_)
                        have H := H h116 eh116 Xh116
                        have Kh116 := Kh116.trans Kh89
                        have Lh116 := Lh116.trans Lh89
                        have La0_h116 := La0_h89.ext Xh116
                        exact mx_vret rfl dX8_next_364 H
                  · have H := H.2 c111
                    refine mx_iconst dX8_isIn_13 ic_1 ?_
                    refine mx_goto (tgt := 18) dX8_isIn_14 rfl ?_
                    refine mx_zretK rfl dX8_isIn_18 (Or.inr rfl) ?_
                    refine mx_if_ne (tgt := 356) dX8_next_341 rfl (fun _ => ?_) (fun _ => absurd ‹_› (by decide))
                    refine mx_iconst dX8_next_356 ic_3 ?_
                    refine mx_goto (tgt := 361) dX8_next_357 rfl ?_
                    refine mx_putI 8 50 (ref := "PrairiePoolModel") cl_8 (Nat.le_of_ble_eq_true rfl) (Or.inl q1677) (Or.inl rfl) dX8_next_361 (Or.inl rfl) rfl (ly8_k La0_h89) ?_
                    refine mx_nmI  (fun h117 eh117 Xh117 Kh117 Lh117 => ?_)
                    have H := H h117 eh117 Xh117
                    have Kh117 := Kh117.trans Kh89
                    have Lh117 := Lh117.trans Lh89
                    have La0_h117 := La0_h89.ext Xh117
                    exact mx_vret rfl dX8_next_364 H
              · have H := H.2 c104
                refine mx_iconst dX8_isIn_13 ic_1 ?_
                refine mx_goto (tgt := 18) dX8_isIn_14 rfl ?_
                refine mx_zretK rfl dX8_isIn_18 (Or.inr rfl) ?_
                refine mx_if_ne (tgt := 356) dX8_next_327 rfl (fun _ => ?_) (fun _ => absurd ‹_› (by decide))
                refine mx_iconst dX8_next_356 ic_3 ?_
                refine mx_goto (tgt := 361) dX8_next_357 rfl ?_
                refine mx_putI 8 50 (ref := "PrairiePoolModel") cl_8 (Nat.le_of_ble_eq_true rfl) (Or.inl q1677) (Or.inl rfl) dX8_next_361 (Or.inl rfl) rfl (ly8_k La0_h89) ?_
                refine mx_nmI  (fun h118 eh118 Xh118 Kh118 Lh118 => ?_)
                have H := H h118 eh118 Xh118
                have Kh118 := Kh118.trans Kh89
                have Lh118 := Lh118.trans Lh89
                have La0_h118 := La0_h89.ext Xh118
                exact mx_vret rfl dX8_next_364 H
          · have H := H.2 c87
            refine mx_iload_n dX8_isDigit_6 rfl rfl ?_
            refine mx_bipush dX8_isDigit_7 ib_57 ?_
            refine mx_icmp_gt (tgt := 16) dX8_isDigit_9 rfl (fun c119 => ?_) (fun c119 => ?_)
            · have H := H.1 c119
              refine mx_iconst dX8_isDigit_16 ic_0 ?_
              refine mx_zretK rfl dX8_isDigit_17 (Or.inl rfl) ?_
              refine mx_if_eq (tgt := 300) dX8_next_202 rfl (fun _ => ?_) (fun _ => absurd ‹_› (by decide))
              refine mx_aload_n dX8_next_300 rfl rfl ?_
              refine mx_aload_n dX8_next_301 rfl rfl ?_
              refine mx_get 8 51 (ref := "PrairiePoolModel") cl_8 (Nat.le_of_ble_eq_true rfl) (Or.inl q1678) (Or.inl rfl) dX8_next_302 (fv_8_51 _ _) (ly8_k La0_h1) ?_
              refine mx_ti (ah_skIK eh1 (by decide)) ?_
              refine mx_iconst dX8_next_305 ic_1 ?_
              refine mx_iadd dX8_next_306 ?_
              refine mx_putI 8 52 (ref := "PrairiePoolModel") cl_8 (Nat.le_of_ble_eq_true rfl) (Or.inl q1679) (Or.inl rfl) dX8_next_307 (Or.inl rfl) rfl (ly8_k La0_h1) ?_
              refine mx_nmI  (fun h120 eh120 Xh120 Kh120 Lh120 => ?_)
              have H := H h120 eh120 Xh120
              have Kh120 := Kh120.trans Kh1
              have Lh120 := Lh120.trans Lh1
              have La0_h120 := La0_h1.ext Xh120
              refine mx_aload_n dX8_next_310 rfl rfl ?_
              refine mx_iload_n dX8_next_311 rfl rfl ?_
              refine mx_putI 8 53 (ref := "PrairiePoolModel") cl_8 (Nat.le_of_ble_eq_true rfl) (Or.inl q1680) (Or.inl rfl) dX8_next_312 (Or.inl rfl) rfl (ly8_k La0_h120) ?_
              refine mx_nmI  (fun h121 eh121 Xh121 Kh121 Lh121 => ?_)
              have H := H h121 eh121 Xh121
              have Kh121 := Kh121.trans Kh120
              have Lh121 := Lh121.trans Lh120
              have La0_h121 := La0_h120.ext Xh121
              refine mx_aload_n dX8_next_315 rfl rfl ?_
              refine mx_iload_n dX8_next_316 rfl rfl ?_
              refine mx_i2l dX8_next_317 ?_
              refine mx_ldc2 q2184 dX8_next_318 ?_
              refine mx_ldc2 q2185 dX8_next_321 ?_
              refine mx_callS (y' := mi_X8_isIn) (vs := [jv ((ah_I h (a0 + 35) (ah_I h a0 51).toNatClampNeg) &&& (255 : Int32)).toInt64, jv (58 : Int64), jv (62 : Int64)]) (st := [rv a0]) (al' := [some (jv ((ah_I h (a0 + 35) (ah_I h a0 51).toNatClampNeg) &&& (255 : Int32)).toInt64), none, some (jv (58 : Int64)), none, some (jv (62 : Int64)), none]) S_X8_isIn q1996 dX8_next_324 rfl rfl (Nat.le_of_ble_eq_true rfl) (Nat.le_of_ble_eq_true rfl) ?_
              refine mx_lload_n dX8_isIn_0 rfl rfl ?_
              refine mx_lload_n dX8_isIn_1 rfl rfl ?_
              refine mx_lif_lt (tgt := 17) dX8_isIn_2 dX8_isIn_3 rfl (fun c122 => ?_) (fun c122 => ?_)
              · have H := H.1 c122
                refine mx_iconst dX8_isIn_17 ic_0 ?_
                refine mx_zretK rfl dX8_isIn_18 (Or.inl rfl) ?_
                refine mx_if_ne (tgt := 356) dX8_next_327 rfl (fun _ => absurd ‹_› (by decide)) (fun _ => ?_)
                refine mx_iload_n dX8_next_330 rfl rfl ?_
                refine mx_i2l dX8_next_331 ?_
                refine mx_ldc2 q2186 dX8_next_332 ?_
                refine mx_ldc2 q2187 dX8_next_335 ?_
                refine mx_callS (y' := mi_X8_isIn) (vs := [jv ((ah_I h (a0 + 35) (ah_I h a0 51).toNatClampNeg) &&& (255 : Int32)).toInt64, jv (40 : Int64), jv (45 : Int64)]) (st := [rv a0]) (al' := [some (jv ((ah_I h (a0 + 35) (ah_I h a0 51).toNatClampNeg) &&& (255 : Int32)).toInt64), none, some (jv (40 : Int64)), none, some (jv (45 : Int64)), none]) S_X8_isIn q1996 dX8_next_338 rfl rfl (Nat.le_of_ble_eq_true rfl) (Nat.le_of_ble_eq_true rfl) ?_
                refine mx_lload_n dX8_isIn_0 rfl rfl ?_
                refine mx_lload_n dX8_isIn_1 rfl rfl ?_
                refine mx_lif_lt (tgt := 17) dX8_isIn_2 dX8_isIn_3 rfl (fun c123 => ?_) (fun c123 => ?_)
                · have H := H.1 c123
                  refine mx_iconst dX8_isIn_17 ic_0 ?_
                  refine mx_zretK rfl dX8_isIn_18 (Or.inl rfl) ?_
                  refine mx_if_ne (tgt := 356) dX8_next_341 rfl (fun _ => absurd ‹_› (by decide)) (fun _ => ?_)
                  refine mx_iload_n dX8_next_344 rfl rfl ?_
                  refine mx_bipush dX8_next_345 ib_47 ?_
                  refine mx_icmp_eq (tgt := 356) dX8_next_347 rfl (fun c124 => ?_) (fun c124 => ?_)
                  · have H := H.1 c124
                    refine mx_iconst dX8_next_356 ic_3 ?_
                    refine mx_goto (tgt := 361) dX8_next_357 rfl ?_
                    refine mx_putI 8 50 (ref := "PrairiePoolModel") cl_8 (Nat.le_of_ble_eq_true rfl) (Or.inl q1677) (Or.inl rfl) dX8_next_361 (Or.inl rfl) rfl (ly8_k La0_h121) ?_
                    refine mx_nmI  (fun h125 eh125 Xh125 Kh125 Lh125 => ?_)
                    have H := H h125 eh125 Xh125
                    have Kh125 := Kh125.trans Kh121
                    have Lh125 := Lh125.trans Lh121
                    have La0_h125 := La0_h121.ext Xh125
                    exact mx_vret rfl dX8_next_364 H
                  · have H := H.2 c124
                    refine mx_iload_n dX8_next_350 rfl rfl ?_
                    refine mx_bipush dX8_next_351 ib_37 ?_
                    refine mx_icmp_ne (tgt := 360) dX8_next_353 rfl (fun c126 => ?_) (fun c126 => ?_)
                    · have H := H.1 c126
                      refine mx_iconst dX8_next_360 ic_4 ?_
                      refine mx_putI 8 50 (ref := "PrairiePoolModel") cl_8 (Nat.le_of_ble_eq_true rfl) (Or.inl q1677) (Or.inl rfl) dX8_next_361 (Or.inl rfl) rfl (ly8_k La0_h121) ?_
                      refine mx_nmI  (fun h127 eh127 Xh127 Kh127 Lh127 => ?_)
                      have H := H h127 eh127 Xh127
                      have Kh127 := Kh127.trans Kh121
                      have Lh127 := Lh127.trans Lh121
                      have La0_h127 := La0_h121.ext Xh127
                      exact mx_vret rfl dX8_next_364 H
                    · have H := H.2 c126
                      refine mx_iconst dX8_next_356 ic_3 ?_
                      refine mx_goto (tgt := 361) dX8_next_357 rfl ?_
                      refine mx_putI 8 50 (ref := "PrairiePoolModel") cl_8 (Nat.le_of_ble_eq_true rfl) (Or.inl q1677) (Or.inl rfl) dX8_next_361 (Or.inl rfl) rfl (ly8_k La0_h121) ?_
                      refine mx_nmI  (fun h128 eh128 Xh128 Kh128 Lh128 => ?_)
                      have H := H h128 eh128 Xh128
                      have Kh128 := Kh128.trans Kh121
                      have Lh128 := Lh128.trans Lh121
                      have La0_h128 := La0_h121.ext Xh128
                      exact mx_vret rfl dX8_next_364 H
                · have H := H.2 c123
                  refine mx_lload_n dX8_isIn_6 rfl rfl ?_
                  refine mx_lload dX8_isIn_7 rfl ?_
                  refine mx_lif_gt (tgt := 17) dX8_isIn_9 dX8_isIn_10 rfl (fun c129 => ?_) (fun c129 => ?_)
                  · have H := H.1 c129
                    refine mx_iconst dX8_isIn_17 ic_0 ?_
                    refine mx_zretK rfl dX8_isIn_18 (Or.inl rfl) ?_
                    refine mx_if_ne (tgt := 356) dX8_next_341 rfl (fun _ => absurd ‹_› (by decide)) (fun _ => ?_)
                    refine mx_iload_n dX8_next_344 rfl rfl ?_
                    refine mx_bipush dX8_next_345 ib_47 ?_
                    refine mx_icmp_eq (tgt := 356) dX8_next_347 rfl (fun c130 => ?_) (fun c130 => ?_)
                    · have H := H.1 c130
                      refine mx_iconst dX8_next_356 ic_3 ?_
                      refine mx_goto (tgt := 361) dX8_next_357 rfl ?_
                      refine mx_putI 8 50 (ref := "PrairiePoolModel") cl_8 (Nat.le_of_ble_eq_true rfl) (Or.inl q1677) (Or.inl rfl) dX8_next_361 (Or.inl rfl) rfl (ly8_k La0_h121) ?_
                      refine mx_nmI  (fun h131 eh131 Xh131 Kh131 Lh131 => ?_)
                      have H := H h131 eh131 Xh131
                      have Kh131 := Kh131.trans Kh121
                      have Lh131 := Lh131.trans Lh121
                      have La0_h131 := La0_h121.ext Xh131
                      exact mx_vret rfl dX8_next_364 H
                    · have H := H.2 c130
                      refine mx_iload_n dX8_next_350 rfl rfl ?_
                      refine mx_bipush dX8_next_351 ib_37 ?_
                      refine mx_icmp_ne (tgt := 360) dX8_next_353 rfl (fun c132 => ?_) (fun c132 => ?_)
                      · have H := H.1 c132
                        refine mx_iconst dX8_next_360 ic_4 ?_
                        refine mx_putI 8 50 (ref := "PrairiePoolModel") cl_8 (Nat.le_of_ble_eq_true rfl) (Or.inl q1677) (Or.inl rfl) dX8_next_361 (Or.inl rfl) rfl (ly8_k La0_h121) ?_
                        refine mx_nmI  (fun h133 eh133 Xh133 Kh133 Lh133 => ?_)
                        have H := H h133 eh133 Xh133
                        have Kh133 := Kh133.trans Kh121
                        have Lh133 := Lh133.trans Lh121
                        have La0_h133 := La0_h121.ext Xh133
                        exact mx_vret rfl dX8_next_364 H
                      · have H := H.2 c132
                        refine mx_iconst dX8_next_356 ic_3 ?_
                        refine mx_goto (tgt := 361) dX8_next_357 rfl ?_
                        refine mx_putI 8 50 (ref := "PrairiePoolModel") cl_8 (Nat.le_of_ble_eq_true rfl) (Or.inl q1677) (Or.inl rfl) dX8_next_361 (Or.inl rfl) rfl (ly8_k La0_h121) ?_
                        refine mx_nmI  (fun h134 eh134 Xh134 Kh134 Lh134 => ?_)
                        have H := H h134 eh134 Xh134
                        have Kh134 := Kh134.trans Kh121
                        have Lh134 := Lh134.trans Lh121
                        have La0_h134 := La0_h121.ext Xh134
                        exact mx_vret rfl dX8_next_364 H
                  · have H := H.2 c129
                    refine mx_iconst dX8_isIn_13 ic_1 ?_
                    refine mx_goto (tgt := 18) dX8_isIn_14 rfl ?_
                    refine mx_zretK rfl dX8_isIn_18 (Or.inr rfl) ?_
                    refine mx_if_ne (tgt := 356) dX8_next_341 rfl (fun _ => ?_) (fun _ => absurd ‹_› (by decide))
                    refine mx_iconst dX8_next_356 ic_3 ?_
                    refine mx_goto (tgt := 361) dX8_next_357 rfl ?_
                    refine mx_putI 8 50 (ref := "PrairiePoolModel") cl_8 (Nat.le_of_ble_eq_true rfl) (Or.inl q1677) (Or.inl rfl) dX8_next_361 (Or.inl rfl) rfl (ly8_k La0_h121) ?_
                    refine mx_nmI  (fun h135 eh135 Xh135 Kh135 Lh135 => ?_)
                    have H := H h135 eh135 Xh135
                    have Kh135 := Kh135.trans Kh121
                    have Lh135 := Lh135.trans Lh121
                    have La0_h135 := La0_h121.ext Xh135
                    exact mx_vret rfl dX8_next_364 H
              · have H := H.2 c122
                refine mx_lload_n dX8_isIn_6 rfl rfl ?_
                refine mx_lload dX8_isIn_7 rfl ?_
                refine mx_lif_gt (tgt := 17) dX8_isIn_9 dX8_isIn_10 rfl (fun c136 => ?_) (fun c136 => ?_)
                · have H := H.1 c136
                  refine mx_iconst dX8_isIn_17 ic_0 ?_
                  refine mx_zretK rfl dX8_isIn_18 (Or.inl rfl) ?_
                  refine mx_if_ne (tgt := 356) dX8_next_327 rfl (fun _ => absurd ‹_› (by decide)) (fun _ => ?_)
                  refine mx_iload_n dX8_next_330 rfl rfl ?_
                  refine mx_i2l dX8_next_331 ?_
                  refine mx_ldc2 q2186 dX8_next_332 ?_
                  refine mx_ldc2 q2187 dX8_next_335 ?_
                  refine mx_callS (y' := mi_X8_isIn) (vs := [jv ((ah_I h (a0 + 35) (ah_I h a0 51).toNatClampNeg) &&& (255 : Int32)).toInt64, jv (40 : Int64), jv (45 : Int64)]) (st := [rv a0]) (al' := [some (jv ((ah_I h (a0 + 35) (ah_I h a0 51).toNatClampNeg) &&& (255 : Int32)).toInt64), none, some (jv (40 : Int64)), none, some (jv (45 : Int64)), none]) S_X8_isIn q1996 dX8_next_338 rfl rfl (Nat.le_of_ble_eq_true rfl) (Nat.le_of_ble_eq_true rfl) ?_
                  refine mx_lload_n dX8_isIn_0 rfl rfl ?_
                  refine mx_lload_n dX8_isIn_1 rfl rfl ?_
                  refine mx_lif_lt (tgt := 17) dX8_isIn_2 dX8_isIn_3 rfl (fun c137 => ?_) (fun c137 => ?_)
                  · have H := H.1 c137
                    refine mx_iconst dX8_isIn_17 ic_0 ?_
                    refine mx_zretK rfl dX8_isIn_18 (Or.inl rfl) ?_
                    refine mx_if_ne (tgt := 356) dX8_next_341 rfl (fun _ => absurd ‹_› (by decide)) (fun _ => ?_)
                    refine mx_iload_n dX8_next_344 rfl rfl ?_
                    refine mx_bipush dX8_next_345 ib_47 ?_
                    refine mx_icmp_eq (tgt := 356) dX8_next_347 rfl (fun c138 => ?_) (fun c138 => ?_)
                    · have H := H.1 c138
                      refine mx_iconst dX8_next_356 ic_3 ?_
                      refine mx_goto (tgt := 361) dX8_next_357 rfl ?_
                      refine mx_putI 8 50 (ref := "PrairiePoolModel") cl_8 (Nat.le_of_ble_eq_true rfl) (Or.inl q1677) (Or.inl rfl) dX8_next_361 (Or.inl rfl) rfl (ly8_k La0_h121) ?_
                      refine mx_nmI  (fun h139 eh139 Xh139 Kh139 Lh139 => ?_)
                      have H := H h139 eh139 Xh139
                      have Kh139 := Kh139.trans Kh121
                      have Lh139 := Lh139.trans Lh121
                      have La0_h139 := La0_h121.ext Xh139
                      exact mx_vret rfl dX8_next_364 H
                    · have H := H.2 c138
                      refine mx_iload_n dX8_next_350 rfl rfl ?_
                      refine mx_bipush dX8_next_351 ib_37 ?_
                      refine mx_icmp_ne (tgt := 360) dX8_next_353 rfl (fun c140 => ?_) (fun c140 => ?_)
                      · have H := H.1 c140
                        refine mx_iconst dX8_next_360 ic_4 ?_
                        refine mx_putI 8 50 (ref := "PrairiePoolModel") cl_8 (Nat.le_of_ble_eq_true rfl) (Or.inl q1677) (Or.inl rfl) dX8_next_361 (Or.inl rfl) rfl (ly8_k La0_h121) ?_
                        refine mx_nmI  (fun h141 eh141 Xh141 Kh141 Lh141 => ?_)
                        have H := H h141 eh141 Xh141
                        have Kh141 := Kh141.trans Kh121
                        have Lh141 := Lh141.trans Lh121
                        have La0_h141 := La0_h121.ext Xh141
                        exact mx_vret rfl dX8_next_364 H
                      · have H := H.2 c140
                        refine mx_iconst dX8_next_356 ic_3 ?_
                        refine mx_goto (tgt := 361) dX8_next_357 rfl ?_
                        refine mx_putI 8 50 (ref := "PrairiePoolModel") cl_8 (Nat.le_of_ble_eq_true rfl) (Or.inl q1677) (Or.inl rfl) dX8_next_361 (Or.inl rfl) rfl (ly8_k La0_h121) ?_
                        refine mx_nmI  (fun h142 eh142 Xh142 Kh142 Lh142 => ?_)
                        have H := H h142 eh142 Xh142
                        have Kh142 := Kh142.trans Kh121
                        have Lh142 := Lh142.trans Lh121
                        have La0_h142 := La0_h121.ext Xh142
                        exact mx_vret rfl dX8_next_364 H
                  · have H := H.2 c137
                    refine mx_lload_n dX8_isIn_6 rfl rfl ?_
                    refine mx_lload dX8_isIn_7 rfl ?_
                    refine mx_lif_gt (tgt := 17) dX8_isIn_9 dX8_isIn_10 rfl (fun c143 => ?_) (fun c143 => ?_)
                    · have H := H.1 c143
                      refine mx_iconst dX8_isIn_17 ic_0 ?_
                      refine mx_zretK rfl dX8_isIn_18 (Or.inl rfl) ?_
                      refine mx_if_ne (tgt := 356) dX8_next_341 rfl (fun _ => absurd ‹_› (by decide)) (fun _ => ?_)
                      refine mx_iload_n dX8_next_344 rfl rfl ?_
                      refine mx_bipush dX8_next_345 ib_47 ?_
                      refine mx_icmp_eq (tgt := 356) dX8_next_347 rfl (fun c144 => ?_) (fun c144 => ?_)
                      · have H := H.1 c144
                        refine mx_iconst dX8_next_356 ic_3 ?_
                        refine mx_goto (tgt := 361) dX8_next_357 rfl ?_
                        refine mx_putI 8 50 (ref := "PrairiePoolModel") cl_8 (Nat.le_of_ble_eq_true rfl) (Or.inl q1677) (Or.inl rfl) dX8_next_361 (Or.inl rfl) rfl (ly8_k La0_h121) ?_
                        refine mx_nmI  (fun h145 eh145 Xh145 Kh145 Lh145 => ?_)
                        have H := H h145 eh145 Xh145
                        have Kh145 := Kh145.trans Kh121
                        have Lh145 := Lh145.trans Lh121
                        have La0_h145 := La0_h121.ext Xh145
                        exact mx_vret rfl dX8_next_364 H
                      · have H := H.2 c144
                        refine mx_iload_n dX8_next_350 rfl rfl ?_
                        refine mx_bipush dX8_next_351 ib_37 ?_
                        refine mx_icmp_ne (tgt := 360) dX8_next_353 rfl (fun c146 => ?_) (fun c146 => ?_)
                        · have H := H.1 c146
                          refine mx_iconst dX8_next_360 ic_4 ?_
                          refine mx_putI 8 50 (ref := "PrairiePoolModel") cl_8 (Nat.le_of_ble_eq_true rfl) (Or.inl q1677) (Or.inl rfl) dX8_next_361 (Or.inl rfl) rfl (ly8_k La0_h121) ?_
                          refine mx_nmI  (fun h147 eh147 Xh147 Kh147 Lh147 => ?_)
                          have H := H h147 eh147 Xh147
                          have Kh147 := Kh147.trans Kh121
                          have Lh147 := Lh147.trans Lh121
                          have La0_h147 := La0_h121.ext Xh147
                          exact mx_vret rfl dX8_next_364 H
                        · have H := H.2 c146
                          refine mx_iconst dX8_next_356 ic_3 ?_
                          refine mx_goto (tgt := 361) dX8_next_357 rfl ?_
                          refine mx_putI 8 50 (ref := "PrairiePoolModel") cl_8 (Nat.le_of_ble_eq_true rfl) (Or.inl q1677) (Or.inl rfl) dX8_next_361 (Or.inl rfl) rfl (ly8_k La0_h121) ?_
                          refine mx_nmI  (fun h148 eh148 Xh148 Kh148 Lh148 => ?_)
                          have H := H h148 eh148 Xh148
                          have Kh148 := Kh148.trans Kh121
                          have Lh148 := Lh148.trans Lh121
                          have La0_h148 := La0_h121.ext Xh148
                          exact mx_vret rfl dX8_next_364 H
                    · have H := H.2 c143
                      refine mx_iconst dX8_isIn_13 ic_1 ?_
                      refine mx_goto (tgt := 18) dX8_isIn_14 rfl ?_
                      refine mx_zretK rfl dX8_isIn_18 (Or.inr rfl) ?_
                      refine mx_if_ne (tgt := 356) dX8_next_341 rfl (fun _ => ?_) (fun _ => absurd ‹_› (by decide))
                      refine mx_iconst dX8_next_356 ic_3 ?_
                      refine mx_goto (tgt := 361) dX8_next_357 rfl ?_
                      refine mx_putI 8 50 (ref := "PrairiePoolModel") cl_8 (Nat.le_of_ble_eq_true rfl) (Or.inl q1677) (Or.inl rfl) dX8_next_361 (Or.inl rfl) rfl (ly8_k La0_h121) ?_
                      refine mx_nmI  (fun h149 eh149 Xh149 Kh149 Lh149 => ?_)
                      have H := H h149 eh149 Xh149
                      have Kh149 := Kh149.trans Kh121
                      have Lh149 := Lh149.trans Lh121
                      have La0_h149 := La0_h121.ext Xh149
                      exact mx_vret rfl dX8_next_364 H
                · have H := H.2 c136
                  refine mx_iconst dX8_isIn_13 ic_1 ?_
                  refine mx_goto (tgt := 18) dX8_isIn_14 rfl ?_
                  refine mx_zretK rfl dX8_isIn_18 (Or.inr rfl) ?_
                  refine mx_if_ne (tgt := 356) dX8_next_327 rfl (fun _ => ?_) (fun _ => absurd ‹_› (by decide))
                  refine mx_iconst dX8_next_356 ic_3 ?_
                  refine mx_goto (tgt := 361) dX8_next_357 rfl ?_
                  refine mx_putI 8 50 (ref := "PrairiePoolModel") cl_8 (Nat.le_of_ble_eq_true rfl) (Or.inl q1677) (Or.inl rfl) dX8_next_361 (Or.inl rfl) rfl (ly8_k La0_h121) ?_
                  refine mx_nmI  (fun h150 eh150 Xh150 Kh150 Lh150 => ?_)
                  have H := H h150 eh150 Xh150
                  have Kh150 := Kh150.trans Kh121
                  have Lh150 := Lh150.trans Lh121
                  have La0_h150 := La0_h121.ext Xh150
                  exact mx_vret rfl dX8_next_364 H
            · have H := H.2 c119
              refine mx_iconst dX8_isDigit_12 ic_1 ?_
              refine mx_goto (tgt := 17) dX8_isDigit_13 rfl ?_
              refine mx_zretK rfl dX8_isDigit_17 (Or.inr rfl) ?_
              refine mx_if_eq (tgt := 300) dX8_next_202 rfl (fun _ => absurd ‹_› (by decide)) (fun _ => ?_)
              refine mx_aload_n dX8_next_205 rfl rfl ?_
              refine mx_iconst dX8_next_206 ic_0 ?_
              refine mx_putI 8 53 (ref := "PrairiePoolModel") cl_8 (Nat.le_of_ble_eq_true rfl) (Or.inl q1680) (Or.inl rfl) dX8_next_207 (Or.inl rfl) rfl (ly8_k La0_h1) ?_
              refine mx_nmI  (fun h151 eh151 Xh151 Kh151 Lh151 => ?_)
              have H := H h151 eh151 Xh151
              have Kh151 := Kh151.trans Kh1
              have Lh151 := Lh151.trans Lh1
              have La0_h151 := La0_h1.ext Xh151
              exact mx_weak (al' := [some (rv a0), none]) ⟨rfl, trivial⟩ H
        · have H := H.2 c86
          refine mx_iconst dX8_isLetter_12 ic_1 ?_
          refine mx_goto (tgt := 17) dX8_isLetter_13 rfl ?_
          refine mx_zretK rfl dX8_isLetter_17 (Or.inr rfl) ?_
          refine mx_if_eq (tgt := 198) dX8_next_96 rfl (fun _ => absurd ‹_› (by decide)) (fun _ => ?_)
          refine mx_aload_n dX8_next_99 rfl rfl ?_
          refine mx_iconst dX8_next_100 ic_1 ?_
          refine mx_putI 8 50 (ref := "PrairiePoolModel") cl_8 (Nat.le_of_ble_eq_true rfl) (Or.inl q1677) (Or.inl rfl) dX8_next_101 (Or.inl rfl) rfl (ly8_k La0_h1) ?_
          refine mx_nmI  (fun h152 eh152 Xh152 Kh152 Lh152 => ?_)
          have H := H h152 eh152 Xh152
          have Kh152 := Kh152.trans Kh1
          have Lh152 := Lh152.trans Lh1
          have La0_h152 := La0_h1.ext Xh152
          refine mx_aload_n dX8_next_104 rfl rfl ?_
          refine mx_lconst dX8_next_105 lc_0 ?_
          refine mx_putJ 8 55 (ref := "PrairiePoolModel") cl_8 (Nat.le_of_ble_eq_true rfl) (Or.inl q1682) (Or.inl rfl) dX8_next_106 (Or.inl rfl) rfl (ly8_k La0_h152) ?_
          refine mx_nmJ  (fun h153 eh153 Xh153 Kh153 Lh153 => ?_)
          have H := H h153 eh153 Xh153
          have Kh153 := Kh153.trans Kh152
          have Lh153 := Lh153.trans Lh152
          have La0_h153 := La0_h152.ext Xh153
          exact mx_weak (al' := [some (rv a0), none]) ⟨rfl, trivial⟩ H
  · have H := H.2 c2
    refine mx_aload_n dX8_next_77 rfl rfl ?_
    refine mx_iconst dX8_next_78 ic_0 ?_
    refine mx_putI 8 50 (ref := "PrairiePoolModel") cl_8 (Nat.le_of_ble_eq_true rfl) (Or.inl q1677) (Or.inl rfl) dX8_next_79 (Or.inl rfl) rfl (ly8_k La0_h1) ?_
    refine mx_nmI  (fun h154 eh154 Xh154 Kh154 Lh154 => ?_)
    have H := H h154 eh154 Xh154
    have Kh154 := Kh154.trans Kh1
    have Lh154 := Lh154.trans Lh1
    have La0_h154 := La0_h1.ext Xh154
    exact mx_vret rfl dX8_next_82 H
theorem v_X8_next_210 {G : ma_G} {d : Nat} {a0 : Nat} {h : ah_T} {Q : Option ma_V → ah_T → Prop} {E : Nat → ah_T → Prop} (La0_h : LY8 h a0) (H : ((ah_I h a0 45) ≤ (ah_I h a0 52) → (((ah_I h a0 52) - (ah_I h a0 51)) ≤ (6 : Int32) → ∀ h3 : ah_T, h3 = ah_wI h a0 50 (2 : Int32) → ah_ext h h3 → Q none h3) ∧ (¬ ((ah_I h a0 52) - (ah_I h a0 51)) ≤ (6 : Int32) → ∀ h4 : ah_T, h4 = ah_wI h a0 50 (4 : Int32) → ah_ext h h4 → Q none h4)) ∧ (¬ (ah_I h a0 45) ≤ (ah_I h a0 52) → vp_in (ah_I h a0 52) 500 ∧ (((ah_I h (a0 + 35) (ah_I h a0 52).toNatClampNeg) &&& (255 : Int32)) < (48 : Int32) → (((ah_I h a0 52) - (ah_I h a0 51)) ≤ (6 : Int32) → ∀ h8 : ah_T, h8 = ah_wI h a0 50 (2 : Int32) → ah_ext h h8 → Q none h8) ∧ (¬ ((ah_I h a0 52) - (ah_I h a0 51)) ≤ (6 : Int32) → ∀ h9 : ah_T, h9 = ah_wI h a0 50 (4 : Int32) → ah_ext h h9 → Q none h9)) ∧ (¬ ((ah_I h (a0 + 35) (ah_I h a0 52).toNatClampNeg) &&& (255 : Int32)) < (48 : Int32) → ((57 : Int32) < ((ah_I h (a0 + 35) (ah_I h a0 52).toNatClampNeg) &&& (255 : Int32)) → (((ah_I h a0 52) - (ah_I h a0 51)) ≤ (6 : Int32) → ∀ h12 : ah_T, h12 = ah_wI h a0 50 (2 : Int32) → ah_ext h h12 → Q none h12) ∧ (¬ ((ah_I h a0 52) - (ah_I h a0 51)) ≤ (6 : Int32) → ∀ h13 : ah_T, h13 = ah_wI h a0 50 (4 : Int32) → ah_ext h h13 → Q none h13)) ∧ (¬ (57 : Int32) < ((ah_I h (a0 + 35) (ah_I h a0 52).toNatClampNeg) &&& (255 : Int32)) → ((6 : Int32) ≤ ((ah_I h a0 52) - (ah_I h a0 51)) → ∀ h15 : ah_T, h15 = ah_wI h a0 52 ((ah_I h a0 52) + (1 : Int32)) → ah_ext h h15 → MX G mi_X8_next (d + 1) 210 [some (rv a0), none] [] h15 Q E) ∧ (¬ (6 : Int32) ≤ ((ah_I h a0 52) - (ah_I h a0 51)) → ∀ h16 : ah_T, h16 = ah_wI h a0 53 ((((10 : Int32) * (ah_I h a0 53)) + ((ah_I h (a0 + 35) (ah_I h a0 52).toNatClampNeg) &&& (255 : Int32))) - (48 : Int32)) → ah_ext h h16 → ∀ h17 : ah_T, h17 = ah_wI h16 a0 52 ((ah_I h a0 52) + (1 : Int32)) → ah_ext h16 h17 → MX G mi_X8_next (d + 1) 210 [some (rv a0), none] [] h17 Q E))))) : MX G mi_X8_next (d + 1) 210 [some (rv a0), none] [] h Q E := by
  refine mx_aload_n dX8_next_210 rfl rfl ?_
  refine mx_aload_n dX8_next_211 rfl rfl ?_
  refine mx_get 8 52 (ref := "PrairiePoolModel") cl_8 (Nat.le_of_ble_eq_true rfl) (Or.inl q1679) (Or.inl rfl) dX8_next_212 (fv_8_52 _ _) (ly8_k La0_h) ?_
  refine mx_callV 8 (y' := mi_X8_look) (vs := [iv (ah_I h a0 52)]) (st := []) (al' := [some (rv a0), some (iv (ah_I h a0 52))]) cl_8 V_X8_look (Or.inl q2174) dX8_next_215 rfl rfl (Nat.le_of_ble_eq_true rfl) (Nat.le_of_ble_eq_true rfl) (ly8_k La0_h) ?_
  refine mx_iload_n dX8_look_0 rfl rfl ?_
  refine mx_aload_n dX8_look_1 rfl rfl ?_
  refine mx_get 8 45 (ref := "PrairiePoolModel") cl_8 (Nat.le_of_ble_eq_true rfl) (Or.inl q1672) (Or.inl rfl) dX8_look_2 (fv_8_45 _ _) (ly8_k La0_h) ?_
  refine mx_icmp_ge (tgt := 21) dX8_look_5 rfl (fun c1 => ?_) (fun c1 => ?_)
  · have H := H.1 c1
    refine mx_iconst dX8_look_21 ic_0 ?_
    refine mx_iretK rfl dX8_look_22 ?_
    refine mx_callS (y' := mi_X8_isDigit) (vs := [iv (0 : Int32)]) (st := []) (al' := [some (iv (0 : Int32))]) S_X8_isDigit q2181 dX8_next_218 rfl rfl (Nat.le_of_ble_eq_true rfl) (Nat.le_of_ble_eq_true rfl) ?_
    refine mx_iload_n dX8_isDigit_0 rfl rfl ?_
    refine mx_bipush dX8_isDigit_1 ib_48 ?_
    refine mx_icmp_lt (tgt := 16) dX8_isDigit_3 rfl (fun _ => ?_) (fun _ => absurd ‹_› (by decide))
    refine mx_iconst dX8_isDigit_16 ic_0 ?_
    refine mx_zretK rfl dX8_isDigit_17 (Or.inl rfl) ?_
    refine mx_if_eq (tgt := 274) dX8_next_221 rfl (fun _ => ?_) (fun _ => absurd ‹_› (by decide))
    refine mx_aload_n dX8_next_274 rfl rfl ?_
    refine mx_aload_n dX8_next_275 rfl rfl ?_
    refine mx_get 8 52 (ref := "PrairiePoolModel") cl_8 (Nat.le_of_ble_eq_true rfl) (Or.inl q1679) (Or.inl rfl) dX8_next_276 (fv_8_52 _ _) (ly8_k La0_h) ?_
    refine mx_aload_n dX8_next_279 rfl rfl ?_
    refine mx_get 8 51 (ref := "PrairiePoolModel") cl_8 (Nat.le_of_ble_eq_true rfl) (Or.inl q1678) (Or.inl rfl) dX8_next_280 (fv_8_51 _ _) (ly8_k La0_h) ?_
    refine mx_isub dX8_next_283 ?_
    refine mx_bipush dX8_next_284 ib_6 ?_
    refine mx_icmp_le (tgt := 293) dX8_next_286 rfl (fun c2 => ?_) (fun c2 => ?_)
    · have H := H.1 c2
      refine mx_iconst dX8_next_293 ic_2 ?_
      refine mx_putI 8 50 (ref := "PrairiePoolModel") cl_8 (Nat.le_of_ble_eq_true rfl) (Or.inl q1677) (Or.inl rfl) dX8_next_294 (Or.inl rfl) rfl (ly8_k La0_h) ?_
      refine mx_nmI  (fun h3 eh3 Xh3 Kh3 Lh3 => ?_)
      have H := H h3 eh3 Xh3
      have La0_h3 := La0_h.ext Xh3
      refine mx_goto (tgt := 364) dX8_next_297 rfl ?_
      exact mx_vret rfl dX8_next_364 H
    · have H := H.2 c2
      refine mx_iconst dX8_next_289 ic_4 ?_
      refine mx_goto (tgt := 294) dX8_next_290 rfl ?_
      refine mx_putI 8 50 (ref := "PrairiePoolModel") cl_8 (Nat.le_of_ble_eq_true rfl) (Or.inl q1677) (Or.inl rfl) dX8_next_294 (Or.inl rfl) rfl (ly8_k La0_h) ?_
      refine mx_nmI  (fun h4 eh4 Xh4 Kh4 Lh4 => ?_)
      have H := H h4 eh4 Xh4
      have La0_h4 := La0_h.ext Xh4
      refine mx_goto (tgt := 364) dX8_next_297 rfl ?_
      exact mx_vret rfl dX8_next_364 H
  · have H := H.2 c1
    refine mx_aload_n dX8_look_8 rfl rfl ?_
    refine mx_get 8 43 (ref := "PrairiePoolModel") cl_8 (Nat.le_of_ble_eq_true rfl) (Or.inl q1670) (Or.inl rfl) dX8_look_9 (fv_8_43 _ _) (ly8_k La0_h) ?_
    refine mx_tr (ly8_R_0_43 La0_h) ?_
    refine mx_iload_n dX8_look_12 rfl rfl ?_
    obtain ⟨k5, H⟩ := H
    refine my_bald dX8_look_13 rfl (ly8_A_35 La0_h k5) ?_
    refine mx_sipush dX8_look_14 is_255 ?_
    refine mx_iand dX8_look_17 ?_
    refine mx_goto (tgt := 22) dX8_look_18 rfl ?_
    refine mx_iretK rfl dX8_look_22 ?_
    refine mx_callS (y' := mi_X8_isDigit) (vs := [iv ((ah_I h (a0 + 35) (ah_I h a0 52).toNatClampNeg) &&& (255 : Int32))]) (st := []) (al' := [some (iv ((ah_I h (a0 + 35) (ah_I h a0 52).toNatClampNeg) &&& (255 : Int32)))]) S_X8_isDigit q2181 dX8_next_218 rfl rfl (Nat.le_of_ble_eq_true rfl) (Nat.le_of_ble_eq_true rfl) ?_
    refine mx_iload_n dX8_isDigit_0 rfl rfl ?_
    refine mx_bipush dX8_isDigit_1 ib_48 ?_
    refine mx_icmp_lt (tgt := 16) dX8_isDigit_3 rfl (fun c6 => ?_) (fun c6 => ?_)
    · have H := H.1 c6
      refine mx_iconst dX8_isDigit_16 ic_0 ?_
      refine mx_zretK rfl dX8_isDigit_17 (Or.inl rfl) ?_
      refine mx_if_eq (tgt := 274) dX8_next_221 rfl (fun _ => ?_) (fun _ => absurd ‹_› (by decide))
      refine mx_aload_n dX8_next_274 rfl rfl ?_
      refine mx_aload_n dX8_next_275 rfl rfl ?_
      refine mx_get 8 52 (ref := "PrairiePoolModel") cl_8 (Nat.le_of_ble_eq_true rfl) (Or.inl q1679) (Or.inl rfl) dX8_next_276 (fv_8_52 _ _) (ly8_k La0_h) ?_
      refine mx_aload_n dX8_next_279 rfl rfl ?_
      refine mx_get 8 51 (ref := "PrairiePoolModel") cl_8 (Nat.le_of_ble_eq_true rfl) (Or.inl q1678) (Or.inl rfl) dX8_next_280 (fv_8_51 _ _) (ly8_k La0_h) ?_
      refine mx_isub dX8_next_283 ?_
      refine mx_bipush dX8_next_284 ib_6 ?_
      refine mx_icmp_le (tgt := 293) dX8_next_286 rfl (fun c7 => ?_) (fun c7 => ?_)
      · have H := H.1 c7
        refine mx_iconst dX8_next_293 ic_2 ?_
        refine mx_putI 8 50 (ref := "PrairiePoolModel") cl_8 (Nat.le_of_ble_eq_true rfl) (Or.inl q1677) (Or.inl rfl) dX8_next_294 (Or.inl rfl) rfl (ly8_k La0_h) ?_
        refine mx_nmI  (fun h8 eh8 Xh8 Kh8 Lh8 => ?_)
        have H := H h8 eh8 Xh8
        have La0_h8 := La0_h.ext Xh8
        refine mx_goto (tgt := 364) dX8_next_297 rfl ?_
        exact mx_vret rfl dX8_next_364 H
      · have H := H.2 c7
        refine mx_iconst dX8_next_289 ic_4 ?_
        refine mx_goto (tgt := 294) dX8_next_290 rfl ?_
        refine mx_putI 8 50 (ref := "PrairiePoolModel") cl_8 (Nat.le_of_ble_eq_true rfl) (Or.inl q1677) (Or.inl rfl) dX8_next_294 (Or.inl rfl) rfl (ly8_k La0_h) ?_
        refine mx_nmI  (fun h9 eh9 Xh9 Kh9 Lh9 => ?_)
        have H := H h9 eh9 Xh9
        have La0_h9 := La0_h.ext Xh9
        refine mx_goto (tgt := 364) dX8_next_297 rfl ?_
        exact mx_vret rfl dX8_next_364 H
    · have H := H.2 c6
      refine mx_iload_n dX8_isDigit_6 rfl rfl ?_
      refine mx_bipush dX8_isDigit_7 ib_57 ?_
      refine mx_icmp_gt (tgt := 16) dX8_isDigit_9 rfl (fun c10 => ?_) (fun c10 => ?_)
      · have H := H.1 c10
        refine mx_iconst dX8_isDigit_16 ic_0 ?_
        refine mx_zretK rfl dX8_isDigit_17 (Or.inl rfl) ?_
        refine mx_if_eq (tgt := 274) dX8_next_221 rfl (fun _ => ?_) (fun _ => absurd ‹_› (by decide))
        refine mx_aload_n dX8_next_274 rfl rfl ?_
        refine mx_aload_n dX8_next_275 rfl rfl ?_
        refine mx_get 8 52 (ref := "PrairiePoolModel") cl_8 (Nat.le_of_ble_eq_true rfl) (Or.inl q1679) (Or.inl rfl) dX8_next_276 (fv_8_52 _ _) (ly8_k La0_h) ?_
        refine mx_aload_n dX8_next_279 rfl rfl ?_
        refine mx_get 8 51 (ref := "PrairiePoolModel") cl_8 (Nat.le_of_ble_eq_true rfl) (Or.inl q1678) (Or.inl rfl) dX8_next_280 (fv_8_51 _ _) (ly8_k La0_h) ?_
        refine mx_isub dX8_next_283 ?_
        refine mx_bipush dX8_next_284 ib_6 ?_
        refine mx_icmp_le (tgt := 293) dX8_next_286 rfl (fun c11 => ?_) (fun c11 => ?_)
        · have H := H.1 c11
          refine mx_iconst dX8_next_293 ic_2 ?_
          refine mx_putI 8 50 (ref := "PrairiePoolModel") cl_8 (Nat.le_of_ble_eq_true rfl) (Or.inl q1677) (Or.inl rfl) dX8_next_294 (Or.inl rfl) rfl (ly8_k La0_h) ?_
          refine mx_nmI  (fun h12 eh12 Xh12 Kh12 Lh12 => ?_)
          have H := H h12 eh12 Xh12
          have La0_h12 := La0_h.ext Xh12
          refine mx_goto (tgt := 364) dX8_next_297 rfl ?_
          exact mx_vret rfl dX8_next_364 H
        · have H := H.2 c11
          refine mx_iconst dX8_next_289 ic_4 ?_
          refine mx_goto (tgt := 294) dX8_next_290 rfl ?_
          refine mx_putI 8 50 (ref := "PrairiePoolModel") cl_8 (Nat.le_of_ble_eq_true rfl) (Or.inl q1677) (Or.inl rfl) dX8_next_294 (Or.inl rfl) rfl (ly8_k La0_h) ?_
          refine mx_nmI  (fun h13 eh13 Xh13 Kh13 Lh13 => ?_)
          have H := H h13 eh13 Xh13
          have La0_h13 := La0_h.ext Xh13
          refine mx_goto (tgt := 364) dX8_next_297 rfl ?_
          exact mx_vret rfl dX8_next_364 H
      · have H := H.2 c10
        refine mx_iconst dX8_isDigit_12 ic_1 ?_
        refine mx_goto (tgt := 17) dX8_isDigit_13 rfl ?_
        refine mx_zretK rfl dX8_isDigit_17 (Or.inr rfl) ?_
        refine mx_if_eq (tgt := 274) dX8_next_221 rfl (fun _ => absurd ‹_› (by decide)) (fun _ => ?_)
        refine mx_aload_n dX8_next_224 rfl rfl ?_
        refine mx_get 8 52 (ref := "PrairiePoolModel") cl_8 (Nat.le_of_ble_eq_true rfl) (Or.inl q1679) (Or.inl rfl) dX8_next_225 (fv_8_52 _ _) (ly8_k La0_h) ?_
        refine mx_aload_n dX8_next_228 rfl rfl ?_
        refine mx_get 8 51 (ref := "PrairiePoolModel") cl_8 (Nat.le_of_ble_eq_true rfl) (Or.inl q1678) (Or.inl rfl) dX8_next_229 (fv_8_51 _ _) (ly8_k La0_h) ?_
        refine mx_isub dX8_next_232 ?_
        refine mx_bipush dX8_next_233 ib_6 ?_
        refine mx_icmp_ge (tgt := 261) dX8_next_235 rfl (fun c14 => ?_) (fun c14 => ?_)
        · have H := H.1 c14
          refine mx_aload_n dX8_next_261 rfl rfl ?_
          refine mx_dup_r dX8_next_262 ?_
          refine mx_get 8 52 (ref := "PrairiePoolModel") cl_8 (Nat.le_of_ble_eq_true rfl) (Or.inl q1679) (Or.inl rfl) dX8_next_263 (fv_8_52 _ _) (ly8_k La0_h) ?_
          refine mx_iconst dX8_next_266 ic_1 ?_
          refine mx_iadd dX8_next_267 ?_
          refine mx_putI 8 52 (ref := "PrairiePoolModel") cl_8 (Nat.le_of_ble_eq_true rfl) (Or.inl q1679) (Or.inl rfl) dX8_next_268 (Or.inl rfl) rfl (ly8_k La0_h) ?_
          refine mx_nmI  (fun h15 eh15 Xh15 Kh15 Lh15 => ?_)
          have H := H h15 eh15 Xh15
          have La0_h15 := La0_h.ext Xh15
          refine mx_goto (tgt := 210) dX8_next_271 rfl ?_
          exact mx_weak (al' := [some (rv a0), none]) ⟨rfl, trivial⟩ H
        · have H := H.2 c14
          refine mx_aload_n dX8_next_238 rfl rfl ?_
          refine mx_bipush dX8_next_239 ib_10 ?_
          refine mx_aload_n dX8_next_241 rfl rfl ?_
          refine mx_get 8 53 (ref := "PrairiePoolModel") cl_8 (Nat.le_of_ble_eq_true rfl) (Or.inl q1680) (Or.inl rfl) dX8_next_242 (fv_8_53 _ _) (ly8_k La0_h) ?_
          refine mx_imul dX8_next_245 ?_
          refine mx_aload_n dX8_next_246 rfl rfl ?_
          refine mx_aload_n dX8_next_247 rfl rfl ?_
          refine mx_get 8 52 (ref := "PrairiePoolModel") cl_8 (Nat.le_of_ble_eq_true rfl) (Or.inl q1679) (Or.inl rfl) dX8_next_248 (fv_8_52 _ _) (ly8_k La0_h) ?_
          refine mx_callV 8 (y' := mi_X8_look) (vs := [iv (ah_I h a0 52)]) (st := [iv ((10 : Int32) * (ah_I h a0 53)), rv a0]) (al' := [some (rv a0), some (iv (ah_I h a0 52))]) cl_8 V_X8_look (Or.inl q2174) dX8_next_251 rfl rfl (Nat.le_of_ble_eq_true rfl) (Nat.le_of_ble_eq_true rfl) (ly8_k La0_h) ?_
          refine mx_iload_n dX8_look_0 rfl rfl ?_
          refine mx_aload_n dX8_look_1 rfl rfl ?_
          refine mx_get 8 45 (ref := "PrairiePoolModel") cl_8 (Nat.le_of_ble_eq_true rfl) (Or.inl q1672) (Or.inl rfl) dX8_look_2 (fv_8_45 _ _) (ly8_k La0_h) ?_
          refine mx_icmp_ge (tgt := 21) dX8_look_5 rfl (fun q_ => absurd q_ c1) (fun _ => ?_)
          refine mx_aload_n dX8_look_8 rfl rfl ?_
          refine mx_get 8 43 (ref := "PrairiePoolModel") cl_8 (Nat.le_of_ble_eq_true rfl) (Or.inl q1670) (Or.inl rfl) dX8_look_9 (fv_8_43 _ _) (ly8_k La0_h) ?_
          refine mx_tr (ly8_R_0_43 La0_h) ?_
          refine mx_iload_n dX8_look_12 rfl rfl ?_
          refine my_bald dX8_look_13 rfl (ly8_A_35 La0_h k5) ?_
          refine mx_sipush dX8_look_14 is_255 ?_
          refine mx_iand dX8_look_17 ?_
          refine mx_goto (tgt := 22) dX8_look_18 rfl ?_
          refine mx_iretK rfl dX8_look_22 ?_
          refine mx_iadd dX8_next_254 ?_
          refine mx_bipush dX8_next_255 ib_48 ?_
          refine mx_isub dX8_next_257 ?_
          refine mx_putI 8 53 (ref := "PrairiePoolModel") cl_8 (Nat.le_of_ble_eq_true rfl) (Or.inl q1680) (Or.inl rfl) dX8_next_258 (Or.inl rfl) rfl (ly8_k La0_h) ?_
          refine mx_nmI  (fun h16 eh16 Xh16 Kh16 Lh16 => ?_)
          have H := H h16 eh16 Xh16
          have La0_h16 := La0_h.ext Xh16
          refine mx_aload_n dX8_next_261 rfl rfl ?_
          refine mx_dup_r dX8_next_262 ?_
          refine mx_get 8 52 (ref := "PrairiePoolModel") cl_8 (Nat.le_of_ble_eq_true rfl) (Or.inl q1679) (Or.inl rfl) dX8_next_263 (fv_8_52 _ _) (ly8_k La0_h16) ?_
          refine mx_ti (ah_skIK eh16 (by decide)) ?_
          refine mx_iconst dX8_next_266 ic_1 ?_
          refine mx_iadd dX8_next_267 ?_
          refine mx_putI 8 52 (ref := "PrairiePoolModel") cl_8 (Nat.le_of_ble_eq_true rfl) (Or.inl q1679) (Or.inl rfl) dX8_next_268 (Or.inl rfl) rfl (ly8_k La0_h16) ?_
          refine mx_nmI  (fun h17 eh17 Xh17 Kh17 Lh17 => ?_)
          have H := H h17 eh17 Xh17
          have Kh17 := Kh17.trans Kh16
          have Lh17 := Lh17.trans Lh16
          have La0_h17 := La0_h16.ext Xh17
          refine mx_goto (tgt := 210) dX8_next_271 rfl ?_
          exact mx_weak (al' := [some (rv a0), none]) ⟨rfl, trivial⟩ H
theorem v_X8_next_109 {G : ma_G} {d : Nat} {a0 : Nat} {h : ah_T} {Q : Option ma_V → ah_T → Prop} {E : Nat → ah_T → Prop} (La0_h : LY8 h a0) (H : ((ah_I h a0 45) ≤ (ah_I h a0 52) → ∀ h2 : ah_T, h2 = ah_wI h a0 54 ((ah_I h a0 52) - (ah_I h a0 51)) → ah_ext h h2 → Q none h2) ∧ (¬ (ah_I h a0 45) ≤ (ah_I h a0 52) → vp_in (ah_I h a0 52) 500 ∧ (((ah_I h (a0 + 35) (ah_I h a0 52).toNatClampNeg) &&& (255 : Int32)) < (97 : Int32) → ∀ h5 : ah_T, h5 = ah_wI h a0 54 ((ah_I h a0 52) - (ah_I h a0 51)) → ah_ext h h5 → Q none h5) ∧ (¬ ((ah_I h (a0 + 35) (ah_I h a0 52).toNatClampNeg) &&& (255 : Int32)) < (97 : Int32) → ((122 : Int32) < ((ah_I h (a0 + 35) (ah_I h a0 52).toNatClampNeg) &&& (255 : Int32)) → ∀ h7 : ah_T, h7 = ah_wI h a0 54 ((ah_I h a0 52) - (ah_I h a0 51)) → ah_ext h h7 → Q none h7) ∧ (¬ (122 : Int32) < ((ah_I h (a0 + 35) (ah_I h a0 52).toNatClampNeg) &&& (255 : Int32)) → ((12 : Int32) ≤ ((ah_I h a0 52) - (ah_I h a0 51)) → ∀ h9 : ah_T, h9 = ah_wJ h a0 55 (-1 : Int64) → ah_ext h h9 → ∀ h10 : ah_T, h10 = ah_wI h9 a0 52 ((ah_I h a0 52) + (1 : Int32)) → ah_ext h9 h10 → MX G mi_X8_next (d + 1) 109 [some (rv a0), none] [] h10 Q E) ∧ (¬ (12 : Int32) ≤ ((ah_I h a0 52) - (ah_I h a0 51)) → ∀ h11 : ah_T, h11 = ah_wJ h a0 55 ((((ah_J h a0 55) * (32 : Int64)) + ((ah_I h (a0 + 35) (ah_I h a0 52).toNatClampNeg) &&& (255 : Int32)).toInt64) - (96 : Int64)) → ah_ext h h11 → ∀ h12 : ah_T, h12 = ah_wI h11 a0 52 ((ah_I h a0 52) + (1 : Int32)) → ah_ext h11 h12 → MX G mi_X8_next (d + 1) 109 [some (rv a0), none] [] h12 Q E))))) : MX G mi_X8_next (d + 1) 109 [some (rv a0), none] [] h Q E := by
  refine mx_aload_n dX8_next_109 rfl rfl ?_
  refine mx_aload_n dX8_next_110 rfl rfl ?_
  refine mx_get 8 52 (ref := "PrairiePoolModel") cl_8 (Nat.le_of_ble_eq_true rfl) (Or.inl q1679) (Or.inl rfl) dX8_next_111 (fv_8_52 _ _) (ly8_k La0_h) ?_
  refine mx_callV 8 (y' := mi_X8_look) (vs := [iv (ah_I h a0 52)]) (st := []) (al' := [some (rv a0), some (iv (ah_I h a0 52))]) cl_8 V_X8_look (Or.inl q2174) dX8_next_114 rfl rfl (Nat.le_of_ble_eq_true rfl) (Nat.le_of_ble_eq_true rfl) (ly8_k La0_h) ?_
  refine mx_iload_n dX8_look_0 rfl rfl ?_
  refine mx_aload_n dX8_look_1 rfl rfl ?_
  refine mx_get 8 45 (ref := "PrairiePoolModel") cl_8 (Nat.le_of_ble_eq_true rfl) (Or.inl q1672) (Or.inl rfl) dX8_look_2 (fv_8_45 _ _) (ly8_k La0_h) ?_
  refine mx_icmp_ge (tgt := 21) dX8_look_5 rfl (fun c1 => ?_) (fun c1 => ?_)
  · have H := H.1 c1
    refine mx_iconst dX8_look_21 ic_0 ?_
    refine mx_iretK rfl dX8_look_22 ?_
    refine mx_callS (y' := mi_X8_isLetter) (vs := [iv (0 : Int32)]) (st := []) (al' := [some (iv (0 : Int32))]) S_X8_isLetter q2178 dX8_next_117 rfl rfl (Nat.le_of_ble_eq_true rfl) (Nat.le_of_ble_eq_true rfl) ?_
    refine mx_iload_n dX8_isLetter_0 rfl rfl ?_
    refine mx_bipush dX8_isLetter_1 ib_97 ?_
    refine mx_icmp_lt (tgt := 16) dX8_isLetter_3 rfl (fun _ => ?_) (fun _ => absurd ‹_› (by decide))
    refine mx_iconst dX8_isLetter_16 ic_0 ?_
    refine mx_zretK rfl dX8_isLetter_17 (Or.inl rfl) ?_
    refine mx_if_eq (tgt := 182) dX8_next_120 rfl (fun _ => ?_) (fun _ => absurd ‹_› (by decide))
    refine mx_aload_n dX8_next_182 rfl rfl ?_
    refine mx_aload_n dX8_next_183 rfl rfl ?_
    refine mx_get 8 52 (ref := "PrairiePoolModel") cl_8 (Nat.le_of_ble_eq_true rfl) (Or.inl q1679) (Or.inl rfl) dX8_next_184 (fv_8_52 _ _) (ly8_k La0_h) ?_
    refine mx_aload_n dX8_next_187 rfl rfl ?_
    refine mx_get 8 51 (ref := "PrairiePoolModel") cl_8 (Nat.le_of_ble_eq_true rfl) (Or.inl q1678) (Or.inl rfl) dX8_next_188 (fv_8_51 _ _) (ly8_k La0_h) ?_
    refine mx_isub dX8_next_191 ?_
    refine mx_putI 8 54 (ref := "PrairiePoolModel") cl_8 (Nat.le_of_ble_eq_true rfl) (Or.inl q1681) (Or.inl rfl) dX8_next_192 (Or.inl rfl) rfl (ly8_k La0_h) ?_
    refine mx_nmI  (fun h2 eh2 Xh2 Kh2 Lh2 => ?_)
    have H := H h2 eh2 Xh2
    have La0_h2 := La0_h.ext Xh2
    refine mx_goto (tgt := 364) dX8_next_195 rfl ?_
    exact mx_vret rfl dX8_next_364 H
  · have H := H.2 c1
    refine mx_aload_n dX8_look_8 rfl rfl ?_
    refine mx_get 8 43 (ref := "PrairiePoolModel") cl_8 (Nat.le_of_ble_eq_true rfl) (Or.inl q1670) (Or.inl rfl) dX8_look_9 (fv_8_43 _ _) (ly8_k La0_h) ?_
    refine mx_tr (ly8_R_0_43 La0_h) ?_
    refine mx_iload_n dX8_look_12 rfl rfl ?_
    obtain ⟨k3, H⟩ := H
    refine my_bald dX8_look_13 rfl (ly8_A_35 La0_h k3) ?_
    refine mx_sipush dX8_look_14 is_255 ?_
    refine mx_iand dX8_look_17 ?_
    refine mx_goto (tgt := 22) dX8_look_18 rfl ?_
    refine mx_iretK rfl dX8_look_22 ?_
    refine mx_callS (y' := mi_X8_isLetter) (vs := [iv ((ah_I h (a0 + 35) (ah_I h a0 52).toNatClampNeg) &&& (255 : Int32))]) (st := []) (al' := [some (iv ((ah_I h (a0 + 35) (ah_I h a0 52).toNatClampNeg) &&& (255 : Int32)))]) S_X8_isLetter q2178 dX8_next_117 rfl rfl (Nat.le_of_ble_eq_true rfl) (Nat.le_of_ble_eq_true rfl) ?_
    refine mx_iload_n dX8_isLetter_0 rfl rfl ?_
    refine mx_bipush dX8_isLetter_1 ib_97 ?_
    refine mx_icmp_lt (tgt := 16) dX8_isLetter_3 rfl (fun c4 => ?_) (fun c4 => ?_)
    · have H := H.1 c4
      refine mx_iconst dX8_isLetter_16 ic_0 ?_
      refine mx_zretK rfl dX8_isLetter_17 (Or.inl rfl) ?_
      refine mx_if_eq (tgt := 182) dX8_next_120 rfl (fun _ => ?_) (fun _ => absurd ‹_› (by decide))
      refine mx_aload_n dX8_next_182 rfl rfl ?_
      refine mx_aload_n dX8_next_183 rfl rfl ?_
      refine mx_get 8 52 (ref := "PrairiePoolModel") cl_8 (Nat.le_of_ble_eq_true rfl) (Or.inl q1679) (Or.inl rfl) dX8_next_184 (fv_8_52 _ _) (ly8_k La0_h) ?_
      refine mx_aload_n dX8_next_187 rfl rfl ?_
      refine mx_get 8 51 (ref := "PrairiePoolModel") cl_8 (Nat.le_of_ble_eq_true rfl) (Or.inl q1678) (Or.inl rfl) dX8_next_188 (fv_8_51 _ _) (ly8_k La0_h) ?_
      refine mx_isub dX8_next_191 ?_
      refine mx_putI 8 54 (ref := "PrairiePoolModel") cl_8 (Nat.le_of_ble_eq_true rfl) (Or.inl q1681) (Or.inl rfl) dX8_next_192 (Or.inl rfl) rfl (ly8_k La0_h) ?_
      refine mx_nmI  (fun h5 eh5 Xh5 Kh5 Lh5 => ?_)
      have H := H h5 eh5 Xh5
      have La0_h5 := La0_h.ext Xh5
      refine mx_goto (tgt := 364) dX8_next_195 rfl ?_
      exact mx_vret rfl dX8_next_364 H
    · have H := H.2 c4
      refine mx_iload_n dX8_isLetter_6 rfl rfl ?_
      refine mx_bipush dX8_isLetter_7 ib_122 ?_
      refine mx_icmp_gt (tgt := 16) dX8_isLetter_9 rfl (fun c6 => ?_) (fun c6 => ?_)
      · have H := H.1 c6
        refine mx_iconst dX8_isLetter_16 ic_0 ?_
        refine mx_zretK rfl dX8_isLetter_17 (Or.inl rfl) ?_
        refine mx_if_eq (tgt := 182) dX8_next_120 rfl (fun _ => ?_) (fun _ => absurd ‹_› (by decide))
        refine mx_aload_n dX8_next_182 rfl rfl ?_
        refine mx_aload_n dX8_next_183 rfl rfl ?_
        refine mx_get 8 52 (ref := "PrairiePoolModel") cl_8 (Nat.le_of_ble_eq_true rfl) (Or.inl q1679) (Or.inl rfl) dX8_next_184 (fv_8_52 _ _) (ly8_k La0_h) ?_
        refine mx_aload_n dX8_next_187 rfl rfl ?_
        refine mx_get 8 51 (ref := "PrairiePoolModel") cl_8 (Nat.le_of_ble_eq_true rfl) (Or.inl q1678) (Or.inl rfl) dX8_next_188 (fv_8_51 _ _) (ly8_k La0_h) ?_
        refine mx_isub dX8_next_191 ?_
        refine mx_putI 8 54 (ref := "PrairiePoolModel") cl_8 (Nat.le_of_ble_eq_true rfl) (Or.inl q1681) (Or.inl rfl) dX8_next_192 (Or.inl rfl) rfl (ly8_k La0_h) ?_
        refine mx_nmI  (fun h7 eh7 Xh7 Kh7 Lh7 => ?_)
        have H := H h7 eh7 Xh7
        have La0_h7 := La0_h.ext Xh7
        refine mx_goto (tgt := 364) dX8_next_195 rfl ?_
        exact mx_vret rfl dX8_next_364 H
      · have H := H.2 c6
        refine mx_iconst dX8_isLetter_12 ic_1 ?_
        refine mx_goto (tgt := 17) dX8_isLetter_13 rfl ?_
        refine mx_zretK rfl dX8_isLetter_17 (Or.inr rfl) ?_
        refine mx_if_eq (tgt := 182) dX8_next_120 rfl (fun _ => absurd ‹_› (by decide)) (fun _ => ?_)
        refine mx_aload_n dX8_next_123 rfl rfl ?_
        refine mx_aload_n dX8_next_124 rfl rfl ?_
        refine mx_get 8 52 (ref := "PrairiePoolModel") cl_8 (Nat.le_of_ble_eq_true rfl) (Or.inl q1679) (Or.inl rfl) dX8_next_125 (fv_8_52 _ _) (ly8_k La0_h) ?_
        refine mx_aload_n dX8_next_128 rfl rfl ?_
        refine mx_get 8 51 (ref := "PrairiePoolModel") cl_8 (Nat.le_of_ble_eq_true rfl) (Or.inl q1678) (Or.inl rfl) dX8_next_129 (fv_8_51 _ _) (ly8_k La0_h) ?_
        refine mx_isub dX8_next_132 ?_
        refine mx_bipush dX8_next_133 ib_12 ?_
        refine mx_icmp_ge (tgt := 163) dX8_next_135 rfl (fun c8 => ?_) (fun c8 => ?_)
        · have H := H.1 c8
          refine mx_ldc2 q1986 dX8_next_163 ?_
          refine mx_putJ 8 55 (ref := "PrairiePoolModel") cl_8 (Nat.le_of_ble_eq_true rfl) (Or.inl q1682) (Or.inl rfl) dX8_next_166 (Or.inl rfl) rfl (ly8_k La0_h) ?_
          refine mx_nmJ  (fun h9 eh9 Xh9 Kh9 Lh9 => ?_)
          have H := H h9 eh9 Xh9
          have La0_h9 := La0_h.ext Xh9
          refine mx_aload_n dX8_next_169 rfl rfl ?_
          refine mx_dup_r dX8_next_170 ?_
          refine mx_get 8 52 (ref := "PrairiePoolModel") cl_8 (Nat.le_of_ble_eq_true rfl) (Or.inl q1679) (Or.inl rfl) dX8_next_171 (fv_8_52 _ _) (ly8_k La0_h9) ?_
          refine mx_ti (ah_IJ eh9) ?_
          refine mx_iconst dX8_next_174 ic_1 ?_
          refine mx_iadd dX8_next_175 ?_
          refine mx_putI 8 52 (ref := "PrairiePoolModel") cl_8 (Nat.le_of_ble_eq_true rfl) (Or.inl q1679) (Or.inl rfl) dX8_next_176 (Or.inl rfl) rfl (ly8_k La0_h9) ?_
          refine mx_nmI  (fun h10 eh10 Xh10 Kh10 Lh10 => ?_)
          have H := H h10 eh10 Xh10
          have Kh10 := Kh10.trans Kh9
          have Lh10 := Lh10.trans Lh9
          have La0_h10 := La0_h9.ext Xh10
          refine mx_goto (tgt := 109) dX8_next_179 rfl ?_
          exact mx_weak (al' := [some (rv a0), none]) ⟨rfl, trivial⟩ H
        · have H := H.2 c8
          refine mx_aload_n dX8_next_138 rfl rfl ?_
          refine mx_get 8 55 (ref := "PrairiePoolModel") cl_8 (Nat.le_of_ble_eq_true rfl) (Or.inl q1682) (Or.inl rfl) dX8_next_139 (fv_8_55 _ _) (ly8_k La0_h) ?_
          refine mx_ldc2 q2079 dX8_next_142 ?_
          refine mx_lmul dX8_next_145 ?_
          refine mx_aload_n dX8_next_146 rfl rfl ?_
          refine mx_aload_n dX8_next_147 rfl rfl ?_
          refine mx_get 8 52 (ref := "PrairiePoolModel") cl_8 (Nat.le_of_ble_eq_true rfl) (Or.inl q1679) (Or.inl rfl) dX8_next_148 (fv_8_52 _ _) (ly8_k La0_h) ?_
          refine mx_callV 8 (y' := mi_X8_look) (vs := [iv (ah_I h a0 52)]) (st := [jv ((ah_J h a0 55) * (32 : Int64)), rv a0]) (al' := [some (rv a0), some (iv (ah_I h a0 52))]) cl_8 V_X8_look (Or.inl q2174) dX8_next_151 rfl rfl (Nat.le_of_ble_eq_true rfl) (Nat.le_of_ble_eq_true rfl) (ly8_k La0_h) ?_
          refine mx_iload_n dX8_look_0 rfl rfl ?_
          refine mx_aload_n dX8_look_1 rfl rfl ?_
          refine mx_get 8 45 (ref := "PrairiePoolModel") cl_8 (Nat.le_of_ble_eq_true rfl) (Or.inl q1672) (Or.inl rfl) dX8_look_2 (fv_8_45 _ _) (ly8_k La0_h) ?_
          refine mx_icmp_ge (tgt := 21) dX8_look_5 rfl (fun q_ => absurd q_ c1) (fun _ => ?_)
          refine mx_aload_n dX8_look_8 rfl rfl ?_
          refine mx_get 8 43 (ref := "PrairiePoolModel") cl_8 (Nat.le_of_ble_eq_true rfl) (Or.inl q1670) (Or.inl rfl) dX8_look_9 (fv_8_43 _ _) (ly8_k La0_h) ?_
          refine mx_tr (ly8_R_0_43 La0_h) ?_
          refine mx_iload_n dX8_look_12 rfl rfl ?_
          refine my_bald dX8_look_13 rfl (ly8_A_35 La0_h k3) ?_
          refine mx_sipush dX8_look_14 is_255 ?_
          refine mx_iand dX8_look_17 ?_
          refine mx_goto (tgt := 22) dX8_look_18 rfl ?_
          refine mx_iretK rfl dX8_look_22 ?_
          refine mx_i2l dX8_next_154 ?_
          refine mx_ladd dX8_next_155 ?_
          refine mx_ldc2 q2078 dX8_next_156 ?_
          refine mx_lsub dX8_next_159 ?_
          refine mx_goto (tgt := 166) dX8_next_160 rfl ?_
          refine mx_putJ 8 55 (ref := "PrairiePoolModel") cl_8 (Nat.le_of_ble_eq_true rfl) (Or.inl q1682) (Or.inl rfl) dX8_next_166 (Or.inl rfl) rfl (ly8_k La0_h) ?_
          refine mx_nmJ  (fun h11 eh11 Xh11 Kh11 Lh11 => ?_)
          have H := H h11 eh11 Xh11
          have La0_h11 := La0_h.ext Xh11
          refine mx_aload_n dX8_next_169 rfl rfl ?_
          refine mx_dup_r dX8_next_170 ?_
          refine mx_get 8 52 (ref := "PrairiePoolModel") cl_8 (Nat.le_of_ble_eq_true rfl) (Or.inl q1679) (Or.inl rfl) dX8_next_171 (fv_8_52 _ _) (ly8_k La0_h11) ?_
          refine mx_ti (ah_IJ eh11) ?_
          refine mx_iconst dX8_next_174 ic_1 ?_
          refine mx_iadd dX8_next_175 ?_
          refine mx_putI 8 52 (ref := "PrairiePoolModel") cl_8 (Nat.le_of_ble_eq_true rfl) (Or.inl q1679) (Or.inl rfl) dX8_next_176 (Or.inl rfl) rfl (ly8_k La0_h11) ?_
          refine mx_nmI  (fun h12 eh12 Xh12 Kh12 Lh12 => ?_)
          have H := H h12 eh12 Xh12
          have Kh12 := Kh12.trans Kh11
          have Lh12 := Lh12.trans Lh11
          have La0_h12 := La0_h11.ext Xh12
          refine mx_goto (tgt := 109) dX8_next_179 rfl ?_
          exact mx_weak (al' := [some (rv a0), none]) ⟨rfl, trivial⟩ H
theorem v_X8_look {G : ma_G} {d : Nat} {a0 : Nat} {x1 : Int32} {h : ah_T} {Q : Option ma_V → ah_T → Prop} {E : Nat → ah_T → Prop} (La0_h : LY8 h a0) (H : ((ah_I h a0 45) ≤ x1 → Q (some (iv (0 : Int32))) h) ∧ (¬ (ah_I h a0 45) ≤ x1 → vp_in x1 500 ∧ Q (some (iv ((ah_I h (a0 + 35) x1.toNatClampNeg) &&& (255 : Int32)))) h)) : MX G mi_X8_look d 0 [some (rv a0), some (iv x1)] [] h Q E := by
  refine mx_iload_n dX8_look_0 rfl rfl ?_
  refine mx_aload_n dX8_look_1 rfl rfl ?_
  refine mx_get 8 45 (ref := "PrairiePoolModel") cl_8 (Nat.le_of_ble_eq_true rfl) (Or.inl q1672) (Or.inl rfl) dX8_look_2 (fv_8_45 _ _) (ly8_k La0_h) ?_
  refine mx_icmp_ge (tgt := 21) dX8_look_5 rfl (fun c1 => ?_) (fun c1 => ?_)
  · have H := H.1 c1
    refine mx_iconst dX8_look_21 ic_0 ?_
    exact mx_iret rfl dX8_look_22 H
  · have H := H.2 c1
    refine mx_aload_n dX8_look_8 rfl rfl ?_
    refine mx_get 8 43 (ref := "PrairiePoolModel") cl_8 (Nat.le_of_ble_eq_true rfl) (Or.inl q1670) (Or.inl rfl) dX8_look_9 (fv_8_43 _ _) (ly8_k La0_h) ?_
    refine mx_tr (ly8_R_0_43 La0_h) ?_
    refine mx_iload_n dX8_look_12 rfl rfl ?_
    obtain ⟨k2, H⟩ := H
    refine my_bald dX8_look_13 rfl (ly8_A_35 La0_h k2) ?_
    refine mx_sipush dX8_look_14 is_255 ?_
    refine mx_iand dX8_look_17 ?_
    refine mx_goto (tgt := 22) dX8_look_18 rfl ?_
    exact mx_iret rfl dX8_look_22 H
theorem v_X8_isLetter {G : ma_G} {d : Nat} {x0 : Int32} {h : ah_T} {Q : Option ma_V → ah_T → Prop} {E : Nat → ah_T → Prop}  (H : (x0 < (97 : Int32) → Q (some (iv (0 : Int32))) h) ∧ (¬ x0 < (97 : Int32) → ((122 : Int32) < x0 → Q (some (iv (0 : Int32))) h) ∧ (¬ (122 : Int32) < x0 → Q (some (iv (1 : Int32))) h))) : MX G mi_X8_isLetter d 0 [some (iv x0)] [] h Q E := by
  refine mx_iload_n dX8_isLetter_0 rfl rfl ?_
  refine mx_bipush dX8_isLetter_1 ib_97 ?_
  refine mx_icmp_lt (tgt := 16) dX8_isLetter_3 rfl (fun c1 => ?_) (fun c1 => ?_)
  · have H := H.1 c1
    refine mx_iconst dX8_isLetter_16 ic_0 ?_
    exact mx_zret rfl dX8_isLetter_17 (Or.inl rfl) H
  · have H := H.2 c1
    refine mx_iload_n dX8_isLetter_6 rfl rfl ?_
    refine mx_bipush dX8_isLetter_7 ib_122 ?_
    refine mx_icmp_gt (tgt := 16) dX8_isLetter_9 rfl (fun c2 => ?_) (fun c2 => ?_)
    · have H := H.1 c2
      refine mx_iconst dX8_isLetter_16 ic_0 ?_
      exact mx_zret rfl dX8_isLetter_17 (Or.inl rfl) H
    · have H := H.2 c2
      refine mx_iconst dX8_isLetter_12 ic_1 ?_
      refine mx_goto (tgt := 17) dX8_isLetter_13 rfl ?_
      exact mx_zret rfl dX8_isLetter_17 (Or.inr rfl) H
theorem v_X8_isDigit {G : ma_G} {d : Nat} {x0 : Int32} {h : ah_T} {Q : Option ma_V → ah_T → Prop} {E : Nat → ah_T → Prop}  (H : (x0 < (48 : Int32) → Q (some (iv (0 : Int32))) h) ∧ (¬ x0 < (48 : Int32) → ((57 : Int32) < x0 → Q (some (iv (0 : Int32))) h) ∧ (¬ (57 : Int32) < x0 → Q (some (iv (1 : Int32))) h))) : MX G mi_X8_isDigit d 0 [some (iv x0)] [] h Q E := by
  refine mx_iload_n dX8_isDigit_0 rfl rfl ?_
  refine mx_bipush dX8_isDigit_1 ib_48 ?_
  refine mx_icmp_lt (tgt := 16) dX8_isDigit_3 rfl (fun c1 => ?_) (fun c1 => ?_)
  · have H := H.1 c1
    refine mx_iconst dX8_isDigit_16 ic_0 ?_
    exact mx_zret rfl dX8_isDigit_17 (Or.inl rfl) H
  · have H := H.2 c1
    refine mx_iload_n dX8_isDigit_6 rfl rfl ?_
    refine mx_bipush dX8_isDigit_7 ib_57 ?_
    refine mx_icmp_gt (tgt := 16) dX8_isDigit_9 rfl (fun c2 => ?_) (fun c2 => ?_)
    · have H := H.1 c2
      refine mx_iconst dX8_isDigit_16 ic_0 ?_
      exact mx_zret rfl dX8_isDigit_17 (Or.inl rfl) H
    · have H := H.2 c2
      refine mx_iconst dX8_isDigit_12 ic_1 ?_
      refine mx_goto (tgt := 17) dX8_isDigit_13 rfl ?_
      exact mx_zret rfl dX8_isDigit_17 (Or.inr rfl) H
theorem dX8_readDef_0 : decode mi_X8_readDef.2.1 0 = .ok (.aload_n 0, 1) := by decide +kernel
theorem dX8_readDef_1 : decode mi_X8_readDef.2.1 1 = .ok (.getfield 422, 3) := by decide +kernel
theorem dX8_readDef_4 : decode mi_X8_readDef.2.1 4 = .ok (.iconst 1, 1) := by decide +kernel
theorem dX8_readDef_5 : decode mi_X8_readDef.2.1 5 = .ok (.if_icmp .ne 26, 3) := by decide +kernel
theorem dX8_readDef_8 : decode mi_X8_readDef.2.1 8 = .ok (.aload_n 0, 1) := by decide +kernel
theorem dX8_readDef_9 : decode mi_X8_readDef.2.1 9 = .ok (.getfield 436, 3) := by decide +kernel
theorem dX8_readDef_12 : decode mi_X8_readDef.2.1 12 = .ok (.bipush 8, 2) := by decide +kernel
theorem dX8_readDef_14 : decode mi_X8_readDef.2.1 14 = .ok (.if_icmp .gt 17, 3) := by decide +kernel
theorem dX8_readDef_17 : decode mi_X8_readDef.2.1 17 = .ok (.aload_n 0, 1) := by decide +kernel
theorem dX8_readDef_18 : decode mi_X8_readDef.2.1 18 = .ok (.invokevirtual 546, 3) := by decide +kernel
theorem dX8_readDef_21 : decode mi_X8_readDef.2.1 21 = .ok (.ifCond .ge 10, 3) := by decide +kernel
theorem dX8_readDef_24 : decode mi_X8_readDef.2.1 24 = .ok (.aload_n 0, 1) := by decide +kernel
theorem dX8_readDef_25 : decode mi_X8_readDef.2.1 25 = .ok (.invokevirtual 510, 3) := by decide +kernel
theorem dX8_readDef_28 : decode mi_X8_readDef.2.1 28 = .ok (.ifCond .eq 8, 3) := by decide +kernel
theorem dX8_readDef_31 : decode mi_X8_readDef.2.1 31 = .ok (.aload_n 0, 1) := by decide +kernel
theorem dX8_readDef_32 : decode mi_X8_readDef.2.1 32 = .ok (.invokevirtual 516, 3) := by decide +kernel
theorem dX8_readDef_35 : decode mi_X8_readDef.2.1 35 = .ok (.return_, 1) := by decide +kernel
theorem dX8_readDef_36 : decode mi_X8_readDef.2.1 36 = .ok (.aload_n 0, 1) := by decide +kernel
theorem dX8_readDef_37 : decode mi_X8_readDef.2.1 37 = .ok (.getfield 497, 3) := by decide +kernel
theorem dX8_readDef_40 : decode mi_X8_readDef.2.1 40 = .ok (.bipush 10, 2) := by decide +kernel
theorem dX8_readDef_42 : decode mi_X8_readDef.2.1 42 = .ok (.if_icmp .ne 12, 3) := by decide +kernel
theorem dX8_readDef_45 : decode mi_X8_readDef.2.1 45 = .ok (.aload_n 0, 1) := by decide +kernel
theorem dX8_readDef_46 : decode mi_X8_readDef.2.1 46 = .ok (.iconst 3, 1) := by decide +kernel
theorem dX8_readDef_47 : decode mi_X8_readDef.2.1 47 = .ok (.aload_n 0, 1) := by decide +kernel
theorem dX8_readDef_48 : decode mi_X8_readDef.2.1 48 = .ok (.getfield 416, 3) := by decide +kernel
theorem dX8_readDef_51 : decode mi_X8_readDef.2.1 51 = .ok (.invokevirtual 459, 3) := by decide +kernel
theorem dX8_readDef_54 : decode mi_X8_readDef.2.1 54 = .ok (.aload_n 0, 1) := by decide +kernel
theorem dX8_readDef_55 : decode mi_X8_readDef.2.1 55 = .ok (.invokevirtual 550, 3) := by decide +kernel
theorem dX8_readDef_58 : decode mi_X8_readDef.2.1 58 = .ok (.ifCond .lt 12, 3) := by decide +kernel
theorem dX8_readDef_61 : decode mi_X8_readDef.2.1 61 = .ok (.aload_n 0, 1) := by decide +kernel
theorem dX8_readDef_62 : decode mi_X8_readDef.2.1 62 = .ok (.iconst 4, 1) := by decide +kernel
theorem dX8_readDef_63 : decode mi_X8_readDef.2.1 63 = .ok (.aload_n 0, 1) := by decide +kernel
theorem dX8_readDef_64 : decode mi_X8_readDef.2.1 64 = .ok (.getfield 416, 3) := by decide +kernel
theorem dX8_readDef_67 : decode mi_X8_readDef.2.1 67 = .ok (.invokevirtual 459, 3) := by decide +kernel
theorem dX8_readDef_70 : decode mi_X8_readDef.2.1 70 = .ok (.aload_n 0, 1) := by decide +kernel
theorem dX8_readDef_71 : decode mi_X8_readDef.2.1 71 = .ok (.getfield 453, 3) := by decide +kernel
theorem dX8_readDef_74 : decode mi_X8_readDef.2.1 74 = .ok (.ifCond .le 4, 3) := by decide +kernel
theorem dX8_readDef_77 : decode mi_X8_readDef.2.1 77 = .ok (.return_, 1) := by decide +kernel
theorem dX8_readDef_78 : decode mi_X8_readDef.2.1 78 = .ok (.aload_n 0, 1) := by decide +kernel
theorem dX8_readDef_79 : decode mi_X8_readDef.2.1 79 = .ok (.getfield 428, 3) := by decide +kernel
theorem dX8_readDef_82 : decode mi_X8_readDef.2.1 82 = .ok (.lstore_n 1, 1) := by decide +kernel
theorem dX8_readDef_83 : decode mi_X8_readDef.2.1 83 = .ok (.aload_n 0, 1) := by decide +kernel
theorem dX8_readDef_84 : decode mi_X8_readDef.2.1 84 = .ok (.invokevirtual 522, 3) := by decide +kernel
theorem dX8_readDef_87 : decode mi_X8_readDef.2.1 87 = .ok (.aload_n 0, 1) := by decide +kernel
theorem dX8_readDef_88 : decode mi_X8_readDef.2.1 88 = .ok (.bipush 58, 2) := by decide +kernel
theorem dX8_readDef_90 : decode mi_X8_readDef.2.1 90 = .ok (.invokevirtual 507, 3) := by decide +kernel
theorem dX8_readDef_93 : decode mi_X8_readDef.2.1 93 = .ok (.ifCond .ne 8, 3) := by decide +kernel
theorem dX8_readDef_96 : decode mi_X8_readDef.2.1 96 = .ok (.aload_n 0, 1) := by decide +kernel
theorem dX8_readDef_97 : decode mi_X8_readDef.2.1 97 = .ok (.invokevirtual 516, 3) := by decide +kernel
theorem dX8_readDef_100 : decode mi_X8_readDef.2.1 100 = .ok (.return_, 1) := by decide +kernel
theorem dX8_readDef_101 : decode mi_X8_readDef.2.1 101 = .ok (.aload_n 0, 1) := by decide +kernel
theorem dX8_readDef_102 : decode mi_X8_readDef.2.1 102 = .ok (.invokevirtual 522, 3) := by decide +kernel
theorem dX8_readDef_105 : decode mi_X8_readDef.2.1 105 = .ok (.aload_n 0, 1) := by decide +kernel
theorem dX8_readDef_106 : decode mi_X8_readDef.2.1 106 = .ok (.iconst 1, 1) := by decide +kernel
theorem dX8_readDef_107 : decode mi_X8_readDef.2.1 107 = .ok (.invokevirtual 531, 3) := by decide +kernel
theorem dX8_readDef_110 : decode mi_X8_readDef.2.1 110 = .ok (.aload_n 0, 1) := by decide +kernel
theorem dX8_readDef_111 : decode mi_X8_readDef.2.1 111 = .ok (.getfield 453, 3) := by decide +kernel
theorem dX8_readDef_114 : decode mi_X8_readDef.2.1 114 = .ok (.ifCond .ne 16, 3) := by decide +kernel
theorem dX8_readDef_117 : decode mi_X8_readDef.2.1 117 = .ok (.aload_n 0, 1) := by decide +kernel
theorem dX8_readDef_118 : decode mi_X8_readDef.2.1 118 = .ok (.bipush 59, 2) := by decide +kernel
theorem dX8_readDef_120 : decode mi_X8_readDef.2.1 120 = .ok (.invokevirtual 507, 3) := by decide +kernel
theorem dX8_readDef_123 : decode mi_X8_readDef.2.1 123 = .ok (.ifCond .ne 7, 3) := by decide +kernel
theorem dX8_readDef_126 : decode mi_X8_readDef.2.1 126 = .ok (.aload_n 0, 1) := by decide +kernel
theorem dX8_readDef_127 : decode mi_X8_readDef.2.1 127 = .ok (.invokevirtual 516, 3) := by decide +kernel
theorem dX8_readDef_130 : decode mi_X8_readDef.2.1 130 = .ok (.aload_n 0, 1) := by decide +kernel
theorem dX8_readDef_131 : decode mi_X8_readDef.2.1 131 = .ok (.getfield 453, 3) := by decide +kernel
theorem dX8_readDef_134 : decode mi_X8_readDef.2.1 134 = .ok (.ifCond .le 4, 3) := by decide +kernel
theorem dX8_readDef_137 : decode mi_X8_readDef.2.1 137 = .ok (.return_, 1) := by decide +kernel
theorem dX8_readDef_138 : decode mi_X8_readDef.2.1 138 = .ok (.aload_n 0, 1) := by decide +kernel
theorem dX8_readDef_139 : decode mi_X8_readDef.2.1 139 = .ok (.invokevirtual 522, 3) := by decide +kernel
theorem dX8_readDef_142 : decode mi_X8_readDef.2.1 142 = .ok (.aload_n 0, 1) := by decide +kernel
theorem dX8_readDef_143 : decode mi_X8_readDef.2.1 143 = .ok (.getfield 145, 3) := by decide +kernel
theorem dX8_readDef_146 : decode mi_X8_readDef.2.1 146 = .ok (.aload_n 0, 1) := by decide +kernel
theorem dX8_readDef_147 : decode mi_X8_readDef.2.1 147 = .ok (.getfield 497, 3) := by decide +kernel
theorem dX8_readDef_150 : decode mi_X8_readDef.2.1 150 = .ok (.lload_n 1, 1) := by decide +kernel
theorem dX8_readDef_151 : decode mi_X8_readDef.2.1 151 = .ok (.lastore, 1) := by decide +kernel
theorem dX8_readDef_152 : decode mi_X8_readDef.2.1 152 = .ok (.aload_n 0, 1) := by decide +kernel
theorem dX8_readDef_153 : decode mi_X8_readDef.2.1 153 = .ok (.dup, 1) := by decide +kernel
theorem dX8_readDef_154 : decode mi_X8_readDef.2.1 154 = .ok (.getfield 497, 3) := by decide +kernel
theorem dX8_readDef_157 : decode mi_X8_readDef.2.1 157 = .ok (.iconst 1, 1) := by decide +kernel
theorem dX8_readDef_158 : decode mi_X8_readDef.2.1 158 = .ok (.iadd, 1) := by decide +kernel
theorem dX8_readDef_159 : decode mi_X8_readDef.2.1 159 = .ok (.putfield 497, 3) := by decide +kernel
theorem dX8_readDef_162 : decode mi_X8_readDef.2.1 162 = .ok (.aload_n 0, 1) := by decide +kernel
theorem dX8_readDef_163 : decode mi_X8_readDef.2.1 163 = .ok (.getfield 136, 3) := by decide +kernel
theorem dX8_readDef_166 : decode mi_X8_readDef.2.1 166 = .ok (.aload_n 0, 1) := by decide +kernel
theorem dX8_readDef_167 : decode mi_X8_readDef.2.1 167 = .ok (.getfield 497, 3) := by decide +kernel
theorem dX8_readDef_170 : decode mi_X8_readDef.2.1 170 = .ok (.aload_n 0, 1) := by decide +kernel
theorem dX8_readDef_171 : decode mi_X8_readDef.2.1 171 = .ok (.getfield 500, 3) := by decide +kernel
theorem dX8_readDef_174 : decode mi_X8_readDef.2.1 174 = .ok (.iastore, 1) := by decide +kernel
theorem dX8_readDef_175 : decode mi_X8_readDef.2.1 175 = .ok (.return_, 1) := by decide +kernel
theorem v_X8_readDef {G : ma_G} {d : Nat} {a0 : Nat} {h : ah_T} {Q : Option ma_V → ah_T → Prop} {E : Nat → ah_T → Prop} (La0_h : LY8 h a0) (H : (¬ (ah_I h a0 50) = (1 : Int32) → (¬ (ah_I h a0 50) = (4 : Int32) → ((ah_I h a0 48) ≤ 0 → ∀ h4 : ah_T, h4 = ah_wI h a0 48 (2 : Int32) → ah_ext h h4 → ∀ h5 : ah_T, h5 = ah_wI h4 a0 49 (ah_I h a0 51) → ah_ext h4 h5 → Q none h5) ∧ (¬ (ah_I h a0 48) ≤ 0 → Q none h)) ∧ ((ah_I h a0 50) = (4 : Int32) → ((ah_I h a0 48) ≤ 0 → ∀ h7 : ah_T, h7 = ah_wI h a0 48 (1 : Int32) → ah_ext h h7 → ∀ h8 : ah_T, h8 = ah_wI h7 a0 49 (ah_I h a0 51) → ah_ext h7 h8 → Q none h8) ∧ (¬ (ah_I h a0 48) ≤ 0 → Q none h))) ∧ ((ah_I h a0 50) = (1 : Int32) → ((8 : Int32) < (ah_I h a0 54) → (¬ (ah_I h a0 50) = (4 : Int32) → ((ah_I h a0 48) ≤ 0 → ∀ h12 : ah_T, h12 = ah_wI h a0 48 (2 : Int32) → ah_ext h h12 → ∀ h13 : ah_T, h13 = ah_wI h12 a0 49 (ah_I h a0 51) → ah_ext h12 h13 → Q none h13) ∧ (¬ (ah_I h a0 48) ≤ 0 → Q none h)) ∧ ((ah_I h a0 50) = (4 : Int32) → ((ah_I h a0 48) ≤ 0 → ∀ h15 : ah_T, h15 = ah_wI h a0 48 (1 : Int32) → ah_ext h h15 → ∀ h16 : ah_T, h16 = ah_wI h15 a0 49 (ah_I h a0 51) → ah_ext h15 h16 → Q none h16) ∧ (¬ (ah_I h a0 48) ≤ 0 → Q none h))) ∧ (¬ (8 : Int32) < (ah_I h a0 54) → MX G mi_X8_variable (d + 1) 0 [some (rv a0)] [] h (Qi fun r18 h17 => ah_ext h h17 → (0 ≤ r18 → (¬ (ah_I h17 a0 50) = (4 : Int32) → ((ah_I h17 a0 48) ≤ 0 → ∀ h22 : ah_T, h22 = ah_wI h17 a0 48 (2 : Int32) → ah_ext h17 h22 → ∀ h23 : ah_T, h23 = ah_wI h22 a0 49 (ah_I h17 a0 51) → ah_ext h22 h23 → Q none h23) ∧ (¬ (ah_I h17 a0 48) ≤ 0 → Q none h17)) ∧ ((ah_I h17 a0 50) = (4 : Int32) → ((ah_I h17 a0 48) ≤ 0 → ∀ h25 : ah_T, h25 = ah_wI h17 a0 48 (1 : Int32) → ah_ext h17 h25 → ∀ h26 : ah_T, h26 = ah_wI h25 a0 49 (ah_I h17 a0 51) → ah_ext h25 h26 → Q none h26) ∧ (¬ (ah_I h17 a0 48) ≤ 0 → Q none h17))) ∧ (¬ 0 ≤ r18 → MX G mi_X8_isKept (d + 1) 0 [some (rv a0)] [] h17 (Qi fun r28 h27 => ah_ext h17 h27 → (r28 = 0 → (¬ (ah_I h27 a0 57) = (10 : Int32) → MX G mi_X8_named (d + 1) 0 [some (rv a0), none] [] h27 (Qi fun r32 h31 => ah_ext h27 h31 → (r32 < 0 → MX G mi_X8_readDef (d + 2) 70 [some (rv a0), none, none] [] h31 Q E) ∧ (¬ r32 < 0 → ((ah_I h31 a0 48) ≤ 0 → ∀ h35 : ah_T, h35 = ah_wI h31 a0 48 (4 : Int32) → ah_ext h31 h35 → ∀ h36 : ah_T, h36 = ah_wI h35 a0 49 (ah_I h31 a0 51) → ah_ext h35 h36 → MX G mi_X8_readDef (d + 2) 70 [some (rv a0), none, none] [] h36 Q E) ∧ (¬ (ah_I h31 a0 48) ≤ 0 → MX G mi_X8_readDef (d + 2) 70 [some (rv a0), none, none] [] h31 Q E))) E) ∧ ((ah_I h27 a0 57) = (10 : Int32) → ((ah_I h27 a0 48) ≤ 0 → ∀ h38 : ah_T, h38 = ah_wI h27 a0 48 (3 : Int32) → ah_ext h27 h38 → ∀ h39 : ah_T, h39 = ah_wI h38 a0 49 (ah_I h27 a0 51) → ah_ext h38 h39 → MX G mi_X8_named (d + 1) 0 [some (rv a0), none] [] h39 (Qi fun r41 h40 => ah_ext h39 h40 → (r41 < 0 → MX G mi_X8_readDef (d + 2) 70 [some (rv a0), none, none] [] h40 Q E) ∧ (¬ r41 < 0 → ((ah_I h40 a0 48) ≤ 0 → ∀ h44 : ah_T, h44 = ah_wI h40 a0 48 (4 : Int32) → ah_ext h40 h44 → ∀ h45 : ah_T, h45 = ah_wI h44 a0 49 (ah_I h40 a0 51) → ah_ext h44 h45 → MX G mi_X8_readDef (d + 2) 70 [some (rv a0), none, none] [] h45 Q E) ∧ (¬ (ah_I h40 a0 48) ≤ 0 → MX G mi_X8_readDef (d + 2) 70 [some (rv a0), none, none] [] h40 Q E))) E) ∧ (¬ (ah_I h27 a0 48) ≤ 0 → MX G mi_X8_named (d + 1) 0 [some (rv a0), none] [] h27 (Qi fun r47 h46 => ah_ext h27 h46 → (r47 < 0 → MX G mi_X8_readDef (d + 2) 70 [some (rv a0), none, none] [] h46 Q E) ∧ (¬ r47 < 0 → ((ah_I h46 a0 48) ≤ 0 → ∀ h50 : ah_T, h50 = ah_wI h46 a0 48 (4 : Int32) → ah_ext h46 h50 → ∀ h51 : ah_T, h51 = ah_wI h50 a0 49 (ah_I h46 a0 51) → ah_ext h50 h51 → MX G mi_X8_readDef (d + 2) 70 [some (rv a0), none, none] [] h51 Q E) ∧ (¬ (ah_I h46 a0 48) ≤ 0 → MX G mi_X8_readDef (d + 2) 70 [some (rv a0), none, none] [] h46 Q E))) E))) ∧ (¬ r28 = 0 → (¬ (ah_I h27 a0 50) = (4 : Int32) → ((ah_I h27 a0 48) ≤ 0 → ∀ h54 : ah_T, h54 = ah_wI h27 a0 48 (2 : Int32) → ah_ext h27 h54 → ∀ h55 : ah_T, h55 = ah_wI h54 a0 49 (ah_I h27 a0 51) → ah_ext h54 h55 → Q none h55) ∧ (¬ (ah_I h27 a0 48) ≤ 0 → Q none h27)) ∧ ((ah_I h27 a0 50) = (4 : Int32) → ((ah_I h27 a0 48) ≤ 0 → ∀ h57 : ah_T, h57 = ah_wI h27 a0 48 (1 : Int32) → ah_ext h27 h57 → ∀ h58 : ah_T, h58 = ah_wI h57 a0 49 (ah_I h27 a0 51) → ah_ext h57 h58 → Q none h58) ∧ (¬ (ah_I h27 a0 48) ≤ 0 → Q none h27)))) E)) E))) : MX G mi_X8_readDef (d + 2) 0 [some (rv a0), none, none] [] h Q E := by
  refine mx_aload_n dX8_readDef_0 rfl rfl ?_
  refine mx_get 8 50 (ref := "PrairiePoolModel") cl_8 (Nat.le_of_ble_eq_true rfl) (Or.inl q1677) (Or.inl rfl) dX8_readDef_1 (fv_8_50 _ _) (ly8_k La0_h) ?_
  refine mx_iconst dX8_readDef_4 ic_1 ?_
  refine mx_icmp_ne (tgt := 31) dX8_readDef_5 rfl (fun c1 => ?_) (fun c1 => ?_)
  · have H := H.1 c1
    refine mx_aload_n dX8_readDef_31 rfl rfl ?_
    refine mx_callV 8 (y' := mi_X8_wrong) (vs := []) (st := []) (al' := [some (rv a0)]) cl_8 V_X8_wrong (Or.inl q2239) dX8_readDef_32 rfl rfl (Nat.le_of_ble_eq_true rfl) (Nat.le_of_ble_eq_true rfl) (ly8_k La0_h) ?_
    refine mx_aload_n dX8_wrong_0 rfl rfl ?_
    refine mx_aload_n dX8_wrong_1 rfl rfl ?_
    refine mx_get 8 50 (ref := "PrairiePoolModel") cl_8 (Nat.le_of_ble_eq_true rfl) (Or.inl q1677) (Or.inl rfl) dX8_wrong_2 (fv_8_50 _ _) (ly8_k La0_h) ?_
    refine mx_iconst dX8_wrong_5 ic_4 ?_
    refine mx_icmp_ne (tgt := 13) dX8_wrong_6 rfl (fun c2 => ?_) (fun c2 => ?_)
    · have H := H.1 c2
      refine mx_iconst dX8_wrong_13 ic_2 ?_
      refine mx_aload_n dX8_wrong_14 rfl rfl ?_
      refine mx_get 8 51 (ref := "PrairiePoolModel") cl_8 (Nat.le_of_ble_eq_true rfl) (Or.inl q1678) (Or.inl rfl) dX8_wrong_15 (fv_8_51 _ _) (ly8_k La0_h) ?_
      refine mx_callV 8 (y' := mi_X8_fail) (vs := [iv (2 : Int32), iv (ah_I h a0 51)]) (st := []) (al' := [some (rv a0), some (iv (2 : Int32)), some (iv (ah_I h a0 51))]) cl_8 V_X8_fail (Or.inl q2243) dX8_wrong_18 rfl rfl (Nat.le_of_ble_eq_true rfl) (Nat.le_of_ble_eq_true rfl) (ly8_k La0_h) ?_
      refine mx_aload_n dX8_fail_0 rfl rfl ?_
      refine mx_get 8 48 (ref := "PrairiePoolModel") cl_8 (Nat.le_of_ble_eq_true rfl) (Or.inl q1675) (Or.inl rfl) dX8_fail_1 (fv_8_48 _ _) (ly8_k La0_h) ?_
      refine mx_if_le (tgt := 8) dX8_fail_4 rfl (fun c3 => ?_) (fun c3 => ?_)
      · have H := H.1 c3
        refine mx_aload_n dX8_fail_8 rfl rfl ?_
        refine mx_iload_n dX8_fail_9 rfl rfl ?_
        refine mx_putI 8 48 (ref := "PrairiePoolModel") cl_8 (Nat.le_of_ble_eq_true rfl) (Or.inl q1675) (Or.inl rfl) dX8_fail_10 (Or.inl rfl) rfl (ly8_k La0_h) ?_
        refine mx_nmI  (fun h4 eh4 Xh4 Kh4 Lh4 => ?_)
        have H := H h4 eh4 Xh4
        have La0_h4 := La0_h.ext Xh4
        refine mx_aload_n dX8_fail_13 rfl rfl ?_
        refine mx_iload_n dX8_fail_14 rfl rfl ?_
        refine mx_putI 8 49 (ref := "PrairiePoolModel") cl_8 (Nat.le_of_ble_eq_true rfl) (Or.inl q1676) (Or.inl rfl) dX8_fail_15 (Or.inl rfl) rfl (ly8_k La0_h4) ?_
        refine mx_nmI  (fun h5 eh5 Xh5 Kh5 Lh5 => ?_)
        have H := H h5 eh5 Xh5
        have Kh5 := Kh5.trans Kh4
        have Lh5 := Lh5.trans Lh4
        have La0_h5 := La0_h4.ext Xh5
        refine mx_vretK rfl dX8_fail_18 ?_
        refine mx_vretK rfl dX8_wrong_21 ?_
        exact mx_vret rfl dX8_readDef_35 H
      · have H := H.2 c3
        refine mx_vretK rfl dX8_fail_7 ?_
        refine mx_vretK rfl dX8_wrong_21 ?_
        exact mx_vret rfl dX8_readDef_35 H
    · have H := H.2 c2
      refine mx_iconst dX8_wrong_9 ic_1 ?_
      refine mx_goto (tgt := 14) dX8_wrong_10 rfl ?_
      refine mx_aload_n dX8_wrong_14 rfl rfl ?_
      refine mx_get 8 51 (ref := "PrairiePoolModel") cl_8 (Nat.le_of_ble_eq_true rfl) (Or.inl q1678) (Or.inl rfl) dX8_wrong_15 (fv_8_51 _ _) (ly8_k La0_h) ?_
      refine mx_callV 8 (y' := mi_X8_fail) (vs := [iv (1 : Int32), iv (ah_I h a0 51)]) (st := []) (al' := [some (rv a0), some (iv (1 : Int32)), some (iv (ah_I h a0 51))]) cl_8 V_X8_fail (Or.inl q2243) dX8_wrong_18 rfl rfl (Nat.le_of_ble_eq_true rfl) (Nat.le_of_ble_eq_true rfl) (ly8_k La0_h) ?_
      refine mx_aload_n dX8_fail_0 rfl rfl ?_
      refine mx_get 8 48 (ref := "PrairiePoolModel") cl_8 (Nat.le_of_ble_eq_true rfl) (Or.inl q1675) (Or.inl rfl) dX8_fail_1 (fv_8_48 _ _) (ly8_k La0_h) ?_
      refine mx_if_le (tgt := 8) dX8_fail_4 rfl (fun c6 => ?_) (fun c6 => ?_)
      · have H := H.1 c6
        refine mx_aload_n dX8_fail_8 rfl rfl ?_
        refine mx_iload_n dX8_fail_9 rfl rfl ?_
        refine mx_putI 8 48 (ref := "PrairiePoolModel") cl_8 (Nat.le_of_ble_eq_true rfl) (Or.inl q1675) (Or.inl rfl) dX8_fail_10 (Or.inl rfl) rfl (ly8_k La0_h) ?_
        refine mx_nmI  (fun h7 eh7 Xh7 Kh7 Lh7 => ?_)
        have H := H h7 eh7 Xh7
        have La0_h7 := La0_h.ext Xh7
        refine mx_aload_n dX8_fail_13 rfl rfl ?_
        refine mx_iload_n dX8_fail_14 rfl rfl ?_
        refine mx_putI 8 49 (ref := "PrairiePoolModel") cl_8 (Nat.le_of_ble_eq_true rfl) (Or.inl q1676) (Or.inl rfl) dX8_fail_15 (Or.inl rfl) rfl (ly8_k La0_h7) ?_
        refine mx_nmI  (fun h8 eh8 Xh8 Kh8 Lh8 => ?_)
        have H := H h8 eh8 Xh8
        have Kh8 := Kh8.trans Kh7
        have Lh8 := Lh8.trans Lh7
        have La0_h8 := La0_h7.ext Xh8
        refine mx_vretK rfl dX8_fail_18 ?_
        refine mx_vretK rfl dX8_wrong_21 ?_
        exact mx_vret rfl dX8_readDef_35 H
      · have H := H.2 c6
        refine mx_vretK rfl dX8_fail_7 ?_
        refine mx_vretK rfl dX8_wrong_21 ?_
        exact mx_vret rfl dX8_readDef_35 H
  · have H := H.2 c1
    refine mx_aload_n dX8_readDef_8 rfl rfl ?_
    refine mx_get 8 54 (ref := "PrairiePoolModel") cl_8 (Nat.le_of_ble_eq_true rfl) (Or.inl q1681) (Or.inl rfl) dX8_readDef_9 (fv_8_54 _ _) (ly8_k La0_h) ?_
    refine mx_bipush dX8_readDef_12 ib_8 ?_
    refine mx_icmp_gt (tgt := 31) dX8_readDef_14 rfl (fun c9 => ?_) (fun c9 => ?_)
    · have H := H.1 c9
      refine mx_aload_n dX8_readDef_31 rfl rfl ?_
      refine mx_callV 8 (y' := mi_X8_wrong) (vs := []) (st := []) (al' := [some (rv a0)]) cl_8 V_X8_wrong (Or.inl q2239) dX8_readDef_32 rfl rfl (Nat.le_of_ble_eq_true rfl) (Nat.le_of_ble_eq_true rfl) (ly8_k La0_h) ?_
      refine mx_aload_n dX8_wrong_0 rfl rfl ?_
      refine mx_aload_n dX8_wrong_1 rfl rfl ?_
      refine mx_get 8 50 (ref := "PrairiePoolModel") cl_8 (Nat.le_of_ble_eq_true rfl) (Or.inl q1677) (Or.inl rfl) dX8_wrong_2 (fv_8_50 _ _) (ly8_k La0_h) ?_
      refine mx_iconst dX8_wrong_5 ic_4 ?_
      refine mx_icmp_ne (tgt := 13) dX8_wrong_6 rfl (fun c10 => ?_) (fun c10 => ?_)
      · have H := H.1 c10
        refine mx_iconst dX8_wrong_13 ic_2 ?_
        refine mx_aload_n dX8_wrong_14 rfl rfl ?_
        refine mx_get 8 51 (ref := "PrairiePoolModel") cl_8 (Nat.le_of_ble_eq_true rfl) (Or.inl q1678) (Or.inl rfl) dX8_wrong_15 (fv_8_51 _ _) (ly8_k La0_h) ?_
        refine mx_callV 8 (y' := mi_X8_fail) (vs := [iv (2 : Int32), iv (ah_I h a0 51)]) (st := []) (al' := [some (rv a0), some (iv (2 : Int32)), some (iv (ah_I h a0 51))]) cl_8 V_X8_fail (Or.inl q2243) dX8_wrong_18 rfl rfl (Nat.le_of_ble_eq_true rfl) (Nat.le_of_ble_eq_true rfl) (ly8_k La0_h) ?_
        refine mx_aload_n dX8_fail_0 rfl rfl ?_
        refine mx_get 8 48 (ref := "PrairiePoolModel") cl_8 (Nat.le_of_ble_eq_true rfl) (Or.inl q1675) (Or.inl rfl) dX8_fail_1 (fv_8_48 _ _) (ly8_k La0_h) ?_
        refine mx_if_le (tgt := 8) dX8_fail_4 rfl (fun c11 => ?_) (fun c11 => ?_)
        · have H := H.1 c11
          refine mx_aload_n dX8_fail_8 rfl rfl ?_
          refine mx_iload_n dX8_fail_9 rfl rfl ?_
          refine mx_putI 8 48 (ref := "PrairiePoolModel") cl_8 (Nat.le_of_ble_eq_true rfl) (Or.inl q1675) (Or.inl rfl) dX8_fail_10 (Or.inl rfl) rfl (ly8_k La0_h) ?_
          refine mx_nmI  (fun h12 eh12 Xh12 Kh12 Lh12 => ?_)
          have H := H h12 eh12 Xh12
          have La0_h12 := La0_h.ext Xh12
          refine mx_aload_n dX8_fail_13 rfl rfl ?_
          refine mx_iload_n dX8_fail_14 rfl rfl ?_
          refine mx_putI 8 49 (ref := "PrairiePoolModel") cl_8 (Nat.le_of_ble_eq_true rfl) (Or.inl q1676) (Or.inl rfl) dX8_fail_15 (Or.inl rfl) rfl (ly8_k La0_h12) ?_
          refine mx_nmI  (fun h13 eh13 Xh13 Kh13 Lh13 => ?_)
          have H := H h13 eh13 Xh13
          have Kh13 := Kh13.trans Kh12
          have Lh13 := Lh13.trans Lh12
          have La0_h13 := La0_h12.ext Xh13
          refine mx_vretK rfl dX8_fail_18 ?_
          refine mx_vretK rfl dX8_wrong_21 ?_
          exact mx_vret rfl dX8_readDef_35 H
        · have H := H.2 c11
          refine mx_vretK rfl dX8_fail_7 ?_
          refine mx_vretK rfl dX8_wrong_21 ?_
          exact mx_vret rfl dX8_readDef_35 H
      · have H := H.2 c10
        refine mx_iconst dX8_wrong_9 ic_1 ?_
        refine mx_goto (tgt := 14) dX8_wrong_10 rfl ?_
        refine mx_aload_n dX8_wrong_14 rfl rfl ?_
        refine mx_get 8 51 (ref := "PrairiePoolModel") cl_8 (Nat.le_of_ble_eq_true rfl) (Or.inl q1678) (Or.inl rfl) dX8_wrong_15 (fv_8_51 _ _) (ly8_k La0_h) ?_
        refine mx_callV 8 (y' := mi_X8_fail) (vs := [iv (1 : Int32), iv (ah_I h a0 51)]) (st := []) (al' := [some (rv a0), some (iv (1 : Int32)), some (iv (ah_I h a0 51))]) cl_8 V_X8_fail (Or.inl q2243) dX8_wrong_18 rfl rfl (Nat.le_of_ble_eq_true rfl) (Nat.le_of_ble_eq_true rfl) (ly8_k La0_h) ?_
        refine mx_aload_n dX8_fail_0 rfl rfl ?_
        refine mx_get 8 48 (ref := "PrairiePoolModel") cl_8 (Nat.le_of_ble_eq_true rfl) (Or.inl q1675) (Or.inl rfl) dX8_fail_1 (fv_8_48 _ _) (ly8_k La0_h) ?_
        refine mx_if_le (tgt := 8) dX8_fail_4 rfl (fun c14 => ?_) (fun c14 => ?_)
        · have H := H.1 c14
          refine mx_aload_n dX8_fail_8 rfl rfl ?_
          refine mx_iload_n dX8_fail_9 rfl rfl ?_
          refine mx_putI 8 48 (ref := "PrairiePoolModel") cl_8 (Nat.le_of_ble_eq_true rfl) (Or.inl q1675) (Or.inl rfl) dX8_fail_10 (Or.inl rfl) rfl (ly8_k La0_h) ?_
          refine mx_nmI  (fun h15 eh15 Xh15 Kh15 Lh15 => ?_)
          have H := H h15 eh15 Xh15
          have La0_h15 := La0_h.ext Xh15
          refine mx_aload_n dX8_fail_13 rfl rfl ?_
          refine mx_iload_n dX8_fail_14 rfl rfl ?_
          refine mx_putI 8 49 (ref := "PrairiePoolModel") cl_8 (Nat.le_of_ble_eq_true rfl) (Or.inl q1676) (Or.inl rfl) dX8_fail_15 (Or.inl rfl) rfl (ly8_k La0_h15) ?_
          refine mx_nmI  (fun h16 eh16 Xh16 Kh16 Lh16 => ?_)
          have H := H h16 eh16 Xh16
          have Kh16 := Kh16.trans Kh15
          have Lh16 := Lh16.trans Lh15
          have La0_h16 := La0_h15.ext Xh16
          refine mx_vretK rfl dX8_fail_18 ?_
          refine mx_vretK rfl dX8_wrong_21 ?_
          exact mx_vret rfl dX8_readDef_35 H
        · have H := H.2 c14
          refine mx_vretK rfl dX8_fail_7 ?_
          refine mx_vretK rfl dX8_wrong_21 ?_
          exact mx_vret rfl dX8_readDef_35 H
    · have H := H.2 c9
      refine mx_aload_n dX8_readDef_17 rfl rfl ?_
      refine mx_callV 8 (y' := mi_X8_variable) (vs := []) (st := []) (al' := [some (rv a0)]) cl_8 V_X8_variable (Or.inl q2192) dX8_readDef_18 rfl rfl (Nat.le_of_ble_eq_true rfl) (Nat.le_of_ble_eq_true rfl) (ly8_k La0_h) ?_
      refine ma_ki H (fun r18 h17 Xh17 H => ?_) (fun x1 h1 X1 H => mt_out rfl H)
      have H := H Xh17
      have La0_h17 := La0_h.ext Xh17
      refine mx_if_ge (tgt := 31) dX8_readDef_21 rfl (fun c19 => ?_) (fun c19 => ?_)
      · have H := H.1 c19
        refine mx_aload_n dX8_readDef_31 rfl rfl ?_
        refine mx_callV 8 (y' := mi_X8_wrong) (vs := []) (st := []) (al' := [some (rv a0)]) cl_8 V_X8_wrong (Or.inl q2239) dX8_readDef_32 rfl rfl (Nat.le_of_ble_eq_true rfl) (Nat.le_of_ble_eq_true rfl) (ly8_k La0_h17) ?_
        refine mx_aload_n dX8_wrong_0 rfl rfl ?_
        refine mx_aload_n dX8_wrong_1 rfl rfl ?_
        refine mx_get 8 50 (ref := "PrairiePoolModel") cl_8 (Nat.le_of_ble_eq_true rfl) (Or.inl q1677) (Or.inl rfl) dX8_wrong_2 (fv_8_50 _ _) (ly8_k La0_h17) ?_
        refine mx_iconst dX8_wrong_5 ic_4 ?_
        refine mx_icmp_ne (tgt := 13) dX8_wrong_6 rfl (fun c20 => ?_) (fun c20 => ?_)
        · have H := H.1 c20
          refine mx_iconst dX8_wrong_13 ic_2 ?_
          refine mx_aload_n dX8_wrong_14 rfl rfl ?_
          refine mx_get 8 51 (ref := "PrairiePoolModel") cl_8 (Nat.le_of_ble_eq_true rfl) (Or.inl q1678) (Or.inl rfl) dX8_wrong_15 (fv_8_51 _ _) (ly8_k La0_h17) ?_
          refine mx_callV 8 (y' := mi_X8_fail) (vs := [iv (2 : Int32), iv (ah_I h17 a0 51)]) (st := []) (al' := [some (rv a0), some (iv (2 : Int32)), some (iv (ah_I h17 a0 51))]) cl_8 V_X8_fail (Or.inl q2243) dX8_wrong_18 rfl rfl (Nat.le_of_ble_eq_true rfl) (Nat.le_of_ble_eq_true rfl) (ly8_k La0_h17) ?_
          refine mx_aload_n dX8_fail_0 rfl rfl ?_
          refine mx_get 8 48 (ref := "PrairiePoolModel") cl_8 (Nat.le_of_ble_eq_true rfl) (Or.inl q1675) (Or.inl rfl) dX8_fail_1 (fv_8_48 _ _) (ly8_k La0_h17) ?_
          refine mx_if_le (tgt := 8) dX8_fail_4 rfl (fun c21 => ?_) (fun c21 => ?_)
          · have H := H.1 c21
            refine mx_aload_n dX8_fail_8 rfl rfl ?_
            refine mx_iload_n dX8_fail_9 rfl rfl ?_
            refine mx_putI 8 48 (ref := "PrairiePoolModel") cl_8 (Nat.le_of_ble_eq_true rfl) (Or.inl q1675) (Or.inl rfl) dX8_fail_10 (Or.inl rfl) rfl (ly8_k La0_h17) ?_
            refine mx_nmI  (fun h22 eh22 Xh22 Kh22 Lh22 => ?_)
            have H := H h22 eh22 Xh22
            have La0_h22 := La0_h17.ext Xh22
            refine mx_aload_n dX8_fail_13 rfl rfl ?_
            refine mx_iload_n dX8_fail_14 rfl rfl ?_
            refine mx_putI 8 49 (ref := "PrairiePoolModel") cl_8 (Nat.le_of_ble_eq_true rfl) (Or.inl q1676) (Or.inl rfl) dX8_fail_15 (Or.inl rfl) rfl (ly8_k La0_h22) ?_
            refine mx_nmI  (fun h23 eh23 Xh23 Kh23 Lh23 => ?_)
            have H := H h23 eh23 Xh23
            have Kh23 := Kh23.trans Kh22
            have Lh23 := Lh23.trans Lh22
            have La0_h23 := La0_h22.ext Xh23
            refine mx_vretK rfl dX8_fail_18 ?_
            refine mx_vretK rfl dX8_wrong_21 ?_
            exact mx_vret rfl dX8_readDef_35 H
          · have H := H.2 c21
            refine mx_vretK rfl dX8_fail_7 ?_
            refine mx_vretK rfl dX8_wrong_21 ?_
            exact mx_vret rfl dX8_readDef_35 H
        · have H := H.2 c20
          refine mx_iconst dX8_wrong_9 ic_1 ?_
          refine mx_goto (tgt := 14) dX8_wrong_10 rfl ?_
          refine mx_aload_n dX8_wrong_14 rfl rfl ?_
          refine mx_get 8 51 (ref := "PrairiePoolModel") cl_8 (Nat.le_of_ble_eq_true rfl) (Or.inl q1678) (Or.inl rfl) dX8_wrong_15 (fv_8_51 _ _) (ly8_k La0_h17) ?_
          refine mx_callV 8 (y' := mi_X8_fail) (vs := [iv (1 : Int32), iv (ah_I h17 a0 51)]) (st := []) (al' := [some (rv a0), some (iv (1 : Int32)), some (iv (ah_I h17 a0 51))]) cl_8 V_X8_fail (Or.inl q2243) dX8_wrong_18 rfl rfl (Nat.le_of_ble_eq_true rfl) (Nat.le_of_ble_eq_true rfl) (ly8_k La0_h17) ?_
          refine mx_aload_n dX8_fail_0 rfl rfl ?_
          refine mx_get 8 48 (ref := "PrairiePoolModel") cl_8 (Nat.le_of_ble_eq_true rfl) (Or.inl q1675) (Or.inl rfl) dX8_fail_1 (fv_8_48 _ _) (ly8_k La0_h17) ?_
          refine mx_if_le (tgt := 8) dX8_fail_4 rfl (fun c24 => ?_) (fun c24 => ?_)
          · have H := H.1 c24
            refine mx_aload_n dX8_fail_8 rfl rfl ?_
            refine mx_iload_n dX8_fail_9 rfl rfl ?_
            refine mx_putI 8 48 (ref := "PrairiePoolModel") cl_8 (Nat.le_of_ble_eq_true rfl) (Or.inl q1675) (Or.inl rfl) dX8_fail_10 (Or.inl rfl) rfl (ly8_k La0_h17) ?_
            refine mx_nmI  (fun h25 eh25 Xh25 Kh25 Lh25 => ?_)
            have H := H h25 eh25 Xh25
            have La0_h25 := La0_h17.ext Xh25
            refine mx_aload_n dX8_fail_13 rfl rfl ?_
            refine mx_iload_n dX8_fail_14 rfl rfl ?_
            refine mx_putI 8 49 (ref := "PrairiePoolModel") cl_8 (Nat.le_of_ble_eq_true rfl) (Or.inl q1676) (Or.inl rfl) dX8_fail_15 (Or.inl rfl) rfl (ly8_k La0_h25) ?_
            refine mx_nmI  (fun h26 eh26 Xh26 Kh26 Lh26 => ?_)
            have H := H h26 eh26 Xh26
            have Kh26 := Kh26.trans Kh25
            have Lh26 := Lh26.trans Lh25
            have La0_h26 := La0_h25.ext Xh26
            refine mx_vretK rfl dX8_fail_18 ?_
            refine mx_vretK rfl dX8_wrong_21 ?_
            exact mx_vret rfl dX8_readDef_35 H
          · have H := H.2 c24
            refine mx_vretK rfl dX8_fail_7 ?_
            refine mx_vretK rfl dX8_wrong_21 ?_
            exact mx_vret rfl dX8_readDef_35 H
      · have H := H.2 c19
        refine mx_aload_n dX8_readDef_24 rfl rfl ?_
        refine mx_callV 8 (y' := mi_X8_isKept) (vs := []) (st := []) (al' := [some (rv a0)]) cl_8 V_X8_isKept (Or.inl q2203) dX8_readDef_25 rfl rfl (Nat.le_of_ble_eq_true rfl) (Nat.le_of_ble_eq_true rfl) (ly8_k La0_h17) ?_
        refine ma_ki H (fun r28 h27 Xh27 H => ?_) (fun x1 h1 X1 H => mt_out rfl H)
        have H := H Xh27
        have La0_h27 := La0_h17.ext Xh27
        refine mx_if_eq (tgt := 36) dX8_readDef_28 rfl (fun c29 => ?_) (fun c29 => ?_)
        · have H := H.1 c29
          refine mx_aload_n dX8_readDef_36 rfl rfl ?_
          refine mx_get 8 57 (ref := "PrairiePoolModel") cl_8 (Nat.le_of_ble_eq_true rfl) (Or.inl q1684) (Or.inl rfl) dX8_readDef_37 (fv_8_57 _ _) (ly8_k La0_h27) ?_
          refine mx_bipush dX8_readDef_40 ib_10 ?_
          refine mx_icmp_ne (tgt := 54) dX8_readDef_42 rfl (fun c30 => ?_) (fun c30 => ?_)
          · have H := H.1 c30
            refine mx_aload_n dX8_readDef_54 rfl rfl ?_
            refine mx_callV 8 (y' := mi_X8_named) (vs := []) (st := []) (al' := [some (rv a0), none]) cl_8 V_X8_named (Or.inl q2247) dX8_readDef_55 rfl rfl (Nat.le_of_ble_eq_true rfl) (Nat.le_of_ble_eq_true rfl) (ly8_k La0_h27) ?_
            refine ma_ki H (fun r32 h31 Xh31 H => ?_) (fun x1 h1 X1 H => mt_out rfl H)
            have H := H Xh31
            have La0_h31 := La0_h27.ext Xh31
            refine mx_if_lt (tgt := 70) dX8_readDef_58 rfl (fun c33 => ?_) (fun c33 => ?_)
            · have H := H.1 c33
              exact mx_weak (al' := [some (rv a0), none, none]) ⟨rfl, trivial⟩ H
            · have H := H.2 c33
              refine mx_aload_n dX8_readDef_61 rfl rfl ?_
              refine mx_iconst dX8_readDef_62 ic_4 ?_
              refine mx_aload_n dX8_readDef_63 rfl rfl ?_
              refine mx_get 8 51 (ref := "PrairiePoolModel") cl_8 (Nat.le_of_ble_eq_true rfl) (Or.inl q1678) (Or.inl rfl) dX8_readDef_64 (fv_8_51 _ _) (ly8_k La0_h31) ?_
              refine mx_callV 8 (y' := mi_X8_fail) (vs := [iv (4 : Int32), iv (ah_I h31 a0 51)]) (st := []) (al' := [some (rv a0), some (iv (4 : Int32)), some (iv (ah_I h31 a0 51))]) cl_8 V_X8_fail (Or.inl q2243) dX8_readDef_67 rfl rfl (Nat.le_of_ble_eq_true rfl) (Nat.le_of_ble_eq_true rfl) (ly8_k La0_h31) ?_
              refine mx_aload_n dX8_fail_0 rfl rfl ?_
              refine mx_get 8 48 (ref := "PrairiePoolModel") cl_8 (Nat.le_of_ble_eq_true rfl) (Or.inl q1675) (Or.inl rfl) dX8_fail_1 (fv_8_48 _ _) (ly8_k La0_h31) ?_
              refine mx_if_le (tgt := 8) dX8_fail_4 rfl (fun c34 => ?_) (fun c34 => ?_)
              · have H := H.1 c34
                refine mx_aload_n dX8_fail_8 rfl rfl ?_
                refine mx_iload_n dX8_fail_9 rfl rfl ?_
                refine mx_putI 8 48 (ref := "PrairiePoolModel") cl_8 (Nat.le_of_ble_eq_true rfl) (Or.inl q1675) (Or.inl rfl) dX8_fail_10 (Or.inl rfl) rfl (ly8_k La0_h31) ?_
                refine mx_nmI  (fun h35 eh35 Xh35 Kh35 Lh35 => ?_)
                have H := H h35 eh35 Xh35
                have La0_h35 := La0_h31.ext Xh35
                refine mx_aload_n dX8_fail_13 rfl rfl ?_
                refine mx_iload_n dX8_fail_14 rfl rfl ?_
                refine mx_putI 8 49 (ref := "PrairiePoolModel") cl_8 (Nat.le_of_ble_eq_true rfl) (Or.inl q1676) (Or.inl rfl) dX8_fail_15 (Or.inl rfl) rfl (ly8_k La0_h35) ?_
                refine mx_nmI  (fun h36 eh36 Xh36 Kh36 Lh36 => ?_)
                have H := H h36 eh36 Xh36
                have Kh36 := Kh36.trans Kh35
                have Lh36 := Lh36.trans Lh35
                have La0_h36 := La0_h35.ext Xh36
                refine mx_vretK rfl dX8_fail_18 ?_
                exact mx_weak (al' := [some (rv a0), none, none]) ⟨rfl, trivial⟩ H
              · have H := H.2 c34
                refine mx_vretK rfl dX8_fail_7 ?_
                exact mx_weak (al' := [some (rv a0), none, none]) ⟨rfl, trivial⟩ H
          · have H := H.2 c30
            refine mx_aload_n dX8_readDef_45 rfl rfl ?_
            refine mx_iconst dX8_readDef_46 ic_3 ?_
            refine mx_aload_n dX8_readDef_47 rfl rfl ?_
            refine mx_get 8 51 (ref := "PrairiePoolModel") cl_8 (Nat.le_of_ble_eq_true rfl) (Or.inl q1678) (Or.inl rfl) dX8_readDef_48 (fv_8_51 _ _) (ly8_k La0_h27) ?_
            refine mx_callV 8 (y' := mi_X8_fail) (vs := [iv (3 : Int32), iv (ah_I h27 a0 51)]) (st := []) (al' := [some (rv a0), some (iv (3 : Int32)), some (iv (ah_I h27 a0 51))]) cl_8 V_X8_fail (Or.inl q2243) dX8_readDef_51 rfl rfl (Nat.le_of_ble_eq_true rfl) (Nat.le_of_ble_eq_true rfl) (ly8_k La0_h27) ?_
            refine mx_aload_n dX8_fail_0 rfl rfl ?_
            refine mx_get 8 48 (ref := "PrairiePoolModel") cl_8 (Nat.le_of_ble_eq_true rfl) (Or.inl q1675) (Or.inl rfl) dX8_fail_1 (fv_8_48 _ _) (ly8_k La0_h27) ?_
            refine mx_if_le (tgt := 8) dX8_fail_4 rfl (fun c37 => ?_) (fun c37 => ?_)
            · have H := H.1 c37
              refine mx_aload_n dX8_fail_8 rfl rfl ?_
              refine mx_iload_n dX8_fail_9 rfl rfl ?_
              refine mx_putI 8 48 (ref := "PrairiePoolModel") cl_8 (Nat.le_of_ble_eq_true rfl) (Or.inl q1675) (Or.inl rfl) dX8_fail_10 (Or.inl rfl) rfl (ly8_k La0_h27) ?_
              refine mx_nmI  (fun h38 eh38 Xh38 Kh38 Lh38 => ?_)
              have H := H h38 eh38 Xh38
              have La0_h38 := La0_h27.ext Xh38
              refine mx_aload_n dX8_fail_13 rfl rfl ?_
              refine mx_iload_n dX8_fail_14 rfl rfl ?_
              refine mx_putI 8 49 (ref := "PrairiePoolModel") cl_8 (Nat.le_of_ble_eq_true rfl) (Or.inl q1676) (Or.inl rfl) dX8_fail_15 (Or.inl rfl) rfl (ly8_k La0_h38) ?_
              refine mx_nmI  (fun h39 eh39 Xh39 Kh39 Lh39 => ?_)
              have H := H h39 eh39 Xh39
              have Kh39 := Kh39.trans Kh38
              have Lh39 := Lh39.trans Lh38
              have La0_h39 := La0_h38.ext Xh39
              refine mx_vretK rfl dX8_fail_18 ?_
              refine mx_aload_n dX8_readDef_54 rfl rfl ?_
              refine mx_callV 8 (y' := mi_X8_named) (vs := []) (st := []) (al' := [some (rv a0), none]) cl_8 V_X8_named (Or.inl q2247) dX8_readDef_55 rfl rfl (Nat.le_of_ble_eq_true rfl) (Nat.le_of_ble_eq_true rfl) (ly8_k La0_h39) ?_
              refine ma_ki H (fun r41 h40 Xh40 H => ?_) (fun x1 h1 X1 H => mt_out rfl H)
              have H := H Xh40
              have La0_h40 := La0_h39.ext Xh40
              refine mx_if_lt (tgt := 70) dX8_readDef_58 rfl (fun c42 => ?_) (fun c42 => ?_)
              · have H := H.1 c42
                exact mx_weak (al' := [some (rv a0), none, none]) ⟨rfl, trivial⟩ H
              · have H := H.2 c42
                refine mx_aload_n dX8_readDef_61 rfl rfl ?_
                refine mx_iconst dX8_readDef_62 ic_4 ?_
                refine mx_aload_n dX8_readDef_63 rfl rfl ?_
                refine mx_get 8 51 (ref := "PrairiePoolModel") cl_8 (Nat.le_of_ble_eq_true rfl) (Or.inl q1678) (Or.inl rfl) dX8_readDef_64 (fv_8_51 _ _) (ly8_k La0_h40) ?_
                refine mx_callV 8 (y' := mi_X8_fail) (vs := [iv (4 : Int32), iv (ah_I h40 a0 51)]) (st := []) (al' := [some (rv a0), some (iv (4 : Int32)), some (iv (ah_I h40 a0 51))]) cl_8 V_X8_fail (Or.inl q2243) dX8_readDef_67 rfl rfl (Nat.le_of_ble_eq_true rfl) (Nat.le_of_ble_eq_true rfl) (ly8_k La0_h40) ?_
                refine mx_aload_n dX8_fail_0 rfl rfl ?_
                refine mx_get 8 48 (ref := "PrairiePoolModel") cl_8 (Nat.le_of_ble_eq_true rfl) (Or.inl q1675) (Or.inl rfl) dX8_fail_1 (fv_8_48 _ _) (ly8_k La0_h40) ?_
                refine mx_if_le (tgt := 8) dX8_fail_4 rfl (fun c43 => ?_) (fun c43 => ?_)
                · have H := H.1 c43
                  refine mx_aload_n dX8_fail_8 rfl rfl ?_
                  refine mx_iload_n dX8_fail_9 rfl rfl ?_
                  refine mx_putI 8 48 (ref := "PrairiePoolModel") cl_8 (Nat.le_of_ble_eq_true rfl) (Or.inl q1675) (Or.inl rfl) dX8_fail_10 (Or.inl rfl) rfl (ly8_k La0_h40) ?_
                  refine mx_nmI  (fun h44 eh44 Xh44 Kh44 Lh44 => ?_)
                  have H := H h44 eh44 Xh44
                  have La0_h44 := La0_h40.ext Xh44
                  refine mx_aload_n dX8_fail_13 rfl rfl ?_
                  refine mx_iload_n dX8_fail_14 rfl rfl ?_
                  refine mx_putI 8 49 (ref := "PrairiePoolModel") cl_8 (Nat.le_of_ble_eq_true rfl) (Or.inl q1676) (Or.inl rfl) dX8_fail_15 (Or.inl rfl) rfl (ly8_k La0_h44) ?_
                  refine mx_nmI  (fun h45 eh45 Xh45 Kh45 Lh45 => ?_)
                  have H := H h45 eh45 Xh45
                  have Kh45 := Kh45.trans Kh44
                  have Lh45 := Lh45.trans Lh44
                  have La0_h45 := La0_h44.ext Xh45
                  refine mx_vretK rfl dX8_fail_18 ?_
                  exact mx_weak (al' := [some (rv a0), none, none]) ⟨rfl, trivial⟩ H
                · have H := H.2 c43
                  refine mx_vretK rfl dX8_fail_7 ?_
                  exact mx_weak (al' := [some (rv a0), none, none]) ⟨rfl, trivial⟩ H
            · have H := H.2 c37
              refine mx_vretK rfl dX8_fail_7 ?_
              refine mx_aload_n dX8_readDef_54 rfl rfl ?_
              refine mx_callV 8 (y' := mi_X8_named) (vs := []) (st := []) (al' := [some (rv a0), none]) cl_8 V_X8_named (Or.inl q2247) dX8_readDef_55 rfl rfl (Nat.le_of_ble_eq_true rfl) (Nat.le_of_ble_eq_true rfl) (ly8_k La0_h27) ?_
              refine ma_ki H (fun r47 h46 Xh46 H => ?_) (fun x1 h1 X1 H => mt_out rfl H)
              have H := H Xh46
              have La0_h46 := La0_h27.ext Xh46
              refine mx_if_lt (tgt := 70) dX8_readDef_58 rfl (fun c48 => ?_) (fun c48 => ?_)
              · have H := H.1 c48
                exact mx_weak (al' := [some (rv a0), none, none]) ⟨rfl, trivial⟩ H
              · have H := H.2 c48
                refine mx_aload_n dX8_readDef_61 rfl rfl ?_
                refine mx_iconst dX8_readDef_62 ic_4 ?_
                refine mx_aload_n dX8_readDef_63 rfl rfl ?_
                refine mx_get 8 51 (ref := "PrairiePoolModel") cl_8 (Nat.le_of_ble_eq_true rfl) (Or.inl q1678) (Or.inl rfl) dX8_readDef_64 (fv_8_51 _ _) (ly8_k La0_h46) ?_
                refine mx_callV 8 (y' := mi_X8_fail) (vs := [iv (4 : Int32), iv (ah_I h46 a0 51)]) (st := []) (al' := [some (rv a0), some (iv (4 : Int32)), some (iv (ah_I h46 a0 51))]) cl_8 V_X8_fail (Or.inl q2243) dX8_readDef_67 rfl rfl (Nat.le_of_ble_eq_true rfl) (Nat.le_of_ble_eq_true rfl) (ly8_k La0_h46) ?_
                refine mx_aload_n dX8_fail_0 rfl rfl ?_
                refine mx_get 8 48 (ref := "PrairiePoolModel") cl_8 (Nat.le_of_ble_eq_true rfl) (Or.inl q1675) (Or.inl rfl) dX8_fail_1 (fv_8_48 _ _) (ly8_k La0_h46) ?_
                refine mx_if_le (tgt := 8) dX8_fail_4 rfl (fun c49 => ?_) (fun c49 => ?_)
                · have H := H.1 c49
                  refine mx_aload_n dX8_fail_8 rfl rfl ?_
                  refine mx_iload_n dX8_fail_9 rfl rfl ?_
                  refine mx_putI 8 48 (ref := "PrairiePoolModel") cl_8 (Nat.le_of_ble_eq_true rfl) (Or.inl q1675) (Or.inl rfl) dX8_fail_10 (Or.inl rfl) rfl (ly8_k La0_h46) ?_
                  refine mx_nmI  (fun h50 eh50 Xh50 Kh50 Lh50 => ?_)
                  have H := H h50 eh50 Xh50
                  have La0_h50 := La0_h46.ext Xh50
                  refine mx_aload_n dX8_fail_13 rfl rfl ?_
                  refine mx_iload_n dX8_fail_14 rfl rfl ?_
                  refine mx_putI 8 49 (ref := "PrairiePoolModel") cl_8 (Nat.le_of_ble_eq_true rfl) (Or.inl q1676) (Or.inl rfl) dX8_fail_15 (Or.inl rfl) rfl (ly8_k La0_h50) ?_
                  refine mx_nmI  (fun h51 eh51 Xh51 Kh51 Lh51 => ?_)
                  have H := H h51 eh51 Xh51
                  have Kh51 := Kh51.trans Kh50
                  have Lh51 := Lh51.trans Lh50
                  have La0_h51 := La0_h50.ext Xh51
                  refine mx_vretK rfl dX8_fail_18 ?_
                  exact mx_weak (al' := [some (rv a0), none, none]) ⟨rfl, trivial⟩ H
                · have H := H.2 c49
                  refine mx_vretK rfl dX8_fail_7 ?_
                  exact mx_weak (al' := [some (rv a0), none, none]) ⟨rfl, trivial⟩ H
        · have H := H.2 c29
          refine mx_aload_n dX8_readDef_31 rfl rfl ?_
          refine mx_callV 8 (y' := mi_X8_wrong) (vs := []) (st := []) (al' := [some (rv a0)]) cl_8 V_X8_wrong (Or.inl q2239) dX8_readDef_32 rfl rfl (Nat.le_of_ble_eq_true rfl) (Nat.le_of_ble_eq_true rfl) (ly8_k La0_h27) ?_
          refine mx_aload_n dX8_wrong_0 rfl rfl ?_
          refine mx_aload_n dX8_wrong_1 rfl rfl ?_
          refine mx_get 8 50 (ref := "PrairiePoolModel") cl_8 (Nat.le_of_ble_eq_true rfl) (Or.inl q1677) (Or.inl rfl) dX8_wrong_2 (fv_8_50 _ _) (ly8_k La0_h27) ?_
          refine mx_iconst dX8_wrong_5 ic_4 ?_
          refine mx_icmp_ne (tgt := 13) dX8_wrong_6 rfl (fun c52 => ?_) (fun c52 => ?_)
          · have H := H.1 c52
            refine mx_iconst dX8_wrong_13 ic_2 ?_
            refine mx_aload_n dX8_wrong_14 rfl rfl ?_
            refine mx_get 8 51 (ref := "PrairiePoolModel") cl_8 (Nat.le_of_ble_eq_true rfl) (Or.inl q1678) (Or.inl rfl) dX8_wrong_15 (fv_8_51 _ _) (ly8_k La0_h27) ?_
            refine mx_callV 8 (y' := mi_X8_fail) (vs := [iv (2 : Int32), iv (ah_I h27 a0 51)]) (st := []) (al' := [some (rv a0), some (iv (2 : Int32)), some (iv (ah_I h27 a0 51))]) cl_8 V_X8_fail (Or.inl q2243) dX8_wrong_18 rfl rfl (Nat.le_of_ble_eq_true rfl) (Nat.le_of_ble_eq_true rfl) (ly8_k La0_h27) ?_
            refine mx_aload_n dX8_fail_0 rfl rfl ?_
            refine mx_get 8 48 (ref := "PrairiePoolModel") cl_8 (Nat.le_of_ble_eq_true rfl) (Or.inl q1675) (Or.inl rfl) dX8_fail_1 (fv_8_48 _ _) (ly8_k La0_h27) ?_
            refine mx_if_le (tgt := 8) dX8_fail_4 rfl (fun c53 => ?_) (fun c53 => ?_)
            · have H := H.1 c53
              refine mx_aload_n dX8_fail_8 rfl rfl ?_
              refine mx_iload_n dX8_fail_9 rfl rfl ?_
              refine mx_putI 8 48 (ref := "PrairiePoolModel") cl_8 (Nat.le_of_ble_eq_true rfl) (Or.inl q1675) (Or.inl rfl) dX8_fail_10 (Or.inl rfl) rfl (ly8_k La0_h27) ?_
              refine mx_nmI  (fun h54 eh54 Xh54 Kh54 Lh54 => ?_)
              have H := H h54 eh54 Xh54
              have La0_h54 := La0_h27.ext Xh54
              refine mx_aload_n dX8_fail_13 rfl rfl ?_
              refine mx_iload_n dX8_fail_14 rfl rfl ?_
              refine mx_putI 8 49 (ref := "PrairiePoolModel") cl_8 (Nat.le_of_ble_eq_true rfl) (Or.inl q1676) (Or.inl rfl) dX8_fail_15 (Or.inl rfl) rfl (ly8_k La0_h54) ?_
              refine mx_nmI  (fun h55 eh55 Xh55 Kh55 Lh55 => ?_)
              have H := H h55 eh55 Xh55
              have Kh55 := Kh55.trans Kh54
              have Lh55 := Lh55.trans Lh54
              have La0_h55 := La0_h54.ext Xh55
              refine mx_vretK rfl dX8_fail_18 ?_
              refine mx_vretK rfl dX8_wrong_21 ?_
              exact mx_vret rfl dX8_readDef_35 H
            · have H := H.2 c53
              refine mx_vretK rfl dX8_fail_7 ?_
              refine mx_vretK rfl dX8_wrong_21 ?_
              exact mx_vret rfl dX8_readDef_35 H
          · have H := H.2 c52
            refine mx_iconst dX8_wrong_9 ic_1 ?_
            refine mx_goto (tgt := 14) dX8_wrong_10 rfl ?_
            refine mx_aload_n dX8_wrong_14 rfl rfl ?_
            refine mx_get 8 51 (ref := "PrairiePoolModel") cl_8 (Nat.le_of_ble_eq_true rfl) (Or.inl q1678) (Or.inl rfl) dX8_wrong_15 (fv_8_51 _ _) (ly8_k La0_h27) ?_
            refine mx_callV 8 (y' := mi_X8_fail) (vs := [iv (1 : Int32), iv (ah_I h27 a0 51)]) (st := []) (al' := [some (rv a0), some (iv (1 : Int32)), some (iv (ah_I h27 a0 51))]) cl_8 V_X8_fail (Or.inl q2243) dX8_wrong_18 rfl rfl (Nat.le_of_ble_eq_true rfl) (Nat.le_of_ble_eq_true rfl) (ly8_k La0_h27) ?_
            refine mx_aload_n dX8_fail_0 rfl rfl ?_
            refine mx_get 8 48 (ref := "PrairiePoolModel") cl_8 (Nat.le_of_ble_eq_true rfl) (Or.inl q1675) (Or.inl rfl) dX8_fail_1 (fv_8_48 _ _) (ly8_k La0_h27) ?_
            refine mx_if_le (tgt := 8) dX8_fail_4 rfl (fun c56 => ?_) (fun c56 => ?_)
            · have H := H.1 c56
              refine mx_aload_n dX8_fail_8 rfl rfl ?_
              refine mx_iload_n dX8_fail_9 rfl rfl ?_
              refine mx_putI 8 48 (ref := "PrairiePoolModel") cl_8 (Nat.le_of_ble_eq_true rfl) (Or.inl q1675) (Or.inl rfl) dX8_fail_10 (Or.inl rfl) rfl (ly8_k La0_h27) ?_
              refine mx_nmI  (fun h57 eh57 Xh57 Kh57 Lh57 => ?_)
              have H := H h57 eh57 Xh57
              have La0_h57 := La0_h27.ext Xh57
              refine mx_aload_n dX8_fail_13 rfl rfl ?_
              refine mx_iload_n dX8_fail_14 rfl rfl ?_
              refine mx_putI 8 49 (ref := "PrairiePoolModel") cl_8 (Nat.le_of_ble_eq_true rfl) (Or.inl q1676) (Or.inl rfl) dX8_fail_15 (Or.inl rfl) rfl (ly8_k La0_h57) ?_
              refine mx_nmI  (fun h58 eh58 Xh58 Kh58 Lh58 => ?_)
              have H := H h58 eh58 Xh58
              have Kh58 := Kh58.trans Kh57
              have Lh58 := Lh58.trans Lh57
              have La0_h58 := La0_h57.ext Xh58
              refine mx_vretK rfl dX8_fail_18 ?_
              refine mx_vretK rfl dX8_wrong_21 ?_
              exact mx_vret rfl dX8_readDef_35 H
            · have H := H.2 c56
              refine mx_vretK rfl dX8_fail_7 ?_
              refine mx_vretK rfl dX8_wrong_21 ?_
              exact mx_vret rfl dX8_readDef_35 H
theorem v_X8_readDef_70 {G : ma_G} {d : Nat} {a0 : Nat} {h : ah_T} {Q : Option ma_V → ah_T → Prop} {E : Nat → ah_T → Prop} (La0_h : LY8 h a0) (H : ((ah_I h a0 48) ≤ 0 → MX G mi_X8_next (d + 1) 0 [some (rv a0), none] [] h (Qv fun h2 => ah_ext h h2 → (¬ (ah_I h2 a0 50) = (3 : Int32) → (¬ (ah_I h2 a0 50) = (4 : Int32) → ((ah_I h2 a0 48) ≤ 0 → ∀ h7 : ah_T, h7 = ah_wI h2 a0 48 (2 : Int32) → ah_ext h2 h7 → ∀ h8 : ah_T, h8 = ah_wI h7 a0 49 (ah_I h2 a0 51) → ah_ext h7 h8 → Q none h8) ∧ (¬ (ah_I h2 a0 48) ≤ 0 → Q none h2)) ∧ ((ah_I h2 a0 50) = (4 : Int32) → ((ah_I h2 a0 48) ≤ 0 → ∀ h10 : ah_T, h10 = ah_wI h2 a0 48 (1 : Int32) → ah_ext h2 h10 → ∀ h11 : ah_T, h11 = ah_wI h10 a0 49 (ah_I h2 a0 51) → ah_ext h10 h11 → Q none h11) ∧ (¬ (ah_I h2 a0 48) ≤ 0 → Q none h2))) ∧ ((ah_I h2 a0 50) = (3 : Int32) → (¬ (ah_I h2 a0 53) = (58 : Int32) → (¬ (ah_I h2 a0 50) = (4 : Int32) → ((ah_I h2 a0 48) ≤ 0 → ∀ h15 : ah_T, h15 = ah_wI h2 a0 48 (2 : Int32) → ah_ext h2 h15 → ∀ h16 : ah_T, h16 = ah_wI h15 a0 49 (ah_I h2 a0 51) → ah_ext h15 h16 → Q none h16) ∧ (¬ (ah_I h2 a0 48) ≤ 0 → Q none h2)) ∧ ((ah_I h2 a0 50) = (4 : Int32) → ((ah_I h2 a0 48) ≤ 0 → ∀ h18 : ah_T, h18 = ah_wI h2 a0 48 (1 : Int32) → ah_ext h2 h18 → ∀ h19 : ah_T, h19 = ah_wI h18 a0 49 (ah_I h2 a0 51) → ah_ext h18 h19 → Q none h19) ∧ (¬ (ah_I h2 a0 48) ≤ 0 → Q none h2))) ∧ ((ah_I h2 a0 53) = (58 : Int32) → MX G mi_X8_next (d + 1) 0 [some (rv a0), none] [] h2 (Qv fun h20 => ah_ext h2 h20 → MX G mi_X8_readWhole (d + 1) 0 [some (rv a0), some (iv (1 : Int32)), none, none] [] h20 (Qv fun h22 => ah_ext h20 h22 → (¬ (ah_I h22 a0 48) = 0 → MX G mi_X8_readDef (d + 2) 130 [some (rv a0), some (jv (ah_J h a0 55)), none] [] h22 Q E) ∧ ((ah_I h22 a0 48) = 0 → (¬ (ah_I h22 a0 50) = (3 : Int32) → (¬ (ah_I h22 a0 50) = (4 : Int32) → ((ah_I h22 a0 48) ≤ 0 → ∀ h28 : ah_T, h28 = ah_wI h22 a0 48 (2 : Int32) → ah_ext h22 h28 → ∀ h29 : ah_T, h29 = ah_wI h28 a0 49 (ah_I h22 a0 51) → ah_ext h28 h29 → MX G mi_X8_readDef (d + 2) 130 [some (rv a0), some (jv (ah_J h a0 55)), none] [] h29 Q E) ∧ (¬ (ah_I h22 a0 48) ≤ 0 → MX G mi_X8_readDef (d + 2) 130 [some (rv a0), some (jv (ah_J h a0 55)), none] [] h22 Q E)) ∧ ((ah_I h22 a0 50) = (4 : Int32) → ((ah_I h22 a0 48) ≤ 0 → ∀ h31 : ah_T, h31 = ah_wI h22 a0 48 (1 : Int32) → ah_ext h22 h31 → ∀ h32 : ah_T, h32 = ah_wI h31 a0 49 (ah_I h22 a0 51) → ah_ext h31 h32 → MX G mi_X8_readDef (d + 2) 130 [some (rv a0), some (jv (ah_J h a0 55)), none] [] h32 Q E) ∧ (¬ (ah_I h22 a0 48) ≤ 0 → MX G mi_X8_readDef (d + 2) 130 [some (rv a0), some (jv (ah_J h a0 55)), none] [] h22 Q E))) ∧ ((ah_I h22 a0 50) = (3 : Int32) → (¬ (ah_I h22 a0 53) = (59 : Int32) → (¬ (ah_I h22 a0 50) = (4 : Int32) → ((ah_I h22 a0 48) ≤ 0 → ∀ h36 : ah_T, h36 = ah_wI h22 a0 48 (2 : Int32) → ah_ext h22 h36 → ∀ h37 : ah_T, h37 = ah_wI h36 a0 49 (ah_I h22 a0 51) → ah_ext h36 h37 → MX G mi_X8_readDef (d + 2) 130 [some (rv a0), some (jv (ah_J h a0 55)), none] [] h37 Q E) ∧ (¬ (ah_I h22 a0 48) ≤ 0 → MX G mi_X8_readDef (d + 2) 130 [some (rv a0), some (jv (ah_J h a0 55)), none] [] h22 Q E)) ∧ ((ah_I h22 a0 50) = (4 : Int32) → ((ah_I h22 a0 48) ≤ 0 → ∀ h39 : ah_T, h39 = ah_wI h22 a0 48 (1 : Int32) → ah_ext h22 h39 → ∀ h40 : ah_T, h40 = ah_wI h39 a0 49 (ah_I h22 a0 51) → ah_ext h39 h40 → MX G mi_X8_readDef (d + 2) 130 [some (rv a0), some (jv (ah_J h a0 55)), none] [] h40 Q E) ∧ (¬ (ah_I h22 a0 48) ≤ 0 → MX G mi_X8_readDef (d + 2) 130 [some (rv a0), some (jv (ah_J h a0 55)), none] [] h22 Q E))) ∧ ((ah_I h22 a0 53) = (59 : Int32) → MX G mi_X8_readDef (d + 2) 130 [some (rv a0), some (jv (ah_J h a0 55)), none] [] h22 Q E)))) E) E))) E) ∧ (¬ (ah_I h a0 48) ≤ 0 → Q none h)) : MX G mi_X8_readDef (d + 2) 70 [some (rv a0), none, none] [] h Q E := by
  refine mx_aload_n dX8_readDef_70 rfl rfl ?_
  refine mx_get 8 48 (ref := "PrairiePoolModel") cl_8 (Nat.le_of_ble_eq_true rfl) (Or.inl q1675) (Or.inl rfl) dX8_readDef_71 (fv_8_48 _ _) (ly8_k La0_h) ?_
  refine mx_if_le (tgt := 78) dX8_readDef_74 rfl (fun c1 => ?_) (fun c1 => ?_)
  · have H := H.1 c1
    refine mx_aload_n dX8_readDef_78 rfl rfl ?_
    refine mx_get 8 55 (ref := "PrairiePoolModel") cl_8 (Nat.le_of_ble_eq_true rfl) (Or.inl q1682) (Or.inl rfl) dX8_readDef_79 (fv_8_55 _ _) (ly8_k La0_h) ?_
    refine mx_lstore_n (al' := [some (rv a0), some (jv (ah_J h a0 55)), none]) dX8_readDef_82 rfl (Nat.le_of_ble_eq_true rfl) rfl ?_
    refine mx_aload_n dX8_readDef_83 rfl rfl ?_
    refine mx_callV 8 (y' := mi_X8_next) (vs := []) (st := []) (al' := [some (rv a0), none]) cl_8 V_X8_next (Or.inl q2170) dX8_readDef_84 rfl rfl (Nat.le_of_ble_eq_true rfl) (Nat.le_of_ble_eq_true rfl) (ly8_k La0_h) ?_
    refine ma_kv H (fun h2 Xh2 H => ?_) (fun x1 h1 X1 H => mt_out rfl H)
    have H := H Xh2
    have La0_h2 := La0_h.ext Xh2
    refine mx_aload_n dX8_readDef_87 rfl rfl ?_
    refine mx_bipush dX8_readDef_88 ib_58 ?_
    refine mx_callV 8 (y' := mi_X8_isSign) (vs := [iv (58 : Int32)]) (st := []) (al' := [some (rv a0), some (iv (58 : Int32))]) cl_8 V_X8_isSign (Or.inl q2251) dX8_readDef_90 rfl rfl (Nat.le_of_ble_eq_true rfl) (Nat.le_of_ble_eq_true rfl) (ly8_k La0_h2) ?_
    refine mx_aload_n dX8_isSign_0 rfl rfl ?_
    refine mx_get 8 50 (ref := "PrairiePoolModel") cl_8 (Nat.le_of_ble_eq_true rfl) (Or.inl q1677) (Or.inl rfl) dX8_isSign_1 (fv_8_50 _ _) (ly8_k La0_h2) ?_
    refine mx_iconst dX8_isSign_4 ic_3 ?_
    refine mx_icmp_ne (tgt := 20) dX8_isSign_5 rfl (fun c4 => ?_) (fun c4 => ?_)
    · have H := H.1 c4
      refine mx_iconst dX8_isSign_20 ic_0 ?_
      refine mx_zretK rfl dX8_isSign_21 (Or.inl rfl) ?_
      refine mx_if_ne (tgt := 101) dX8_readDef_93 rfl (fun _ => absurd ‹_› (by decide)) (fun _ => ?_)
      refine mx_aload_n dX8_readDef_96 rfl rfl ?_
      refine mx_callV 8 (y' := mi_X8_wrong) (vs := []) (st := []) (al' := [some (rv a0)]) cl_8 V_X8_wrong (Or.inl q2239) dX8_readDef_97 rfl rfl (Nat.le_of_ble_eq_true rfl) (Nat.le_of_ble_eq_true rfl) (ly8_k La0_h2) ?_
      refine mx_aload_n dX8_wrong_0 rfl rfl ?_
      refine mx_aload_n dX8_wrong_1 rfl rfl ?_
      refine mx_get 8 50 (ref := "PrairiePoolModel") cl_8 (Nat.le_of_ble_eq_true rfl) (Or.inl q1677) (Or.inl rfl) dX8_wrong_2 (fv_8_50 _ _) (ly8_k La0_h2) ?_
      refine mx_iconst dX8_wrong_5 ic_4 ?_
      refine mx_icmp_ne (tgt := 13) dX8_wrong_6 rfl (fun c5 => ?_) (fun c5 => ?_)
      · have H := H.1 c5
        refine mx_iconst dX8_wrong_13 ic_2 ?_
        refine mx_aload_n dX8_wrong_14 rfl rfl ?_
        refine mx_get 8 51 (ref := "PrairiePoolModel") cl_8 (Nat.le_of_ble_eq_true rfl) (Or.inl q1678) (Or.inl rfl) dX8_wrong_15 (fv_8_51 _ _) (ly8_k La0_h2) ?_
        refine mx_callV 8 (y' := mi_X8_fail) (vs := [iv (2 : Int32), iv (ah_I h2 a0 51)]) (st := []) (al' := [some (rv a0), some (iv (2 : Int32)), some (iv (ah_I h2 a0 51))]) cl_8 V_X8_fail (Or.inl q2243) dX8_wrong_18 rfl rfl (Nat.le_of_ble_eq_true rfl) (Nat.le_of_ble_eq_true rfl) (ly8_k La0_h2) ?_
        refine mx_aload_n dX8_fail_0 rfl rfl ?_
        refine mx_get 8 48 (ref := "PrairiePoolModel") cl_8 (Nat.le_of_ble_eq_true rfl) (Or.inl q1675) (Or.inl rfl) dX8_fail_1 (fv_8_48 _ _) (ly8_k La0_h2) ?_
        refine mx_if_le (tgt := 8) dX8_fail_4 rfl (fun c6 => ?_) (fun c6 => ?_)
        · have H := H.1 c6
          refine mx_aload_n dX8_fail_8 rfl rfl ?_
          refine mx_iload_n dX8_fail_9 rfl rfl ?_
          refine mx_putI 8 48 (ref := "PrairiePoolModel") cl_8 (Nat.le_of_ble_eq_true rfl) (Or.inl q1675) (Or.inl rfl) dX8_fail_10 (Or.inl rfl) rfl (ly8_k La0_h2) ?_
          refine mx_nmI  (fun h7 eh7 Xh7 Kh7 Lh7 => ?_)
          have H := H h7 eh7 Xh7
          have La0_h7 := La0_h2.ext Xh7
          refine mx_aload_n dX8_fail_13 rfl rfl ?_
          refine mx_iload_n dX8_fail_14 rfl rfl ?_
          refine mx_putI 8 49 (ref := "PrairiePoolModel") cl_8 (Nat.le_of_ble_eq_true rfl) (Or.inl q1676) (Or.inl rfl) dX8_fail_15 (Or.inl rfl) rfl (ly8_k La0_h7) ?_
          refine mx_nmI  (fun h8 eh8 Xh8 Kh8 Lh8 => ?_)
          have H := H h8 eh8 Xh8
          have Kh8 := Kh8.trans Kh7
          have Lh8 := Lh8.trans Lh7
          have La0_h8 := La0_h7.ext Xh8
          refine mx_vretK rfl dX8_fail_18 ?_
          refine mx_vretK rfl dX8_wrong_21 ?_
          exact mx_vret rfl dX8_readDef_100 H
        · have H := H.2 c6
          refine mx_vretK rfl dX8_fail_7 ?_
          refine mx_vretK rfl dX8_wrong_21 ?_
          exact mx_vret rfl dX8_readDef_100 H
      · have H := H.2 c5
        refine mx_iconst dX8_wrong_9 ic_1 ?_
        refine mx_goto (tgt := 14) dX8_wrong_10 rfl ?_
        refine mx_aload_n dX8_wrong_14 rfl rfl ?_
        refine mx_get 8 51 (ref := "PrairiePoolModel") cl_8 (Nat.le_of_ble_eq_true rfl) (Or.inl q1678) (Or.inl rfl) dX8_wrong_15 (fv_8_51 _ _) (ly8_k La0_h2) ?_
        refine mx_callV 8 (y' := mi_X8_fail) (vs := [iv (1 : Int32), iv (ah_I h2 a0 51)]) (st := []) (al' := [some (rv a0), some (iv (1 : Int32)), some (iv (ah_I h2 a0 51))]) cl_8 V_X8_fail (Or.inl q2243) dX8_wrong_18 rfl rfl (Nat.le_of_ble_eq_true rfl) (Nat.le_of_ble_eq_true rfl) (ly8_k La0_h2) ?_
        refine mx_aload_n dX8_fail_0 rfl rfl ?_
        refine mx_get 8 48 (ref := "PrairiePoolModel") cl_8 (Nat.le_of_ble_eq_true rfl) (Or.inl q1675) (Or.inl rfl) dX8_fail_1 (fv_8_48 _ _) (ly8_k La0_h2) ?_
        refine mx_if_le (tgt := 8) dX8_fail_4 rfl (fun c9 => ?_) (fun c9 => ?_)
        · have H := H.1 c9
          refine mx_aload_n dX8_fail_8 rfl rfl ?_
          refine mx_iload_n dX8_fail_9 rfl rfl ?_
          refine mx_putI 8 48 (ref := "PrairiePoolModel") cl_8 (Nat.le_of_ble_eq_true rfl) (Or.inl q1675) (Or.inl rfl) dX8_fail_10 (Or.inl rfl) rfl (ly8_k La0_h2) ?_
          refine mx_nmI  (fun h10 eh10 Xh10 Kh10 Lh10 => ?_)
          have H := H h10 eh10 Xh10
          have La0_h10 := La0_h2.ext Xh10
          refine mx_aload_n dX8_fail_13 rfl rfl ?_
          refine mx_iload_n dX8_fail_14 rfl rfl ?_
          refine mx_putI 8 49 (ref := "PrairiePoolModel") cl_8 (Nat.le_of_ble_eq_true rfl) (Or.inl q1676) (Or.inl rfl) dX8_fail_15 (Or.inl rfl) rfl (ly8_k La0_h10) ?_
          refine mx_nmI  (fun h11 eh11 Xh11 Kh11 Lh11 => ?_)
          have H := H h11 eh11 Xh11
          have Kh11 := Kh11.trans Kh10
          have Lh11 := Lh11.trans Lh10
          have La0_h11 := La0_h10.ext Xh11
          refine mx_vretK rfl dX8_fail_18 ?_
          refine mx_vretK rfl dX8_wrong_21 ?_
          exact mx_vret rfl dX8_readDef_100 H
        · have H := H.2 c9
          refine mx_vretK rfl dX8_fail_7 ?_
          refine mx_vretK rfl dX8_wrong_21 ?_
          exact mx_vret rfl dX8_readDef_100 H
    · have H := H.2 c4
      refine mx_aload_n dX8_isSign_8 rfl rfl ?_
      refine mx_get 8 53 (ref := "PrairiePoolModel") cl_8 (Nat.le_of_ble_eq_true rfl) (Or.inl q1680) (Or.inl rfl) dX8_isSign_9 (fv_8_53 _ _) (ly8_k La0_h2) ?_
      refine mx_iload_n dX8_isSign_12 rfl rfl ?_
      refine mx_icmp_ne (tgt := 20) dX8_isSign_13 rfl (fun c12 => ?_) (fun c12 => ?_)
      · have H := H.1 c12
        refine mx_iconst dX8_isSign_20 ic_0 ?_
        refine mx_zretK rfl dX8_isSign_21 (Or.inl rfl) ?_
        refine mx_if_ne (tgt := 101) dX8_readDef_93 rfl (fun _ => absurd ‹_› (by decide)) (fun _ => ?_)
        refine mx_aload_n dX8_readDef_96 rfl rfl ?_
        refine mx_callV 8 (y' := mi_X8_wrong) (vs := []) (st := []) (al' := [some (rv a0)]) cl_8 V_X8_wrong (Or.inl q2239) dX8_readDef_97 rfl rfl (Nat.le_of_ble_eq_true rfl) (Nat.le_of_ble_eq_true rfl) (ly8_k La0_h2) ?_
        refine mx_aload_n dX8_wrong_0 rfl rfl ?_
        refine mx_aload_n dX8_wrong_1 rfl rfl ?_
        refine mx_get 8 50 (ref := "PrairiePoolModel") cl_8 (Nat.le_of_ble_eq_true rfl) (Or.inl q1677) (Or.inl rfl) dX8_wrong_2 (fv_8_50 _ _) (ly8_k La0_h2) ?_
        refine mx_iconst dX8_wrong_5 ic_4 ?_
        refine mx_icmp_ne (tgt := 13) dX8_wrong_6 rfl (fun c13 => ?_) (fun c13 => ?_)
        · have H := H.1 c13
          refine mx_iconst dX8_wrong_13 ic_2 ?_
          refine mx_aload_n dX8_wrong_14 rfl rfl ?_
          refine mx_get 8 51 (ref := "PrairiePoolModel") cl_8 (Nat.le_of_ble_eq_true rfl) (Or.inl q1678) (Or.inl rfl) dX8_wrong_15 (fv_8_51 _ _) (ly8_k La0_h2) ?_
          refine mx_callV 8 (y' := mi_X8_fail) (vs := [iv (2 : Int32), iv (ah_I h2 a0 51)]) (st := []) (al' := [some (rv a0), some (iv (2 : Int32)), some (iv (ah_I h2 a0 51))]) cl_8 V_X8_fail (Or.inl q2243) dX8_wrong_18 rfl rfl (Nat.le_of_ble_eq_true rfl) (Nat.le_of_ble_eq_true rfl) (ly8_k La0_h2) ?_
          refine mx_aload_n dX8_fail_0 rfl rfl ?_
          refine mx_get 8 48 (ref := "PrairiePoolModel") cl_8 (Nat.le_of_ble_eq_true rfl) (Or.inl q1675) (Or.inl rfl) dX8_fail_1 (fv_8_48 _ _) (ly8_k La0_h2) ?_
          refine mx_if_le (tgt := 8) dX8_fail_4 rfl (fun c14 => ?_) (fun c14 => ?_)
          · have H := H.1 c14
            refine mx_aload_n dX8_fail_8 rfl rfl ?_
            refine mx_iload_n dX8_fail_9 rfl rfl ?_
            refine mx_putI 8 48 (ref := "PrairiePoolModel") cl_8 (Nat.le_of_ble_eq_true rfl) (Or.inl q1675) (Or.inl rfl) dX8_fail_10 (Or.inl rfl) rfl (ly8_k La0_h2) ?_
            refine mx_nmI  (fun h15 eh15 Xh15 Kh15 Lh15 => ?_)
            have H := H h15 eh15 Xh15
            have La0_h15 := La0_h2.ext Xh15
            refine mx_aload_n dX8_fail_13 rfl rfl ?_
            refine mx_iload_n dX8_fail_14 rfl rfl ?_
            refine mx_putI 8 49 (ref := "PrairiePoolModel") cl_8 (Nat.le_of_ble_eq_true rfl) (Or.inl q1676) (Or.inl rfl) dX8_fail_15 (Or.inl rfl) rfl (ly8_k La0_h15) ?_
            refine mx_nmI  (fun h16 eh16 Xh16 Kh16 Lh16 => ?_)
            have H := H h16 eh16 Xh16
            have Kh16 := Kh16.trans Kh15
            have Lh16 := Lh16.trans Lh15
            have La0_h16 := La0_h15.ext Xh16
            refine mx_vretK rfl dX8_fail_18 ?_
            refine mx_vretK rfl dX8_wrong_21 ?_
            exact mx_vret rfl dX8_readDef_100 H
          · have H := H.2 c14
            refine mx_vretK rfl dX8_fail_7 ?_
            refine mx_vretK rfl dX8_wrong_21 ?_
            exact mx_vret rfl dX8_readDef_100 H
        · have H := H.2 c13
          refine mx_iconst dX8_wrong_9 ic_1 ?_
          refine mx_goto (tgt := 14) dX8_wrong_10 rfl ?_
          refine mx_aload_n dX8_wrong_14 rfl rfl ?_
          refine mx_get 8 51 (ref := "PrairiePoolModel") cl_8 (Nat.le_of_ble_eq_true rfl) (Or.inl q1678) (Or.inl rfl) dX8_wrong_15 (fv_8_51 _ _) (ly8_k La0_h2) ?_
          refine mx_callV 8 (y' := mi_X8_fail) (vs := [iv (1 : Int32), iv (ah_I h2 a0 51)]) (st := []) (al' := [some (rv a0), some (iv (1 : Int32)), some (iv (ah_I h2 a0 51))]) cl_8 V_X8_fail (Or.inl q2243) dX8_wrong_18 rfl rfl (Nat.le_of_ble_eq_true rfl) (Nat.le_of_ble_eq_true rfl) (ly8_k La0_h2) ?_
          refine mx_aload_n dX8_fail_0 rfl rfl ?_
          refine mx_get 8 48 (ref := "PrairiePoolModel") cl_8 (Nat.le_of_ble_eq_true rfl) (Or.inl q1675) (Or.inl rfl) dX8_fail_1 (fv_8_48 _ _) (ly8_k La0_h2) ?_
          refine mx_if_le (tgt := 8) dX8_fail_4 rfl (fun c17 => ?_) (fun c17 => ?_)
          · have H := H.1 c17
            refine mx_aload_n dX8_fail_8 rfl rfl ?_
            refine mx_iload_n dX8_fail_9 rfl rfl ?_
            refine mx_putI 8 48 (ref := "PrairiePoolModel") cl_8 (Nat.le_of_ble_eq_true rfl) (Or.inl q1675) (Or.inl rfl) dX8_fail_10 (Or.inl rfl) rfl (ly8_k La0_h2) ?_
            refine mx_nmI  (fun h18 eh18 Xh18 Kh18 Lh18 => ?_)
            have H := H h18 eh18 Xh18
            have La0_h18 := La0_h2.ext Xh18
            refine mx_aload_n dX8_fail_13 rfl rfl ?_
            refine mx_iload_n dX8_fail_14 rfl rfl ?_
            refine mx_putI 8 49 (ref := "PrairiePoolModel") cl_8 (Nat.le_of_ble_eq_true rfl) (Or.inl q1676) (Or.inl rfl) dX8_fail_15 (Or.inl rfl) rfl (ly8_k La0_h18) ?_
            refine mx_nmI  (fun h19 eh19 Xh19 Kh19 Lh19 => ?_)
            have H := H h19 eh19 Xh19
            have Kh19 := Kh19.trans Kh18
            have Lh19 := Lh19.trans Lh18
            have La0_h19 := La0_h18.ext Xh19
            refine mx_vretK rfl dX8_fail_18 ?_
            refine mx_vretK rfl dX8_wrong_21 ?_
            exact mx_vret rfl dX8_readDef_100 H
          · have H := H.2 c17
            refine mx_vretK rfl dX8_fail_7 ?_
            refine mx_vretK rfl dX8_wrong_21 ?_
            exact mx_vret rfl dX8_readDef_100 H
      · have H := H.2 c12
        refine mx_iconst dX8_isSign_16 ic_1 ?_
        refine mx_goto (tgt := 21) dX8_isSign_17 rfl ?_
        refine mx_zretK rfl dX8_isSign_21 (Or.inr rfl) ?_
        refine mx_if_ne (tgt := 101) dX8_readDef_93 rfl (fun _ => ?_) (fun _ => absurd ‹_› (by decide))
        refine mx_aload_n dX8_readDef_101 rfl rfl ?_
        refine mx_callV 8 (y' := mi_X8_next) (vs := []) (st := []) (al' := [some (rv a0), none]) cl_8 V_X8_next (Or.inl q2170) dX8_readDef_102 rfl rfl (Nat.le_of_ble_eq_true rfl) (Nat.le_of_ble_eq_true rfl) (ly8_k La0_h2) ?_
        refine ma_kv H (fun h20 Xh20 H => ?_) (fun x1 h1 X1 H => mt_out rfl H)
        have H := H Xh20
        have La0_h20 := La0_h2.ext Xh20
        refine mx_aload_n dX8_readDef_105 rfl rfl ?_
        refine mx_iconst dX8_readDef_106 ic_1 ?_
        refine mx_callV 8 (y' := mi_X8_readWhole) (vs := [iv (1 : Int32)]) (st := []) (al' := [some (rv a0), some (iv (1 : Int32)), none, none]) cl_8 V_X8_readWhole (Or.inl q2255) dX8_readDef_107 rfl rfl (Nat.le_of_ble_eq_true rfl) (Nat.le_of_ble_eq_true rfl) (ly8_k La0_h20) ?_
        refine ma_kv H (fun h22 Xh22 H => ?_) (fun x1 h1 X1 H => mt_out rfl H)
        have H := H Xh22
        have La0_h22 := La0_h20.ext Xh22
        refine mx_aload_n dX8_readDef_110 rfl rfl ?_
        refine mx_get 8 48 (ref := "PrairiePoolModel") cl_8 (Nat.le_of_ble_eq_true rfl) (Or.inl q1675) (Or.inl rfl) dX8_readDef_111 (fv_8_48 _ _) (ly8_k La0_h22) ?_
        refine mx_if_ne (tgt := 130) dX8_readDef_114 rfl (fun c24 => ?_) (fun c24 => ?_)
        · have H := H.1 c24
          exact mx_weak (al' := [some (rv a0), some (jv (ah_J h a0 55)), none]) ⟨rfl, ⟨rfl, trivial⟩⟩ H
        · have H := H.2 c24
          refine mx_aload_n dX8_readDef_117 rfl rfl ?_
          refine mx_bipush dX8_readDef_118 ib_59 ?_
          refine mx_callV 8 (y' := mi_X8_isSign) (vs := [iv (59 : Int32)]) (st := []) (al' := [some (rv a0), some (iv (59 : Int32))]) cl_8 V_X8_isSign (Or.inl q2251) dX8_readDef_120 rfl rfl (Nat.le_of_ble_eq_true rfl) (Nat.le_of_ble_eq_true rfl) (ly8_k La0_h22) ?_
          refine mx_aload_n dX8_isSign_0 rfl rfl ?_
          refine mx_get 8 50 (ref := "PrairiePoolModel") cl_8 (Nat.le_of_ble_eq_true rfl) (Or.inl q1677) (Or.inl rfl) dX8_isSign_1 (fv_8_50 _ _) (ly8_k La0_h22) ?_
          refine mx_iconst dX8_isSign_4 ic_3 ?_
          refine mx_icmp_ne (tgt := 20) dX8_isSign_5 rfl (fun c25 => ?_) (fun c25 => ?_)
          · have H := H.1 c25
            refine mx_iconst dX8_isSign_20 ic_0 ?_
            refine mx_zretK rfl dX8_isSign_21 (Or.inl rfl) ?_
            refine mx_if_ne (tgt := 130) dX8_readDef_123 rfl (fun _ => absurd ‹_› (by decide)) (fun _ => ?_)
            refine mx_aload_n dX8_readDef_126 rfl rfl ?_
            refine mx_callV 8 (y' := mi_X8_wrong) (vs := []) (st := []) (al' := [some (rv a0)]) cl_8 V_X8_wrong (Or.inl q2239) dX8_readDef_127 rfl rfl (Nat.le_of_ble_eq_true rfl) (Nat.le_of_ble_eq_true rfl) (ly8_k La0_h22) ?_
            refine mx_aload_n dX8_wrong_0 rfl rfl ?_
            refine mx_aload_n dX8_wrong_1 rfl rfl ?_
            refine mx_get 8 50 (ref := "PrairiePoolModel") cl_8 (Nat.le_of_ble_eq_true rfl) (Or.inl q1677) (Or.inl rfl) dX8_wrong_2 (fv_8_50 _ _) (ly8_k La0_h22) ?_
            refine mx_iconst dX8_wrong_5 ic_4 ?_
            refine mx_icmp_ne (tgt := 13) dX8_wrong_6 rfl (fun c26 => ?_) (fun c26 => ?_)
            · have H := H.1 c26
              refine mx_iconst dX8_wrong_13 ic_2 ?_
              refine mx_aload_n dX8_wrong_14 rfl rfl ?_
              refine mx_get 8 51 (ref := "PrairiePoolModel") cl_8 (Nat.le_of_ble_eq_true rfl) (Or.inl q1678) (Or.inl rfl) dX8_wrong_15 (fv_8_51 _ _) (ly8_k La0_h22) ?_
              refine mx_callV 8 (y' := mi_X8_fail) (vs := [iv (2 : Int32), iv (ah_I h22 a0 51)]) (st := []) (al' := [some (rv a0), some (iv (2 : Int32)), some (iv (ah_I h22 a0 51))]) cl_8 V_X8_fail (Or.inl q2243) dX8_wrong_18 rfl rfl (Nat.le_of_ble_eq_true rfl) (Nat.le_of_ble_eq_true rfl) (ly8_k La0_h22) ?_
              refine mx_aload_n dX8_fail_0 rfl rfl ?_
              refine mx_get 8 48 (ref := "PrairiePoolModel") cl_8 (Nat.le_of_ble_eq_true rfl) (Or.inl q1675) (Or.inl rfl) dX8_fail_1 (fv_8_48 _ _) (ly8_k La0_h22) ?_
              refine mx_if_le (tgt := 8) dX8_fail_4 rfl (fun c27 => ?_) (fun c27 => ?_)
              · have H := H.1 c27
                refine mx_aload_n dX8_fail_8 rfl rfl ?_
                refine mx_iload_n dX8_fail_9 rfl rfl ?_
                refine mx_putI 8 48 (ref := "PrairiePoolModel") cl_8 (Nat.le_of_ble_eq_true rfl) (Or.inl q1675) (Or.inl rfl) dX8_fail_10 (Or.inl rfl) rfl (ly8_k La0_h22) ?_
                refine mx_nmI  (fun h28 eh28 Xh28 Kh28 Lh28 => ?_)
                have H := H h28 eh28 Xh28
                have La0_h28 := La0_h22.ext Xh28
                refine mx_aload_n dX8_fail_13 rfl rfl ?_
                refine mx_iload_n dX8_fail_14 rfl rfl ?_
                refine mx_putI 8 49 (ref := "PrairiePoolModel") cl_8 (Nat.le_of_ble_eq_true rfl) (Or.inl q1676) (Or.inl rfl) dX8_fail_15 (Or.inl rfl) rfl (ly8_k La0_h28) ?_
                refine mx_nmI  (fun h29 eh29 Xh29 Kh29 Lh29 => ?_)
                have H := H h29 eh29 Xh29
                have Kh29 := Kh29.trans Kh28
                have Lh29 := Lh29.trans Lh28
                have La0_h29 := La0_h28.ext Xh29
                refine mx_vretK rfl dX8_fail_18 ?_
                refine mx_vretK rfl dX8_wrong_21 ?_
                exact mx_weak (al' := [some (rv a0), some (jv (ah_J h a0 55)), none]) ⟨rfl, ⟨rfl, trivial⟩⟩ H
              · have H := H.2 c27
                refine mx_vretK rfl dX8_fail_7 ?_
                refine mx_vretK rfl dX8_wrong_21 ?_
                exact mx_weak (al' := [some (rv a0), some (jv (ah_J h a0 55)), none]) ⟨rfl, ⟨rfl, trivial⟩⟩ H
            · have H := H.2 c26
              refine mx_iconst dX8_wrong_9 ic_1 ?_
              refine mx_goto (tgt := 14) dX8_wrong_10 rfl ?_
              refine mx_aload_n dX8_wrong_14 rfl rfl ?_
              refine mx_get 8 51 (ref := "PrairiePoolModel") cl_8 (Nat.le_of_ble_eq_true rfl) (Or.inl q1678) (Or.inl rfl) dX8_wrong_15 (fv_8_51 _ _) (ly8_k La0_h22) ?_
              refine mx_callV 8 (y' := mi_X8_fail) (vs := [iv (1 : Int32), iv (ah_I h22 a0 51)]) (st := []) (al' := [some (rv a0), some (iv (1 : Int32)), some (iv (ah_I h22 a0 51))]) cl_8 V_X8_fail (Or.inl q2243) dX8_wrong_18 rfl rfl (Nat.le_of_ble_eq_true rfl) (Nat.le_of_ble_eq_true rfl) (ly8_k La0_h22) ?_
              refine mx_aload_n dX8_fail_0 rfl rfl ?_
              refine mx_get 8 48 (ref := "PrairiePoolModel") cl_8 (Nat.le_of_ble_eq_true rfl) (Or.inl q1675) (Or.inl rfl) dX8_fail_1 (fv_8_48 _ _) (ly8_k La0_h22) ?_
              refine mx_if_le (tgt := 8) dX8_fail_4 rfl (fun c30 => ?_) (fun c30 => ?_)
              · have H := H.1 c30
                refine mx_aload_n dX8_fail_8 rfl rfl ?_
                refine mx_iload_n dX8_fail_9 rfl rfl ?_
                refine mx_putI 8 48 (ref := "PrairiePoolModel") cl_8 (Nat.le_of_ble_eq_true rfl) (Or.inl q1675) (Or.inl rfl) dX8_fail_10 (Or.inl rfl) rfl (ly8_k La0_h22) ?_
                refine mx_nmI  (fun h31 eh31 Xh31 Kh31 Lh31 => ?_)
                have H := H h31 eh31 Xh31
                have La0_h31 := La0_h22.ext Xh31
                refine mx_aload_n dX8_fail_13 rfl rfl ?_
                refine mx_iload_n dX8_fail_14 rfl rfl ?_
                refine mx_putI 8 49 (ref := "PrairiePoolModel") cl_8 (Nat.le_of_ble_eq_true rfl) (Or.inl q1676) (Or.inl rfl) dX8_fail_15 (Or.inl rfl) rfl (ly8_k La0_h31) ?_
                refine mx_nmI  (fun h32 eh32 Xh32 Kh32 Lh32 => ?_)
                have H := H h32 eh32 Xh32
                have Kh32 := Kh32.trans Kh31
                have Lh32 := Lh32.trans Lh31
                have La0_h32 := La0_h31.ext Xh32
                refine mx_vretK rfl dX8_fail_18 ?_
                refine mx_vretK rfl dX8_wrong_21 ?_
                exact mx_weak (al' := [some (rv a0), some (jv (ah_J h a0 55)), none]) ⟨rfl, ⟨rfl, trivial⟩⟩ H
              · have H := H.2 c30
                refine mx_vretK rfl dX8_fail_7 ?_
                refine mx_vretK rfl dX8_wrong_21 ?_
                exact mx_weak (al' := [some (rv a0), some (jv (ah_J h a0 55)), none]) ⟨rfl, ⟨rfl, trivial⟩⟩ H
          · have H := H.2 c25
            refine mx_aload_n dX8_isSign_8 rfl rfl ?_
            refine mx_get 8 53 (ref := "PrairiePoolModel") cl_8 (Nat.le_of_ble_eq_true rfl) (Or.inl q1680) (Or.inl rfl) dX8_isSign_9 (fv_8_53 _ _) (ly8_k La0_h22) ?_
            refine mx_iload_n dX8_isSign_12 rfl rfl ?_
            refine mx_icmp_ne (tgt := 20) dX8_isSign_13 rfl (fun c33 => ?_) (fun c33 => ?_)
            · have H := H.1 c33
              refine mx_iconst dX8_isSign_20 ic_0 ?_
              refine mx_zretK rfl dX8_isSign_21 (Or.inl rfl) ?_
              refine mx_if_ne (tgt := 130) dX8_readDef_123 rfl (fun _ => absurd ‹_› (by decide)) (fun _ => ?_)
              refine mx_aload_n dX8_readDef_126 rfl rfl ?_
              refine mx_callV 8 (y' := mi_X8_wrong) (vs := []) (st := []) (al' := [some (rv a0)]) cl_8 V_X8_wrong (Or.inl q2239) dX8_readDef_127 rfl rfl (Nat.le_of_ble_eq_true rfl) (Nat.le_of_ble_eq_true rfl) (ly8_k La0_h22) ?_
              refine mx_aload_n dX8_wrong_0 rfl rfl ?_
              refine mx_aload_n dX8_wrong_1 rfl rfl ?_
              refine mx_get 8 50 (ref := "PrairiePoolModel") cl_8 (Nat.le_of_ble_eq_true rfl) (Or.inl q1677) (Or.inl rfl) dX8_wrong_2 (fv_8_50 _ _) (ly8_k La0_h22) ?_
              refine mx_iconst dX8_wrong_5 ic_4 ?_
              refine mx_icmp_ne (tgt := 13) dX8_wrong_6 rfl (fun c34 => ?_) (fun c34 => ?_)
              · have H := H.1 c34
                refine mx_iconst dX8_wrong_13 ic_2 ?_
                refine mx_aload_n dX8_wrong_14 rfl rfl ?_
                refine mx_get 8 51 (ref := "PrairiePoolModel") cl_8 (Nat.le_of_ble_eq_true rfl) (Or.inl q1678) (Or.inl rfl) dX8_wrong_15 (fv_8_51 _ _) (ly8_k La0_h22) ?_
                refine mx_callV 8 (y' := mi_X8_fail) (vs := [iv (2 : Int32), iv (ah_I h22 a0 51)]) (st := []) (al' := [some (rv a0), some (iv (2 : Int32)), some (iv (ah_I h22 a0 51))]) cl_8 V_X8_fail (Or.inl q2243) dX8_wrong_18 rfl rfl (Nat.le_of_ble_eq_true rfl) (Nat.le_of_ble_eq_true rfl) (ly8_k La0_h22) ?_
                refine mx_aload_n dX8_fail_0 rfl rfl ?_
                refine mx_get 8 48 (ref := "PrairiePoolModel") cl_8 (Nat.le_of_ble_eq_true rfl) (Or.inl q1675) (Or.inl rfl) dX8_fail_1 (fv_8_48 _ _) (ly8_k La0_h22) ?_
                refine mx_if_le (tgt := 8) dX8_fail_4 rfl (fun c35 => ?_) (fun c35 => ?_)
                · have H := H.1 c35
                  refine mx_aload_n dX8_fail_8 rfl rfl ?_
                  refine mx_iload_n dX8_fail_9 rfl rfl ?_
                  refine mx_putI 8 48 (ref := "PrairiePoolModel") cl_8 (Nat.le_of_ble_eq_true rfl) (Or.inl q1675) (Or.inl rfl) dX8_fail_10 (Or.inl rfl) rfl (ly8_k La0_h22) ?_
                  refine mx_nmI  (fun h36 eh36 Xh36 Kh36 Lh36 => ?_)
                  have H := H h36 eh36 Xh36
                  have La0_h36 := La0_h22.ext Xh36
                  refine mx_aload_n dX8_fail_13 rfl rfl ?_
                  refine mx_iload_n dX8_fail_14 rfl rfl ?_
                  refine mx_putI 8 49 (ref := "PrairiePoolModel") cl_8 (Nat.le_of_ble_eq_true rfl) (Or.inl q1676) (Or.inl rfl) dX8_fail_15 (Or.inl rfl) rfl (ly8_k La0_h36) ?_
                  refine mx_nmI  (fun h37 eh37 Xh37 Kh37 Lh37 => ?_)
                  have H := H h37 eh37 Xh37
                  have Kh37 := Kh37.trans Kh36
                  have Lh37 := Lh37.trans Lh36
                  have La0_h37 := La0_h36.ext Xh37
                  refine mx_vretK rfl dX8_fail_18 ?_
                  refine mx_vretK rfl dX8_wrong_21 ?_
                  exact mx_weak (al' := [some (rv a0), some (jv (ah_J h a0 55)), none]) ⟨rfl, ⟨rfl, trivial⟩⟩ H
                · have H := H.2 c35
                  refine mx_vretK rfl dX8_fail_7 ?_
                  refine mx_vretK rfl dX8_wrong_21 ?_
                  exact mx_weak (al' := [some (rv a0), some (jv (ah_J h a0 55)), none]) ⟨rfl, ⟨rfl, trivial⟩⟩ H
              · have H := H.2 c34
                refine mx_iconst dX8_wrong_9 ic_1 ?_
                refine mx_goto (tgt := 14) dX8_wrong_10 rfl ?_
                refine mx_aload_n dX8_wrong_14 rfl rfl ?_
                refine mx_get 8 51 (ref := "PrairiePoolModel") cl_8 (Nat.le_of_ble_eq_true rfl) (Or.inl q1678) (Or.inl rfl) dX8_wrong_15 (fv_8_51 _ _) (ly8_k La0_h22) ?_
                refine mx_callV 8 (y' := mi_X8_fail) (vs := [iv (1 : Int32), iv (ah_I h22 a0 51)]) (st := []) (al' := [some (rv a0), some (iv (1 : Int32)), some (iv (ah_I h22 a0 51))]) cl_8 V_X8_fail (Or.inl q2243) dX8_wrong_18 rfl rfl (Nat.le_of_ble_eq_true rfl) (Nat.le_of_ble_eq_true rfl) (ly8_k La0_h22) ?_
                refine mx_aload_n dX8_fail_0 rfl rfl ?_
                refine mx_get 8 48 (ref := "PrairiePoolModel") cl_8 (Nat.le_of_ble_eq_true rfl) (Or.inl q1675) (Or.inl rfl) dX8_fail_1 (fv_8_48 _ _) (ly8_k La0_h22) ?_
                refine mx_if_le (tgt := 8) dX8_fail_4 rfl (fun c38 => ?_) (fun c38 => ?_)
                · have H := H.1 c38
                  refine mx_aload_n dX8_fail_8 rfl rfl ?_
                  refine mx_iload_n dX8_fail_9 rfl rfl ?_
                  refine mx_putI 8 48 (ref := "PrairiePoolModel") cl_8 (Nat.le_of_ble_eq_true rfl) (Or.inl q1675) (Or.inl rfl) dX8_fail_10 (Or.inl rfl) rfl (ly8_k La0_h22) ?_
                  refine mx_nmI  (fun h39 eh39 Xh39 Kh39 Lh39 => ?_)
                  have H := H h39 eh39 Xh39
                  have La0_h39 := La0_h22.ext Xh39
                  refine mx_aload_n dX8_fail_13 rfl rfl ?_
                  refine mx_iload_n dX8_fail_14 rfl rfl ?_
                  refine mx_putI 8 49 (ref := "PrairiePoolModel") cl_8 (Nat.le_of_ble_eq_true rfl) (Or.inl q1676) (Or.inl rfl) dX8_fail_15 (Or.inl rfl) rfl (ly8_k La0_h39) ?_
                  refine mx_nmI  (fun h40 eh40 Xh40 Kh40 Lh40 => ?_)
                  have H := H h40 eh40 Xh40
                  have Kh40 := Kh40.trans Kh39
                  have Lh40 := Lh40.trans Lh39
                  have La0_h40 := La0_h39.ext Xh40
                  refine mx_vretK rfl dX8_fail_18 ?_
                  refine mx_vretK rfl dX8_wrong_21 ?_
                  exact mx_weak (al' := [some (rv a0), some (jv (ah_J h a0 55)), none]) ⟨rfl, ⟨rfl, trivial⟩⟩ H
                · have H := H.2 c38
                  refine mx_vretK rfl dX8_fail_7 ?_
                  refine mx_vretK rfl dX8_wrong_21 ?_
                  exact mx_weak (al' := [some (rv a0), some (jv (ah_J h a0 55)), none]) ⟨rfl, ⟨rfl, trivial⟩⟩ H
            · have H := H.2 c33
              refine mx_iconst dX8_isSign_16 ic_1 ?_
              refine mx_goto (tgt := 21) dX8_isSign_17 rfl ?_
              refine mx_zretK rfl dX8_isSign_21 (Or.inr rfl) ?_
              refine mx_if_ne (tgt := 130) dX8_readDef_123 rfl (fun _ => ?_) (fun _ => absurd ‹_› (by decide))
              exact mx_weak (al' := [some (rv a0), some (jv (ah_J h a0 55)), none]) ⟨rfl, ⟨rfl, trivial⟩⟩ H
  · have H := H.2 c1
    exact mx_vret rfl dX8_readDef_77 H
theorem v_X8_readDef_130 {G : ma_G} {d : Nat} {a0 : Nat} {x1 : Int64} {h : ah_T} {Q : Option ma_V → ah_T → Prop} {E : Nat → ah_T → Prop} (La0_h : LY8 h a0) (H : ((ah_I h a0 48) ≤ 0 → MX G mi_X8_next (d + 1) 0 [some (rv a0), none] [] h (Qv fun h2 => ah_ext h h2 → vp_in (ah_I h2 a0 57) 10 ∧ ∀ h5 : ah_T, h5 = ah_wJ h2 (a0 + 43) (ah_I h2 a0 57).toNatClampNeg x1 → ah_ext h2 h5 → ∀ h6 : ah_T, h6 = ah_wI h5 a0 57 ((ah_I h2 a0 57) + (1 : Int32)) → ah_ext h5 h6 → vp_in ((ah_I h2 a0 57) + (1 : Int32)) 11 ∧ ∀ h8 : ah_T, h8 = ah_wI h6 (a0 + 40) ((ah_I h2 a0 57) + (1 : Int32)).toNatClampNeg (ah_I h2 a0 58) → ah_ext h6 h8 → Q none h8) E) ∧ (¬ (ah_I h a0 48) ≤ 0 → Q none h)) : MX G mi_X8_readDef (d + 2) 130 [some (rv a0), some (jv x1), none] [] h Q E := by
  refine mx_aload_n dX8_readDef_130 rfl rfl ?_
  refine mx_get 8 48 (ref := "PrairiePoolModel") cl_8 (Nat.le_of_ble_eq_true rfl) (Or.inl q1675) (Or.inl rfl) dX8_readDef_131 (fv_8_48 _ _) (ly8_k La0_h) ?_
  refine mx_if_le (tgt := 138) dX8_readDef_134 rfl (fun c1 => ?_) (fun c1 => ?_)
  · have H := H.1 c1
    refine mx_aload_n dX8_readDef_138 rfl rfl ?_
    refine mx_callV 8 (y' := mi_X8_next) (vs := []) (st := []) (al' := [some (rv a0), none]) cl_8 V_X8_next (Or.inl q2170) dX8_readDef_139 rfl rfl (Nat.le_of_ble_eq_true rfl) (Nat.le_of_ble_eq_true rfl) (ly8_k La0_h) ?_
    refine ma_kv H (fun h2 Xh2 H => ?_) (fun x1 h1 X1 H => mt_out rfl H)
    have H := H Xh2
    have La0_h2 := La0_h.ext Xh2
    refine mx_aload_n dX8_readDef_142 rfl rfl ?_
    refine mx_get 8 66 (ref := "PrairiePoolModel") cl_8 (Nat.le_of_ble_eq_true rfl) (Or.inl q1693) (Or.inl rfl) dX8_readDef_143 (fv_8_66 _ _) (ly8_k La0_h2) ?_
    refine mx_tr (ly8_R_0_66 La0_h2) ?_
    refine mx_aload_n dX8_readDef_146 rfl rfl ?_
    refine mx_get 8 57 (ref := "PrairiePoolModel") cl_8 (Nat.le_of_ble_eq_true rfl) (Or.inl q1684) (Or.inl rfl) dX8_readDef_147 (fv_8_57 _ _) (ly8_k La0_h2) ?_
    refine mx_lload_n dX8_readDef_150 rfl rfl ?_
    obtain ⟨k4, H⟩ := H
    refine my_last dX8_readDef_151 rfl (ly8_A_43 La0_h2 k4) ?_
    refine mx_nmJ  (fun h5 eh5 Xh5 Kh5 Lh5 => ?_)
    have H := H h5 eh5 Xh5
    have La0_h5 := La0_h2.ext Xh5
    refine mx_aload_n dX8_readDef_152 rfl rfl ?_
    refine mx_dup_r dX8_readDef_153 ?_
    refine mx_get 8 57 (ref := "PrairiePoolModel") cl_8 (Nat.le_of_ble_eq_true rfl) (Or.inl q1684) (Or.inl rfl) dX8_readDef_154 (fv_8_57 _ _) (ly8_k La0_h5) ?_
    refine mx_ti (ah_IJ eh5) ?_
    refine mx_iconst dX8_readDef_157 ic_1 ?_
    refine mx_iadd dX8_readDef_158 ?_
    refine mx_putI 8 57 (ref := "PrairiePoolModel") cl_8 (Nat.le_of_ble_eq_true rfl) (Or.inl q1684) (Or.inl rfl) dX8_readDef_159 (Or.inl rfl) rfl (ly8_k La0_h5) ?_
    refine mx_nmI  (fun h6 eh6 Xh6 Kh6 Lh6 => ?_)
    have H := H h6 eh6 Xh6
    have Kh6 := Kh6.trans Kh5
    have Lh6 := Lh6.trans Lh5
    have La0_h6 := La0_h5.ext Xh6
    refine mx_aload_n dX8_readDef_162 rfl rfl ?_
    refine mx_get 8 63 (ref := "PrairiePoolModel") cl_8 (Nat.le_of_ble_eq_true rfl) (Or.inl q1690) (Or.inl rfl) dX8_readDef_163 (fv_8_63 _ _) (ly8_k La0_h6) ?_
    refine mx_tr (ly8_R_0_63 La0_h6) ?_
    refine mx_aload_n dX8_readDef_166 rfl rfl ?_
    refine mx_get 8 57 (ref := "PrairiePoolModel") cl_8 (Nat.le_of_ble_eq_true rfl) (Or.inl q1684) (Or.inl rfl) dX8_readDef_167 (fv_8_57 _ _) (ly8_k La0_h6) ?_
    refine mx_ti (ah_hitI eh6) ?_
    refine mx_aload_n dX8_readDef_170 rfl rfl ?_
    refine mx_get 8 58 (ref := "PrairiePoolModel") cl_8 (Nat.le_of_ble_eq_true rfl) (Or.inl q1685) (Or.inl rfl) dX8_readDef_171 (fv_8_58 _ _) (ly8_k La0_h6) ?_
    refine mx_ti ((ah_skIK eh6 (by decide)).trans (ah_IJ eh5)) ?_
    obtain ⟨k7, H⟩ := H
    refine my_iast dX8_readDef_174 rfl (ly8_A_40 La0_h6 k7) ?_
    refine mx_nmI  (fun h8 eh8 Xh8 Kh8 Lh8 => ?_)
    have H := H h8 eh8 Xh8
    have Kh8 := Kh8.trans Kh6
    have Lh8 := Lh8.trans Lh6
    have La0_h8 := La0_h6.ext Xh8
    exact mx_vret rfl dX8_readDef_175 H
  · have H := H.2 c1
    exact mx_vret rfl dX8_readDef_137 H
theorem dX8_variable_0 : decode mi_X8_variable.2.1 0 = .ok (.aload_n 0, 1) := by decide +kernel
theorem dX8_variable_1 : decode mi_X8_variable.2.1 1 = .ok (.bipush 103, 2) := by decide +kernel
theorem dX8_variable_3 : decode mi_X8_variable.2.1 3 = .ok (.bipush 114, 2) := by decide +kernel
theorem dX8_variable_5 : decode mi_X8_variable.2.1 5 = .ok (.bipush 97, 2) := by decide +kernel
theorem dX8_variable_7 : decode mi_X8_variable.2.1 7 = .ok (.bipush 100, 2) := by decide +kernel
theorem dX8_variable_9 : decode mi_X8_variable.2.1 9 = .ok (.bipush 101, 2) := by decide +kernel
theorem dX8_variable_11 : decode mi_X8_variable.2.1 11 = .ok (.iconst 0, 1) := by decide +kernel
theorem dX8_variable_12 : decode mi_X8_variable.2.1 12 = .ok (.invokestatic 350, 3) := by decide +kernel
theorem dX8_variable_15 : decode mi_X8_variable.2.1 15 = .ok (.invokevirtual 462, 3) := by decide +kernel
theorem dX8_variable_18 : decode mi_X8_variable.2.1 18 = .ok (.ifCond .eq 5, 3) := by decide +kernel
theorem dX8_variable_21 : decode mi_X8_variable.2.1 21 = .ok (.iconst 0, 1) := by decide +kernel
theorem dX8_variable_22 : decode mi_X8_variable.2.1 22 = .ok (.ireturn, 1) := by decide +kernel
theorem dX8_variable_23 : decode mi_X8_variable.2.1 23 = .ok (.aload_n 0, 1) := by decide +kernel
theorem dX8_variable_24 : decode mi_X8_variable.2.1 24 = .ok (.ldc2_w 466, 3) := by decide +kernel
theorem dX8_variable_27 : decode mi_X8_variable.2.1 27 = .ok (.invokevirtual 462, 3) := by decide +kernel
theorem dX8_variable_30 : decode mi_X8_variable.2.1 30 = .ok (.ifCond .eq 5, 3) := by decide +kernel
theorem dX8_variable_33 : decode mi_X8_variable.2.1 33 = .ok (.iconst 1, 1) := by decide +kernel
theorem dX8_variable_34 : decode mi_X8_variable.2.1 34 = .ok (.ireturn, 1) := by decide +kernel
theorem dX8_variable_35 : decode mi_X8_variable.2.1 35 = .ok (.aload_n 0, 1) := by decide +kernel
theorem dX8_variable_36 : decode mi_X8_variable.2.1 36 = .ok (.bipush 119, 2) := by decide +kernel
theorem dX8_variable_38 : decode mi_X8_variable.2.1 38 = .ok (.bipush 101, 2) := by decide +kernel
theorem dX8_variable_40 : decode mi_X8_variable.2.1 40 = .ok (.bipush 101, 2) := by decide +kernel
theorem dX8_variable_42 : decode mi_X8_variable.2.1 42 = .ok (.bipush 107, 2) := by decide +kernel
theorem dX8_variable_44 : decode mi_X8_variable.2.1 44 = .ok (.iconst 0, 1) := by decide +kernel
theorem dX8_variable_45 : decode mi_X8_variable.2.1 45 = .ok (.iconst 0, 1) := by decide +kernel
theorem dX8_variable_46 : decode mi_X8_variable.2.1 46 = .ok (.invokestatic 350, 3) := by decide +kernel
theorem dX8_variable_49 : decode mi_X8_variable.2.1 49 = .ok (.invokevirtual 462, 3) := by decide +kernel
theorem dX8_variable_52 : decode mi_X8_variable.2.1 52 = .ok (.ifCond .eq 5, 3) := by decide +kernel
theorem dX8_variable_55 : decode mi_X8_variable.2.1 55 = .ok (.iconst 2, 1) := by decide +kernel
theorem dX8_variable_56 : decode mi_X8_variable.2.1 56 = .ok (.ireturn, 1) := by decide +kernel
theorem dX8_variable_57 : decode mi_X8_variable.2.1 57 = .ok (.aload_n 0, 1) := by decide +kernel
theorem dX8_variable_58 : decode mi_X8_variable.2.1 58 = .ok (.bipush 121, 2) := by decide +kernel
theorem dX8_variable_60 : decode mi_X8_variable.2.1 60 = .ok (.bipush 101, 2) := by decide +kernel
theorem dX8_variable_62 : decode mi_X8_variable.2.1 62 = .ok (.bipush 97, 2) := by decide +kernel
theorem dX8_variable_64 : decode mi_X8_variable.2.1 64 = .ok (.bipush 114, 2) := by decide +kernel
theorem dX8_variable_66 : decode mi_X8_variable.2.1 66 = .ok (.iconst 0, 1) := by decide +kernel
theorem dX8_variable_67 : decode mi_X8_variable.2.1 67 = .ok (.iconst 0, 1) := by decide +kernel
theorem dX8_variable_68 : decode mi_X8_variable.2.1 68 = .ok (.invokestatic 350, 3) := by decide +kernel
theorem dX8_variable_71 : decode mi_X8_variable.2.1 71 = .ok (.invokevirtual 462, 3) := by decide +kernel
theorem dX8_variable_74 : decode mi_X8_variable.2.1 74 = .ok (.ifCond .eq 5, 3) := by decide +kernel
theorem dX8_variable_77 : decode mi_X8_variable.2.1 77 = .ok (.iconst 3, 1) := by decide +kernel
theorem dX8_variable_78 : decode mi_X8_variable.2.1 78 = .ok (.ireturn, 1) := by decide +kernel
theorem dX8_variable_79 : decode mi_X8_variable.2.1 79 = .ok (.aload_n 0, 1) := by decide +kernel
theorem dX8_variable_80 : decode mi_X8_variable.2.1 80 = .ok (.ldc2_w 468, 3) := by decide +kernel
theorem dX8_variable_83 : decode mi_X8_variable.2.1 83 = .ok (.invokevirtual 462, 3) := by decide +kernel
theorem dX8_variable_86 : decode mi_X8_variable.2.1 86 = .ok (.ifCond .eq 5, 3) := by decide +kernel
theorem dX8_variable_89 : decode mi_X8_variable.2.1 89 = .ok (.iconst 4, 1) := by decide +kernel
theorem dX8_variable_90 : decode mi_X8_variable.2.1 90 = .ok (.ireturn, 1) := by decide +kernel
theorem dX8_variable_91 : decode mi_X8_variable.2.1 91 = .ok (.aload_n 0, 1) := by decide +kernel
theorem dX8_variable_92 : decode mi_X8_variable.2.1 92 = .ok (.bipush 97, 2) := by decide +kernel
theorem dX8_variable_94 : decode mi_X8_variable.2.1 94 = .ok (.bipush 99, 2) := by decide +kernel
theorem dX8_variable_96 : decode mi_X8_variable.2.1 96 = .ok (.bipush 114, 2) := by decide +kernel
theorem dX8_variable_98 : decode mi_X8_variable.2.1 98 = .ok (.bipush 101, 2) := by decide +kernel
theorem dX8_variable_100 : decode mi_X8_variable.2.1 100 = .ok (.bipush 115, 2) := by decide +kernel
theorem dX8_variable_102 : decode mi_X8_variable.2.1 102 = .ok (.iconst 0, 1) := by decide +kernel
theorem dX8_variable_103 : decode mi_X8_variable.2.1 103 = .ok (.invokestatic 350, 3) := by decide +kernel
theorem dX8_variable_106 : decode mi_X8_variable.2.1 106 = .ok (.invokevirtual 462, 3) := by decide +kernel
theorem dX8_variable_109 : decode mi_X8_variable.2.1 109 = .ok (.ifCond .eq 5, 3) := by decide +kernel
theorem dX8_variable_112 : decode mi_X8_variable.2.1 112 = .ok (.iconst 5, 1) := by decide +kernel
theorem dX8_variable_113 : decode mi_X8_variable.2.1 113 = .ok (.ireturn, 1) := by decide +kernel
theorem dX8_variable_114 : decode mi_X8_variable.2.1 114 = .ok (.aload_n 0, 1) := by decide +kernel
theorem dX8_variable_115 : decode mi_X8_variable.2.1 115 = .ok (.bipush 100, 2) := by decide +kernel
theorem dX8_variable_117 : decode mi_X8_variable.2.1 117 = .ok (.bipush 101, 2) := by decide +kernel
theorem dX8_variable_119 : decode mi_X8_variable.2.1 119 = .ok (.bipush 98, 2) := by decide +kernel
theorem dX8_variable_121 : decode mi_X8_variable.2.1 121 = .ok (.bipush 116, 2) := by decide +kernel
theorem dX8_variable_123 : decode mi_X8_variable.2.1 123 = .ok (.iconst 0, 1) := by decide +kernel
theorem dX8_variable_124 : decode mi_X8_variable.2.1 124 = .ok (.iconst 0, 1) := by decide +kernel
theorem dX8_variable_125 : decode mi_X8_variable.2.1 125 = .ok (.invokestatic 350, 3) := by decide +kernel
theorem dX8_variable_128 : decode mi_X8_variable.2.1 128 = .ok (.invokevirtual 462, 3) := by decide +kernel
theorem dX8_variable_131 : decode mi_X8_variable.2.1 131 = .ok (.ifCond .eq 6, 3) := by decide +kernel
theorem dX8_variable_134 : decode mi_X8_variable.2.1 134 = .ok (.bipush 6, 2) := by decide +kernel
theorem dX8_variable_136 : decode mi_X8_variable.2.1 136 = .ok (.ireturn, 1) := by decide +kernel
theorem dX8_variable_137 : decode mi_X8_variable.2.1 137 = .ok (.aload_n 0, 1) := by decide +kernel
theorem dX8_variable_138 : decode mi_X8_variable.2.1 138 = .ok (.ldc2_w 470, 3) := by decide +kernel
theorem dX8_variable_141 : decode mi_X8_variable.2.1 141 = .ok (.invokevirtual 462, 3) := by decide +kernel
theorem dX8_variable_144 : decode mi_X8_variable.2.1 144 = .ok (.ifCond .eq 6, 3) := by decide +kernel
theorem dX8_variable_147 : decode mi_X8_variable.2.1 147 = .ok (.bipush 7, 2) := by decide +kernel
theorem dX8_variable_149 : decode mi_X8_variable.2.1 149 = .ok (.ireturn, 1) := by decide +kernel
theorem dX8_variable_150 : decode mi_X8_variable.2.1 150 = .ok (.aload_n 0, 1) := by decide +kernel
theorem dX8_variable_151 : decode mi_X8_variable.2.1 151 = .ok (.bipush 99, 2) := by decide +kernel
theorem dX8_variable_153 : decode mi_X8_variable.2.1 153 = .ok (.bipush 97, 2) := by decide +kernel
theorem dX8_variable_155 : decode mi_X8_variable.2.1 155 = .ok (.bipush 114, 2) := by decide +kernel
theorem dX8_variable_157 : decode mi_X8_variable.2.1 157 = .ok (.bipush 115, 2) := by decide +kernel
theorem dX8_variable_159 : decode mi_X8_variable.2.1 159 = .ok (.iconst 0, 1) := by decide +kernel
theorem dX8_variable_160 : decode mi_X8_variable.2.1 160 = .ok (.iconst 0, 1) := by decide +kernel
theorem dX8_variable_161 : decode mi_X8_variable.2.1 161 = .ok (.invokestatic 350, 3) := by decide +kernel
theorem dX8_variable_164 : decode mi_X8_variable.2.1 164 = .ok (.invokevirtual 462, 3) := by decide +kernel
theorem dX8_variable_167 : decode mi_X8_variable.2.1 167 = .ok (.ifCond .eq 6, 3) := by decide +kernel
theorem dX8_variable_170 : decode mi_X8_variable.2.1 170 = .ok (.bipush 8, 2) := by decide +kernel
theorem dX8_variable_172 : decode mi_X8_variable.2.1 172 = .ok (.ireturn, 1) := by decide +kernel
theorem dX8_variable_173 : decode mi_X8_variable.2.1 173 = .ok (.aload_n 0, 1) := by decide +kernel
theorem dX8_variable_174 : decode mi_X8_variable.2.1 174 = .ok (.bipush 119, 2) := by decide +kernel
theorem dX8_variable_176 : decode mi_X8_variable.2.1 176 = .ok (.bipush 97, 2) := by decide +kernel
theorem dX8_variable_178 : decode mi_X8_variable.2.1 178 = .ok (.bipush 105, 2) := by decide +kernel
theorem dX8_variable_180 : decode mi_X8_variable.2.1 180 = .ok (.bipush 116, 2) := by decide +kernel
theorem dX8_variable_182 : decode mi_X8_variable.2.1 182 = .ok (.bipush 115, 2) := by decide +kernel
theorem dX8_variable_184 : decode mi_X8_variable.2.1 184 = .ok (.iconst 0, 1) := by decide +kernel
theorem dX8_variable_185 : decode mi_X8_variable.2.1 185 = .ok (.invokestatic 350, 3) := by decide +kernel
theorem dX8_variable_188 : decode mi_X8_variable.2.1 188 = .ok (.invokevirtual 462, 3) := by decide +kernel
theorem dX8_variable_191 : decode mi_X8_variable.2.1 191 = .ok (.ifCond .eq 6, 3) := by decide +kernel
theorem dX8_variable_194 : decode mi_X8_variable.2.1 194 = .ok (.bipush 9, 2) := by decide +kernel
theorem dX8_variable_196 : decode mi_X8_variable.2.1 196 = .ok (.ireturn, 1) := by decide +kernel
theorem dX8_variable_197 : decode mi_X8_variable.2.1 197 = .ok (.aload_n 0, 1) := by decide +kernel
theorem dX8_variable_198 : decode mi_X8_variable.2.1 198 = .ok (.bipush 112, 2) := by decide +kernel
theorem dX8_variable_200 : decode mi_X8_variable.2.1 200 = .ok (.bipush 114, 2) := by decide +kernel
theorem dX8_variable_202 : decode mi_X8_variable.2.1 202 = .ok (.bipush 105, 2) := by decide +kernel
theorem dX8_variable_204 : decode mi_X8_variable.2.1 204 = .ok (.bipush 99, 2) := by decide +kernel
theorem dX8_variable_206 : decode mi_X8_variable.2.1 206 = .ok (.bipush 101, 2) := by decide +kernel
theorem dX8_variable_208 : decode mi_X8_variable.2.1 208 = .ok (.iconst 0, 1) := by decide +kernel
theorem dX8_variable_209 : decode mi_X8_variable.2.1 209 = .ok (.invokestatic 350, 3) := by decide +kernel
theorem dX8_variable_212 : decode mi_X8_variable.2.1 212 = .ok (.invokevirtual 462, 3) := by decide +kernel
theorem dX8_variable_215 : decode mi_X8_variable.2.1 215 = .ok (.ifCond .eq 8, 3) := by decide +kernel
theorem dX8_variable_218 : decode mi_X8_variable.2.1 218 = .ok (.bipush 10, 2) := by decide +kernel
theorem dX8_variable_220 : decode mi_X8_variable.2.1 220 = .ok (.goto 4, 3) := by decide +kernel
theorem dX8_variable_223 : decode mi_X8_variable.2.1 223 = .ok (.iconst (-1), 1) := by decide +kernel
theorem dX8_variable_224 : decode mi_X8_variable.2.1 224 = .ok (.ireturn, 1) := by decide +kernel
theorem v_X8_variable {G : ma_G} {d : Nat} {a0 : Nat} {h : ah_T} {Q : Option ma_V → ah_T → Prop} {E : Nat → ah_T → Prop} (La0_h : LY8 h a0) (H : (¬ (ah_I h a0 50) = (1 : Int32) → Q (some (iv (-1 : Int32))) h) ∧ ((ah_I h a0 50) = (1 : Int32) → (¬ (ah_J h a0 55) = (7931013 : Int64) → (¬ (ah_J h a0 55) = (253792434 : Int64) → (¬ (ah_J h a0 55) = (758955 : Int64) → (¬ (ah_J h a0 55) = (824370 : Int64) → (¬ (ah_J h a0 55) = (2872317331 : Int64) → (¬ (ah_J h a0 55) = (1165491 : Int64) → (¬ (ah_J h a0 55) = (136276 : Int64) → (¬ (ah_J h a0 55) = (147761734772 : Int64) → (¬ (ah_J h a0 55) = (99923 : Int64) → (¬ (ah_J h a0 55) = (24159891 : Int64) → (¬ (ah_J h a0 55) = (17376357 : Int64) → Q (some (iv (-1 : Int32))) h) ∧ ((ah_J h a0 55) = (17376357 : Int64) → Q (some (iv (10 : Int32))) h)) ∧ ((ah_J h a0 55) = (24159891 : Int64) → Q (some (iv (9 : Int32))) h)) ∧ ((ah_J h a0 55) = (99923 : Int64) → Q (some (iv (8 : Int32))) h)) ∧ ((ah_J h a0 55) = (147761734772 : Int64) → Q (some (iv (7 : Int32))) h)) ∧ ((ah_J h a0 55) = (136276 : Int64) → Q (some (iv (6 : Int32))) h)) ∧ ((ah_J h a0 55) = (1165491 : Int64) → Q (some (iv (5 : Int32))) h)) ∧ ((ah_J h a0 55) = (2872317331 : Int64) → Q (some (iv (4 : Int32))) h)) ∧ ((ah_J h a0 55) = (824370 : Int64) → Q (some (iv (3 : Int32))) h)) ∧ ((ah_J h a0 55) = (758955 : Int64) → Q (some (iv (2 : Int32))) h)) ∧ ((ah_J h a0 55) = (253792434 : Int64) → Q (some (iv (1 : Int32))) h)) ∧ ((ah_J h a0 55) = (7931013 : Int64) → Q (some (iv (0 : Int32))) h))) : MX G mi_X8_variable (d + 1) 0 [some (rv a0)] [] h Q E := by
  refine mx_aload_n dX8_variable_0 rfl rfl ?_
  refine mx_bipush dX8_variable_1 ib_103 ?_
  refine mx_bipush dX8_variable_3 ib_114 ?_
  refine mx_bipush dX8_variable_5 ib_97 ?_
  refine mx_bipush dX8_variable_7 ib_100 ?_
  refine mx_bipush dX8_variable_9 ib_101 ?_
  refine mx_iconst dX8_variable_11 ic_0 ?_
  refine mx_callS (y' := mi_X8_spelled) (vs := [iv (103 : Int32), iv (114 : Int32), iv (97 : Int32), iv (100 : Int32), iv (101 : Int32), iv (0 : Int32)]) (st := [rv a0]) (al' := [some (iv (103 : Int32)), some (iv (114 : Int32)), some (iv (97 : Int32)), some (iv (100 : Int32)), some (iv (101 : Int32)), some (iv (0 : Int32)), none, none]) S_X8_spelled q2075 dX8_variable_12 rfl rfl (Nat.le_of_ble_eq_true rfl) (Nat.le_of_ble_eq_true rfl) ?_
  refine mx_iload_n dX8_spelled_0 rfl rfl ?_
  refine mx_i2l dX8_spelled_1 ?_
  refine mx_ldc2 q2078 dX8_spelled_2 ?_
  refine mx_lsub dX8_spelled_5 ?_
  refine mx_lstore (al' := [some (iv (103 : Int32)), some (iv (114 : Int32)), some (iv (97 : Int32)), some (iv (100 : Int32)), some (iv (101 : Int32)), some (iv (0 : Int32)), some (jv ((103 : Int32).toInt64 - (96 : Int64))), none]) dX8_spelled_6 (Nat.le_of_ble_eq_true rfl) rfl ?_
  refine mx_lload dX8_spelled_8 rfl ?_
  refine mx_ldc2 q2079 dX8_spelled_10 ?_
  refine mx_lmul dX8_spelled_13 ?_
  refine mx_iload_n dX8_spelled_14 rfl rfl ?_
  refine mx_i2l dX8_spelled_15 ?_
  refine mx_ladd dX8_spelled_16 ?_
  refine mx_ldc2 q2078 dX8_spelled_17 ?_
  refine mx_lsub dX8_spelled_20 ?_
  refine mx_lstore (al' := [some (iv (103 : Int32)), some (iv (114 : Int32)), some (iv (97 : Int32)), some (iv (100 : Int32)), some (iv (101 : Int32)), some (iv (0 : Int32)), some (jv (((((103 : Int32).toInt64 - (96 : Int64)) * (32 : Int64)) + (114 : Int32).toInt64) - (96 : Int64))), none]) dX8_spelled_21 (Nat.le_of_ble_eq_true rfl) rfl ?_
  refine mx_iload_n dX8_spelled_23 rfl rfl ?_
  refine mx_if_le (tgt := 43) dX8_spelled_24 rfl (fun _ => absurd ‹_› (by decide)) (fun _ => ?_)
  refine mx_lload dX8_spelled_27 rfl ?_
  refine mx_ldc2 q2079 dX8_spelled_29 ?_
  refine mx_lmul dX8_spelled_32 ?_
  refine mx_iload_n dX8_spelled_33 rfl rfl ?_
  refine mx_i2l dX8_spelled_34 ?_
  refine mx_ladd dX8_spelled_35 ?_
  refine mx_ldc2 q2078 dX8_spelled_36 ?_
  refine mx_lsub dX8_spelled_39 ?_
  refine mx_goto (tgt := 45) dX8_spelled_40 rfl ?_
  refine mx_lstore (al' := [some (iv (103 : Int32)), some (iv (114 : Int32)), some (iv (97 : Int32)), some (iv (100 : Int32)), some (iv (101 : Int32)), some (iv (0 : Int32)), some (jv ((((((((103 : Int32).toInt64 - (96 : Int64)) * (32 : Int64)) + (114 : Int32).toInt64) - (96 : Int64)) * (32 : Int64)) + (97 : Int32).toInt64) - (96 : Int64))), none]) dX8_spelled_45 (Nat.le_of_ble_eq_true rfl) rfl ?_
  refine mx_iload_n dX8_spelled_47 rfl rfl ?_
  refine mx_if_le (tgt := 67) dX8_spelled_48 rfl (fun _ => absurd ‹_› (by decide)) (fun _ => ?_)
  refine mx_lload dX8_spelled_51 rfl ?_
  refine mx_ldc2 q2079 dX8_spelled_53 ?_
  refine mx_lmul dX8_spelled_56 ?_
  refine mx_iload_n dX8_spelled_57 rfl rfl ?_
  refine mx_i2l dX8_spelled_58 ?_
  refine mx_ladd dX8_spelled_59 ?_
  refine mx_ldc2 q2078 dX8_spelled_60 ?_
  refine mx_lsub dX8_spelled_63 ?_
  refine mx_goto (tgt := 69) dX8_spelled_64 rfl ?_
  refine mx_lstore (al' := [some (iv (103 : Int32)), some (iv (114 : Int32)), some (iv (97 : Int32)), some (iv (100 : Int32)), some (iv (101 : Int32)), some (iv (0 : Int32)), some (jv (((((((((((103 : Int32).toInt64 - (96 : Int64)) * (32 : Int64)) + (114 : Int32).toInt64) - (96 : Int64)) * (32 : Int64)) + (97 : Int32).toInt64) - (96 : Int64)) * (32 : Int64)) + (100 : Int32).toInt64) - (96 : Int64))), none]) dX8_spelled_69 (Nat.le_of_ble_eq_true rfl) rfl ?_
  refine mx_iload dX8_spelled_71 rfl ?_
  refine mx_if_le (tgt := 93) dX8_spelled_73 rfl (fun _ => absurd ‹_› (by decide)) (fun _ => ?_)
  refine mx_lload dX8_spelled_76 rfl ?_
  refine mx_ldc2 q2079 dX8_spelled_78 ?_
  refine mx_lmul dX8_spelled_81 ?_
  refine mx_iload dX8_spelled_82 rfl ?_
  refine mx_i2l dX8_spelled_84 ?_
  refine mx_ladd dX8_spelled_85 ?_
  refine mx_ldc2 q2078 dX8_spelled_86 ?_
  refine mx_lsub dX8_spelled_89 ?_
  refine mx_goto (tgt := 95) dX8_spelled_90 rfl ?_
  refine mx_lstore (al' := [some (iv (103 : Int32)), some (iv (114 : Int32)), some (iv (97 : Int32)), some (iv (100 : Int32)), some (iv (101 : Int32)), some (iv (0 : Int32)), some (jv ((((((((((((((103 : Int32).toInt64 - (96 : Int64)) * (32 : Int64)) + (114 : Int32).toInt64) - (96 : Int64)) * (32 : Int64)) + (97 : Int32).toInt64) - (96 : Int64)) * (32 : Int64)) + (100 : Int32).toInt64) - (96 : Int64)) * (32 : Int64)) + (101 : Int32).toInt64) - (96 : Int64))), none]) dX8_spelled_95 (Nat.le_of_ble_eq_true rfl) rfl ?_
  refine mx_iload dX8_spelled_97 rfl ?_
  refine mx_if_le (tgt := 119) dX8_spelled_99 rfl (fun _ => ?_) (fun _ => absurd ‹_› (by decide))
  refine mx_lload dX8_spelled_119 rfl ?_
  refine mx_lretK rfl dX8_spelled_121 ?_
  refine mx_tj (show ((((((((((((((103 : Int32).toInt64 - (96 : Int64)) * (32 : Int64)) + (114 : Int32).toInt64) - (96 : Int64)) * (32 : Int64)) + (97 : Int32).toInt64) - (96 : Int64)) * (32 : Int64)) + (100 : Int32).toInt64) - (96 : Int64)) * (32 : Int64)) + (101 : Int32).toInt64) - (96 : Int64)) = (7931013 : Int64) by decide) ?_
  refine mx_callV 8 (y' := mi_X8_isWord) (vs := [jv (7931013 : Int64)]) (st := []) (al' := [some (rv a0), some (jv (7931013 : Int64)), none]) cl_8 V_X8_isWord (Or.inl q2196) dX8_variable_15 rfl rfl (Nat.le_of_ble_eq_true rfl) (Nat.le_of_ble_eq_true rfl) (ly8_k La0_h) ?_
  refine mx_aload_n dX8_isWord_0 rfl rfl ?_
  refine mx_get 8 50 (ref := "PrairiePoolModel") cl_8 (Nat.le_of_ble_eq_true rfl) (Or.inl q1677) (Or.inl rfl) dX8_isWord_1 (fv_8_50 _ _) (ly8_k La0_h) ?_
  refine mx_iconst dX8_isWord_4 ic_1 ?_
  refine mx_icmp_ne (tgt := 21) dX8_isWord_5 rfl (fun c1 => ?_) (fun c1 => ?_)
  · have H := H.1 c1
    refine mx_iconst dX8_isWord_21 ic_0 ?_
    refine mx_zretK rfl dX8_isWord_22 (Or.inl rfl) ?_
    refine mx_if_eq (tgt := 23) dX8_variable_18 rfl (fun _ => ?_) (fun _ => absurd ‹_› (by decide))
    refine mx_aload_n dX8_variable_23 rfl rfl ?_
    refine mx_ldc2 q2200 dX8_variable_24 ?_
    refine mx_callV 8 (y' := mi_X8_isWord) (vs := [jv (253792434 : Int64)]) (st := []) (al' := [some (rv a0), some (jv (253792434 : Int64)), none]) cl_8 V_X8_isWord (Or.inl q2196) dX8_variable_27 rfl rfl (Nat.le_of_ble_eq_true rfl) (Nat.le_of_ble_eq_true rfl) (ly8_k La0_h) ?_
    refine mx_aload_n dX8_isWord_0 rfl rfl ?_
    refine mx_get 8 50 (ref := "PrairiePoolModel") cl_8 (Nat.le_of_ble_eq_true rfl) (Or.inl q1677) (Or.inl rfl) dX8_isWord_1 (fv_8_50 _ _) (ly8_k La0_h) ?_
    refine mx_iconst dX8_isWord_4 ic_1 ?_
    refine mx_icmp_ne (tgt := 21) dX8_isWord_5 rfl (fun _ => ?_) (fun q_ => absurd q_ c1)
    refine mx_iconst dX8_isWord_21 ic_0 ?_
    refine mx_zretK rfl dX8_isWord_22 (Or.inl rfl) ?_
    refine mx_if_eq (tgt := 35) dX8_variable_30 rfl (fun _ => ?_) (fun _ => absurd ‹_› (by decide))
    refine mx_aload_n dX8_variable_35 rfl rfl ?_
    refine mx_bipush dX8_variable_36 ib_119 ?_
    refine mx_bipush dX8_variable_38 ib_101 ?_
    refine mx_bipush dX8_variable_40 ib_101 ?_
    refine mx_bipush dX8_variable_42 ib_107 ?_
    refine mx_iconst dX8_variable_44 ic_0 ?_
    refine mx_iconst dX8_variable_45 ic_0 ?_
    refine mx_callS (y' := mi_X8_spelled) (vs := [iv (119 : Int32), iv (101 : Int32), iv (101 : Int32), iv (107 : Int32), iv (0 : Int32), iv (0 : Int32)]) (st := [rv a0]) (al' := [some (iv (119 : Int32)), some (iv (101 : Int32)), some (iv (101 : Int32)), some (iv (107 : Int32)), some (iv (0 : Int32)), some (iv (0 : Int32)), none, none]) S_X8_spelled q2075 dX8_variable_46 rfl rfl (Nat.le_of_ble_eq_true rfl) (Nat.le_of_ble_eq_true rfl) ?_
    refine mx_iload_n dX8_spelled_0 rfl rfl ?_
    refine mx_i2l dX8_spelled_1 ?_
    refine mx_ldc2 q2078 dX8_spelled_2 ?_
    refine mx_lsub dX8_spelled_5 ?_
    refine mx_lstore (al' := [some (iv (119 : Int32)), some (iv (101 : Int32)), some (iv (101 : Int32)), some (iv (107 : Int32)), some (iv (0 : Int32)), some (iv (0 : Int32)), some (jv ((119 : Int32).toInt64 - (96 : Int64))), none]) dX8_spelled_6 (Nat.le_of_ble_eq_true rfl) rfl ?_
    refine mx_lload dX8_spelled_8 rfl ?_
    refine mx_ldc2 q2079 dX8_spelled_10 ?_
    refine mx_lmul dX8_spelled_13 ?_
    refine mx_iload_n dX8_spelled_14 rfl rfl ?_
    refine mx_i2l dX8_spelled_15 ?_
    refine mx_ladd dX8_spelled_16 ?_
    refine mx_ldc2 q2078 dX8_spelled_17 ?_
    refine mx_lsub dX8_spelled_20 ?_
    refine mx_lstore (al' := [some (iv (119 : Int32)), some (iv (101 : Int32)), some (iv (101 : Int32)), some (iv (107 : Int32)), some (iv (0 : Int32)), some (iv (0 : Int32)), some (jv (((((119 : Int32).toInt64 - (96 : Int64)) * (32 : Int64)) + (101 : Int32).toInt64) - (96 : Int64))), none]) dX8_spelled_21 (Nat.le_of_ble_eq_true rfl) rfl ?_
    refine mx_iload_n dX8_spelled_23 rfl rfl ?_
    refine mx_if_le (tgt := 43) dX8_spelled_24 rfl (fun _ => absurd ‹_› (by decide)) (fun _ => ?_)
    refine mx_lload dX8_spelled_27 rfl ?_
    refine mx_ldc2 q2079 dX8_spelled_29 ?_
    refine mx_lmul dX8_spelled_32 ?_
    refine mx_iload_n dX8_spelled_33 rfl rfl ?_
    refine mx_i2l dX8_spelled_34 ?_
    refine mx_ladd dX8_spelled_35 ?_
    refine mx_ldc2 q2078 dX8_spelled_36 ?_
    refine mx_lsub dX8_spelled_39 ?_
    refine mx_goto (tgt := 45) dX8_spelled_40 rfl ?_
    refine mx_lstore (al' := [some (iv (119 : Int32)), some (iv (101 : Int32)), some (iv (101 : Int32)), some (iv (107 : Int32)), some (iv (0 : Int32)), some (iv (0 : Int32)), some (jv ((((((((119 : Int32).toInt64 - (96 : Int64)) * (32 : Int64)) + (101 : Int32).toInt64) - (96 : Int64)) * (32 : Int64)) + (101 : Int32).toInt64) - (96 : Int64))), none]) dX8_spelled_45 (Nat.le_of_ble_eq_true rfl) rfl ?_
    refine mx_iload_n dX8_spelled_47 rfl rfl ?_
    refine mx_if_le (tgt := 67) dX8_spelled_48 rfl (fun _ => absurd ‹_› (by decide)) (fun _ => ?_)
    refine mx_lload dX8_spelled_51 rfl ?_
    refine mx_ldc2 q2079 dX8_spelled_53 ?_
    refine mx_lmul dX8_spelled_56 ?_
    refine mx_iload_n dX8_spelled_57 rfl rfl ?_
    refine mx_i2l dX8_spelled_58 ?_
    refine mx_ladd dX8_spelled_59 ?_
    refine mx_ldc2 q2078 dX8_spelled_60 ?_
    refine mx_lsub dX8_spelled_63 ?_
    refine mx_goto (tgt := 69) dX8_spelled_64 rfl ?_
    refine mx_lstore (al' := [some (iv (119 : Int32)), some (iv (101 : Int32)), some (iv (101 : Int32)), some (iv (107 : Int32)), some (iv (0 : Int32)), some (iv (0 : Int32)), some (jv (((((((((((119 : Int32).toInt64 - (96 : Int64)) * (32 : Int64)) + (101 : Int32).toInt64) - (96 : Int64)) * (32 : Int64)) + (101 : Int32).toInt64) - (96 : Int64)) * (32 : Int64)) + (107 : Int32).toInt64) - (96 : Int64))), none]) dX8_spelled_69 (Nat.le_of_ble_eq_true rfl) rfl ?_
    refine mx_iload dX8_spelled_71 rfl ?_
    refine mx_if_le (tgt := 93) dX8_spelled_73 rfl (fun _ => ?_) (fun _ => absurd ‹_› (by decide))
    refine mx_lload dX8_spelled_93 rfl ?_
    refine mx_lstore (al' := [some (iv (119 : Int32)), some (iv (101 : Int32)), some (iv (101 : Int32)), some (iv (107 : Int32)), some (iv (0 : Int32)), some (iv (0 : Int32)), some (jv (((((((((((119 : Int32).toInt64 - (96 : Int64)) * (32 : Int64)) + (101 : Int32).toInt64) - (96 : Int64)) * (32 : Int64)) + (101 : Int32).toInt64) - (96 : Int64)) * (32 : Int64)) + (107 : Int32).toInt64) - (96 : Int64))), none]) dX8_spelled_95 (Nat.le_of_ble_eq_true rfl) rfl ?_
    refine mx_iload dX8_spelled_97 rfl ?_
    refine mx_if_le (tgt := 119) dX8_spelled_99 rfl (fun _ => ?_) (fun _ => absurd ‹_› (by decide))
    refine mx_lload dX8_spelled_119 rfl ?_
    refine mx_lretK rfl dX8_spelled_121 ?_
    refine mx_tj (show (((((((((((119 : Int32).toInt64 - (96 : Int64)) * (32 : Int64)) + (101 : Int32).toInt64) - (96 : Int64)) * (32 : Int64)) + (101 : Int32).toInt64) - (96 : Int64)) * (32 : Int64)) + (107 : Int32).toInt64) - (96 : Int64)) = (758955 : Int64) by decide) ?_
    refine mx_callV 8 (y' := mi_X8_isWord) (vs := [jv (758955 : Int64)]) (st := []) (al' := [some (rv a0), some (jv (758955 : Int64)), none]) cl_8 V_X8_isWord (Or.inl q2196) dX8_variable_49 rfl rfl (Nat.le_of_ble_eq_true rfl) (Nat.le_of_ble_eq_true rfl) (ly8_k La0_h) ?_
    refine mx_aload_n dX8_isWord_0 rfl rfl ?_
    refine mx_get 8 50 (ref := "PrairiePoolModel") cl_8 (Nat.le_of_ble_eq_true rfl) (Or.inl q1677) (Or.inl rfl) dX8_isWord_1 (fv_8_50 _ _) (ly8_k La0_h) ?_
    refine mx_iconst dX8_isWord_4 ic_1 ?_
    refine mx_icmp_ne (tgt := 21) dX8_isWord_5 rfl (fun _ => ?_) (fun q_ => absurd q_ c1)
    refine mx_iconst dX8_isWord_21 ic_0 ?_
    refine mx_zretK rfl dX8_isWord_22 (Or.inl rfl) ?_
    refine mx_if_eq (tgt := 57) dX8_variable_52 rfl (fun _ => ?_) (fun _ => absurd ‹_› (by decide))
    refine mx_aload_n dX8_variable_57 rfl rfl ?_
    refine mx_bipush dX8_variable_58 ib_121 ?_
    refine mx_bipush dX8_variable_60 ib_101 ?_
    refine mx_bipush dX8_variable_62 ib_97 ?_
    refine mx_bipush dX8_variable_64 ib_114 ?_
    refine mx_iconst dX8_variable_66 ic_0 ?_
    refine mx_iconst dX8_variable_67 ic_0 ?_
    refine mx_callS (y' := mi_X8_spelled) (vs := [iv (121 : Int32), iv (101 : Int32), iv (97 : Int32), iv (114 : Int32), iv (0 : Int32), iv (0 : Int32)]) (st := [rv a0]) (al' := [some (iv (121 : Int32)), some (iv (101 : Int32)), some (iv (97 : Int32)), some (iv (114 : Int32)), some (iv (0 : Int32)), some (iv (0 : Int32)), none, none]) S_X8_spelled q2075 dX8_variable_68 rfl rfl (Nat.le_of_ble_eq_true rfl) (Nat.le_of_ble_eq_true rfl) ?_
    refine mx_iload_n dX8_spelled_0 rfl rfl ?_
    refine mx_i2l dX8_spelled_1 ?_
    refine mx_ldc2 q2078 dX8_spelled_2 ?_
    refine mx_lsub dX8_spelled_5 ?_
    refine mx_lstore (al' := [some (iv (121 : Int32)), some (iv (101 : Int32)), some (iv (97 : Int32)), some (iv (114 : Int32)), some (iv (0 : Int32)), some (iv (0 : Int32)), some (jv ((121 : Int32).toInt64 - (96 : Int64))), none]) dX8_spelled_6 (Nat.le_of_ble_eq_true rfl) rfl ?_
    refine mx_lload dX8_spelled_8 rfl ?_
    refine mx_ldc2 q2079 dX8_spelled_10 ?_
    refine mx_lmul dX8_spelled_13 ?_
    refine mx_iload_n dX8_spelled_14 rfl rfl ?_
    refine mx_i2l dX8_spelled_15 ?_
    refine mx_ladd dX8_spelled_16 ?_
    refine mx_ldc2 q2078 dX8_spelled_17 ?_
    refine mx_lsub dX8_spelled_20 ?_
    refine mx_lstore (al' := [some (iv (121 : Int32)), some (iv (101 : Int32)), some (iv (97 : Int32)), some (iv (114 : Int32)), some (iv (0 : Int32)), some (iv (0 : Int32)), some (jv (((((121 : Int32).toInt64 - (96 : Int64)) * (32 : Int64)) + (101 : Int32).toInt64) - (96 : Int64))), none]) dX8_spelled_21 (Nat.le_of_ble_eq_true rfl) rfl ?_
    refine mx_iload_n dX8_spelled_23 rfl rfl ?_
    refine mx_if_le (tgt := 43) dX8_spelled_24 rfl (fun _ => absurd ‹_› (by decide)) (fun _ => ?_)
    refine mx_lload dX8_spelled_27 rfl ?_
    refine mx_ldc2 q2079 dX8_spelled_29 ?_
    refine mx_lmul dX8_spelled_32 ?_
    refine mx_iload_n dX8_spelled_33 rfl rfl ?_
    refine mx_i2l dX8_spelled_34 ?_
    refine mx_ladd dX8_spelled_35 ?_
    refine mx_ldc2 q2078 dX8_spelled_36 ?_
    refine mx_lsub dX8_spelled_39 ?_
    refine mx_goto (tgt := 45) dX8_spelled_40 rfl ?_
    refine mx_lstore (al' := [some (iv (121 : Int32)), some (iv (101 : Int32)), some (iv (97 : Int32)), some (iv (114 : Int32)), some (iv (0 : Int32)), some (iv (0 : Int32)), some (jv ((((((((121 : Int32).toInt64 - (96 : Int64)) * (32 : Int64)) + (101 : Int32).toInt64) - (96 : Int64)) * (32 : Int64)) + (97 : Int32).toInt64) - (96 : Int64))), none]) dX8_spelled_45 (Nat.le_of_ble_eq_true rfl) rfl ?_
    refine mx_iload_n dX8_spelled_47 rfl rfl ?_
    refine mx_if_le (tgt := 67) dX8_spelled_48 rfl (fun _ => absurd ‹_› (by decide)) (fun _ => ?_)
    refine mx_lload dX8_spelled_51 rfl ?_
    refine mx_ldc2 q2079 dX8_spelled_53 ?_
    refine mx_lmul dX8_spelled_56 ?_
    refine mx_iload_n dX8_spelled_57 rfl rfl ?_
    refine mx_i2l dX8_spelled_58 ?_
    refine mx_ladd dX8_spelled_59 ?_
    refine mx_ldc2 q2078 dX8_spelled_60 ?_
    refine mx_lsub dX8_spelled_63 ?_
    refine mx_goto (tgt := 69) dX8_spelled_64 rfl ?_
    refine mx_lstore (al' := [some (iv (121 : Int32)), some (iv (101 : Int32)), some (iv (97 : Int32)), some (iv (114 : Int32)), some (iv (0 : Int32)), some (iv (0 : Int32)), some (jv (((((((((((121 : Int32).toInt64 - (96 : Int64)) * (32 : Int64)) + (101 : Int32).toInt64) - (96 : Int64)) * (32 : Int64)) + (97 : Int32).toInt64) - (96 : Int64)) * (32 : Int64)) + (114 : Int32).toInt64) - (96 : Int64))), none]) dX8_spelled_69 (Nat.le_of_ble_eq_true rfl) rfl ?_
    refine mx_iload dX8_spelled_71 rfl ?_
    refine mx_if_le (tgt := 93) dX8_spelled_73 rfl (fun _ => ?_) (fun _ => absurd ‹_› (by decide))
    refine mx_lload dX8_spelled_93 rfl ?_
    refine mx_lstore (al' := [some (iv (121 : Int32)), some (iv (101 : Int32)), some (iv (97 : Int32)), some (iv (114 : Int32)), some (iv (0 : Int32)), some (iv (0 : Int32)), some (jv (((((((((((121 : Int32).toInt64 - (96 : Int64)) * (32 : Int64)) + (101 : Int32).toInt64) - (96 : Int64)) * (32 : Int64)) + (97 : Int32).toInt64) - (96 : Int64)) * (32 : Int64)) + (114 : Int32).toInt64) - (96 : Int64))), none]) dX8_spelled_95 (Nat.le_of_ble_eq_true rfl) rfl ?_
    refine mx_iload dX8_spelled_97 rfl ?_
    refine mx_if_le (tgt := 119) dX8_spelled_99 rfl (fun _ => ?_) (fun _ => absurd ‹_› (by decide))
    refine mx_lload dX8_spelled_119 rfl ?_
    refine mx_lretK rfl dX8_spelled_121 ?_
    refine mx_tj (show (((((((((((121 : Int32).toInt64 - (96 : Int64)) * (32 : Int64)) + (101 : Int32).toInt64) - (96 : Int64)) * (32 : Int64)) + (97 : Int32).toInt64) - (96 : Int64)) * (32 : Int64)) + (114 : Int32).toInt64) - (96 : Int64)) = (824370 : Int64) by decide) ?_
    refine mx_callV 8 (y' := mi_X8_isWord) (vs := [jv (824370 : Int64)]) (st := []) (al' := [some (rv a0), some (jv (824370 : Int64)), none]) cl_8 V_X8_isWord (Or.inl q2196) dX8_variable_71 rfl rfl (Nat.le_of_ble_eq_true rfl) (Nat.le_of_ble_eq_true rfl) (ly8_k La0_h) ?_
    refine mx_aload_n dX8_isWord_0 rfl rfl ?_
    refine mx_get 8 50 (ref := "PrairiePoolModel") cl_8 (Nat.le_of_ble_eq_true rfl) (Or.inl q1677) (Or.inl rfl) dX8_isWord_1 (fv_8_50 _ _) (ly8_k La0_h) ?_
    refine mx_iconst dX8_isWord_4 ic_1 ?_
    refine mx_icmp_ne (tgt := 21) dX8_isWord_5 rfl (fun _ => ?_) (fun q_ => absurd q_ c1)
    refine mx_iconst dX8_isWord_21 ic_0 ?_
    refine mx_zretK rfl dX8_isWord_22 (Or.inl rfl) ?_
    refine mx_if_eq (tgt := 79) dX8_variable_74 rfl (fun _ => ?_) (fun _ => absurd ‹_› (by decide))
    refine mx_aload_n dX8_variable_79 rfl rfl ?_
    refine mx_ldc2 q2201 dX8_variable_80 ?_
    refine mx_callV 8 (y' := mi_X8_isWord) (vs := [jv (2872317331 : Int64)]) (st := []) (al' := [some (rv a0), some (jv (2872317331 : Int64)), none]) cl_8 V_X8_isWord (Or.inl q2196) dX8_variable_83 rfl rfl (Nat.le_of_ble_eq_true rfl) (Nat.le_of_ble_eq_true rfl) (ly8_k La0_h) ?_
    refine mx_aload_n dX8_isWord_0 rfl rfl ?_
    refine mx_get 8 50 (ref := "PrairiePoolModel") cl_8 (Nat.le_of_ble_eq_true rfl) (Or.inl q1677) (Or.inl rfl) dX8_isWord_1 (fv_8_50 _ _) (ly8_k La0_h) ?_
    refine mx_iconst dX8_isWord_4 ic_1 ?_
    refine mx_icmp_ne (tgt := 21) dX8_isWord_5 rfl (fun _ => ?_) (fun q_ => absurd q_ c1)
    refine mx_iconst dX8_isWord_21 ic_0 ?_
    refine mx_zretK rfl dX8_isWord_22 (Or.inl rfl) ?_
    refine mx_if_eq (tgt := 91) dX8_variable_86 rfl (fun _ => ?_) (fun _ => absurd ‹_› (by decide))
    refine mx_aload_n dX8_variable_91 rfl rfl ?_
    refine mx_bipush dX8_variable_92 ib_97 ?_
    refine mx_bipush dX8_variable_94 ib_99 ?_
    refine mx_bipush dX8_variable_96 ib_114 ?_
    refine mx_bipush dX8_variable_98 ib_101 ?_
    refine mx_bipush dX8_variable_100 ib_115 ?_
    refine mx_iconst dX8_variable_102 ic_0 ?_
    refine mx_callS (y' := mi_X8_spelled) (vs := [iv (97 : Int32), iv (99 : Int32), iv (114 : Int32), iv (101 : Int32), iv (115 : Int32), iv (0 : Int32)]) (st := [rv a0]) (al' := [some (iv (97 : Int32)), some (iv (99 : Int32)), some (iv (114 : Int32)), some (iv (101 : Int32)), some (iv (115 : Int32)), some (iv (0 : Int32)), none, none]) S_X8_spelled q2075 dX8_variable_103 rfl rfl (Nat.le_of_ble_eq_true rfl) (Nat.le_of_ble_eq_true rfl) ?_
    refine mx_iload_n dX8_spelled_0 rfl rfl ?_
    refine mx_i2l dX8_spelled_1 ?_
    refine mx_ldc2 q2078 dX8_spelled_2 ?_
    refine mx_lsub dX8_spelled_5 ?_
    refine mx_lstore (al' := [some (iv (97 : Int32)), some (iv (99 : Int32)), some (iv (114 : Int32)), some (iv (101 : Int32)), some (iv (115 : Int32)), some (iv (0 : Int32)), some (jv ((97 : Int32).toInt64 - (96 : Int64))), none]) dX8_spelled_6 (Nat.le_of_ble_eq_true rfl) rfl ?_
    refine mx_lload dX8_spelled_8 rfl ?_
    refine mx_ldc2 q2079 dX8_spelled_10 ?_
    refine mx_lmul dX8_spelled_13 ?_
    refine mx_iload_n dX8_spelled_14 rfl rfl ?_
    refine mx_i2l dX8_spelled_15 ?_
    refine mx_ladd dX8_spelled_16 ?_
    refine mx_ldc2 q2078 dX8_spelled_17 ?_
    refine mx_lsub dX8_spelled_20 ?_
    refine mx_lstore (al' := [some (iv (97 : Int32)), some (iv (99 : Int32)), some (iv (114 : Int32)), some (iv (101 : Int32)), some (iv (115 : Int32)), some (iv (0 : Int32)), some (jv (((((97 : Int32).toInt64 - (96 : Int64)) * (32 : Int64)) + (99 : Int32).toInt64) - (96 : Int64))), none]) dX8_spelled_21 (Nat.le_of_ble_eq_true rfl) rfl ?_
    refine mx_iload_n dX8_spelled_23 rfl rfl ?_
    refine mx_if_le (tgt := 43) dX8_spelled_24 rfl (fun _ => absurd ‹_› (by decide)) (fun _ => ?_)
    refine mx_lload dX8_spelled_27 rfl ?_
    refine mx_ldc2 q2079 dX8_spelled_29 ?_
    refine mx_lmul dX8_spelled_32 ?_
    refine mx_iload_n dX8_spelled_33 rfl rfl ?_
    refine mx_i2l dX8_spelled_34 ?_
    refine mx_ladd dX8_spelled_35 ?_
    refine mx_ldc2 q2078 dX8_spelled_36 ?_
    refine mx_lsub dX8_spelled_39 ?_
    refine mx_goto (tgt := 45) dX8_spelled_40 rfl ?_
    refine mx_lstore (al' := [some (iv (97 : Int32)), some (iv (99 : Int32)), some (iv (114 : Int32)), some (iv (101 : Int32)), some (iv (115 : Int32)), some (iv (0 : Int32)), some (jv ((((((((97 : Int32).toInt64 - (96 : Int64)) * (32 : Int64)) + (99 : Int32).toInt64) - (96 : Int64)) * (32 : Int64)) + (114 : Int32).toInt64) - (96 : Int64))), none]) dX8_spelled_45 (Nat.le_of_ble_eq_true rfl) rfl ?_
    refine mx_iload_n dX8_spelled_47 rfl rfl ?_
    refine mx_if_le (tgt := 67) dX8_spelled_48 rfl (fun _ => absurd ‹_› (by decide)) (fun _ => ?_)
    refine mx_lload dX8_spelled_51 rfl ?_
    refine mx_ldc2 q2079 dX8_spelled_53 ?_
    refine mx_lmul dX8_spelled_56 ?_
    refine mx_iload_n dX8_spelled_57 rfl rfl ?_
    refine mx_i2l dX8_spelled_58 ?_
    refine mx_ladd dX8_spelled_59 ?_
    refine mx_ldc2 q2078 dX8_spelled_60 ?_
    refine mx_lsub dX8_spelled_63 ?_
    refine mx_goto (tgt := 69) dX8_spelled_64 rfl ?_
    refine mx_lstore (al' := [some (iv (97 : Int32)), some (iv (99 : Int32)), some (iv (114 : Int32)), some (iv (101 : Int32)), some (iv (115 : Int32)), some (iv (0 : Int32)), some (jv (((((((((((97 : Int32).toInt64 - (96 : Int64)) * (32 : Int64)) + (99 : Int32).toInt64) - (96 : Int64)) * (32 : Int64)) + (114 : Int32).toInt64) - (96 : Int64)) * (32 : Int64)) + (101 : Int32).toInt64) - (96 : Int64))), none]) dX8_spelled_69 (Nat.le_of_ble_eq_true rfl) rfl ?_
    refine mx_iload dX8_spelled_71 rfl ?_
    refine mx_if_le (tgt := 93) dX8_spelled_73 rfl (fun _ => absurd ‹_› (by decide)) (fun _ => ?_)
    refine mx_lload dX8_spelled_76 rfl ?_
    refine mx_ldc2 q2079 dX8_spelled_78 ?_
    refine mx_lmul dX8_spelled_81 ?_
    refine mx_iload dX8_spelled_82 rfl ?_
    refine mx_i2l dX8_spelled_84 ?_
    refine mx_ladd dX8_spelled_85 ?_
    refine mx_ldc2 q2078 dX8_spelled_86 ?_
    refine mx_lsub dX8_spelled_89 ?_
    refine mx_goto (tgt := 95) dX8_spelled_90 rfl ?_
    refine mx_lstore (al' := [some (iv (97 : Int32)), some (iv (99 : Int32)), some (iv (114 : Int32)), some (iv (101 : Int32)), some (iv (115 : Int32)), some (iv (0 : Int32)), some (jv ((((((((((((((97 : Int32).toInt64 - (96 : Int64)) * (32 : Int64)) + (99 : Int32).toInt64) - (96 : Int64)) * (32 : Int64)) + (114 : Int32).toInt64) - (96 : Int64)) * (32 : Int64)) + (101 : Int32).toInt64) - (96 : Int64)) * (32 : Int64)) + (115 : Int32).toInt64) - (96 : Int64))), none]) dX8_spelled_95 (Nat.le_of_ble_eq_true rfl) rfl ?_
    refine mx_iload dX8_spelled_97 rfl ?_
    refine mx_if_le (tgt := 119) dX8_spelled_99 rfl (fun _ => ?_) (fun _ => absurd ‹_› (by decide))
    refine mx_lload dX8_spelled_119 rfl ?_
    refine mx_lretK rfl dX8_spelled_121 ?_
    refine mx_tj (show ((((((((((((((97 : Int32).toInt64 - (96 : Int64)) * (32 : Int64)) + (99 : Int32).toInt64) - (96 : Int64)) * (32 : Int64)) + (114 : Int32).toInt64) - (96 : Int64)) * (32 : Int64)) + (101 : Int32).toInt64) - (96 : Int64)) * (32 : Int64)) + (115 : Int32).toInt64) - (96 : Int64)) = (1165491 : Int64) by decide) ?_
    refine mx_callV 8 (y' := mi_X8_isWord) (vs := [jv (1165491 : Int64)]) (st := []) (al' := [some (rv a0), some (jv (1165491 : Int64)), none]) cl_8 V_X8_isWord (Or.inl q2196) dX8_variable_106 rfl rfl (Nat.le_of_ble_eq_true rfl) (Nat.le_of_ble_eq_true rfl) (ly8_k La0_h) ?_
    refine mx_aload_n dX8_isWord_0 rfl rfl ?_
    refine mx_get 8 50 (ref := "PrairiePoolModel") cl_8 (Nat.le_of_ble_eq_true rfl) (Or.inl q1677) (Or.inl rfl) dX8_isWord_1 (fv_8_50 _ _) (ly8_k La0_h) ?_
    refine mx_iconst dX8_isWord_4 ic_1 ?_
    refine mx_icmp_ne (tgt := 21) dX8_isWord_5 rfl (fun _ => ?_) (fun q_ => absurd q_ c1)
    refine mx_iconst dX8_isWord_21 ic_0 ?_
    refine mx_zretK rfl dX8_isWord_22 (Or.inl rfl) ?_
    refine mx_if_eq (tgt := 114) dX8_variable_109 rfl (fun _ => ?_) (fun _ => absurd ‹_› (by decide))
    refine mx_aload_n dX8_variable_114 rfl rfl ?_
    refine mx_bipush dX8_variable_115 ib_100 ?_
    refine mx_bipush dX8_variable_117 ib_101 ?_
    refine mx_bipush dX8_variable_119 ib_98 ?_
    refine mx_bipush dX8_variable_121 ib_116 ?_
    refine mx_iconst dX8_variable_123 ic_0 ?_
    refine mx_iconst dX8_variable_124 ic_0 ?_
    refine mx_callS (y' := mi_X8_spelled) (vs := [iv (100 : Int32), iv (101 : Int32), iv (98 : Int32), iv (116 : Int32), iv (0 : Int32), iv (0 : Int32)]) (st := [rv a0]) (al' := [some (iv (100 : Int32)), some (iv (101 : Int32)), some (iv (98 : Int32)), some (iv (116 : Int32)), some (iv (0 : Int32)), some (iv (0 : Int32)), none, none]) S_X8_spelled q2075 dX8_variable_125 rfl rfl (Nat.le_of_ble_eq_true rfl) (Nat.le_of_ble_eq_true rfl) ?_
    refine mx_iload_n dX8_spelled_0 rfl rfl ?_
    refine mx_i2l dX8_spelled_1 ?_
    refine mx_ldc2 q2078 dX8_spelled_2 ?_
    refine mx_lsub dX8_spelled_5 ?_
    refine mx_lstore (al' := [some (iv (100 : Int32)), some (iv (101 : Int32)), some (iv (98 : Int32)), some (iv (116 : Int32)), some (iv (0 : Int32)), some (iv (0 : Int32)), some (jv ((100 : Int32).toInt64 - (96 : Int64))), none]) dX8_spelled_6 (Nat.le_of_ble_eq_true rfl) rfl ?_
    refine mx_lload dX8_spelled_8 rfl ?_
    refine mx_ldc2 q2079 dX8_spelled_10 ?_
    refine mx_lmul dX8_spelled_13 ?_
    refine mx_iload_n dX8_spelled_14 rfl rfl ?_
    refine mx_i2l dX8_spelled_15 ?_
    refine mx_ladd dX8_spelled_16 ?_
    refine mx_ldc2 q2078 dX8_spelled_17 ?_
    refine mx_lsub dX8_spelled_20 ?_
    refine mx_lstore (al' := [some (iv (100 : Int32)), some (iv (101 : Int32)), some (iv (98 : Int32)), some (iv (116 : Int32)), some (iv (0 : Int32)), some (iv (0 : Int32)), some (jv (((((100 : Int32).toInt64 - (96 : Int64)) * (32 : Int64)) + (101 : Int32).toInt64) - (96 : Int64))), none]) dX8_spelled_21 (Nat.le_of_ble_eq_true rfl) rfl ?_
    refine mx_iload_n dX8_spelled_23 rfl rfl ?_
    refine mx_if_le (tgt := 43) dX8_spelled_24 rfl (fun _ => absurd ‹_› (by decide)) (fun _ => ?_)
    refine mx_lload dX8_spelled_27 rfl ?_
    refine mx_ldc2 q2079 dX8_spelled_29 ?_
    refine mx_lmul dX8_spelled_32 ?_
    refine mx_iload_n dX8_spelled_33 rfl rfl ?_
    refine mx_i2l dX8_spelled_34 ?_
    refine mx_ladd dX8_spelled_35 ?_
    refine mx_ldc2 q2078 dX8_spelled_36 ?_
    refine mx_lsub dX8_spelled_39 ?_
    refine mx_goto (tgt := 45) dX8_spelled_40 rfl ?_
    refine mx_lstore (al' := [some (iv (100 : Int32)), some (iv (101 : Int32)), some (iv (98 : Int32)), some (iv (116 : Int32)), some (iv (0 : Int32)), some (iv (0 : Int32)), some (jv ((((((((100 : Int32).toInt64 - (96 : Int64)) * (32 : Int64)) + (101 : Int32).toInt64) - (96 : Int64)) * (32 : Int64)) + (98 : Int32).toInt64) - (96 : Int64))), none]) dX8_spelled_45 (Nat.le_of_ble_eq_true rfl) rfl ?_
    refine mx_iload_n dX8_spelled_47 rfl rfl ?_
    refine mx_if_le (tgt := 67) dX8_spelled_48 rfl (fun _ => absurd ‹_› (by decide)) (fun _ => ?_)
    refine mx_lload dX8_spelled_51 rfl ?_
    refine mx_ldc2 q2079 dX8_spelled_53 ?_
    refine mx_lmul dX8_spelled_56 ?_
    refine mx_iload_n dX8_spelled_57 rfl rfl ?_
    refine mx_i2l dX8_spelled_58 ?_
    refine mx_ladd dX8_spelled_59 ?_
    refine mx_ldc2 q2078 dX8_spelled_60 ?_
    refine mx_lsub dX8_spelled_63 ?_
    refine mx_goto (tgt := 69) dX8_spelled_64 rfl ?_
    refine mx_lstore (al' := [some (iv (100 : Int32)), some (iv (101 : Int32)), some (iv (98 : Int32)), some (iv (116 : Int32)), some (iv (0 : Int32)), some (iv (0 : Int32)), some (jv (((((((((((100 : Int32).toInt64 - (96 : Int64)) * (32 : Int64)) + (101 : Int32).toInt64) - (96 : Int64)) * (32 : Int64)) + (98 : Int32).toInt64) - (96 : Int64)) * (32 : Int64)) + (116 : Int32).toInt64) - (96 : Int64))), none]) dX8_spelled_69 (Nat.le_of_ble_eq_true rfl) rfl ?_
    refine mx_iload dX8_spelled_71 rfl ?_
    refine mx_if_le (tgt := 93) dX8_spelled_73 rfl (fun _ => ?_) (fun _ => absurd ‹_› (by decide))
    refine mx_lload dX8_spelled_93 rfl ?_
    refine mx_lstore (al' := [some (iv (100 : Int32)), some (iv (101 : Int32)), some (iv (98 : Int32)), some (iv (116 : Int32)), some (iv (0 : Int32)), some (iv (0 : Int32)), some (jv (((((((((((100 : Int32).toInt64 - (96 : Int64)) * (32 : Int64)) + (101 : Int32).toInt64) - (96 : Int64)) * (32 : Int64)) + (98 : Int32).toInt64) - (96 : Int64)) * (32 : Int64)) + (116 : Int32).toInt64) - (96 : Int64))), none]) dX8_spelled_95 (Nat.le_of_ble_eq_true rfl) rfl ?_
    refine mx_iload dX8_spelled_97 rfl ?_
    refine mx_if_le (tgt := 119) dX8_spelled_99 rfl (fun _ => ?_) (fun _ => absurd ‹_› (by decide))
    refine mx_lload dX8_spelled_119 rfl ?_
    refine mx_lretK rfl dX8_spelled_121 ?_
    refine mx_tj (show (((((((((((100 : Int32).toInt64 - (96 : Int64)) * (32 : Int64)) + (101 : Int32).toInt64) - (96 : Int64)) * (32 : Int64)) + (98 : Int32).toInt64) - (96 : Int64)) * (32 : Int64)) + (116 : Int32).toInt64) - (96 : Int64)) = (136276 : Int64) by decide) ?_
    refine mx_callV 8 (y' := mi_X8_isWord) (vs := [jv (136276 : Int64)]) (st := []) (al' := [some (rv a0), some (jv (136276 : Int64)), none]) cl_8 V_X8_isWord (Or.inl q2196) dX8_variable_128 rfl rfl (Nat.le_of_ble_eq_true rfl) (Nat.le_of_ble_eq_true rfl) (ly8_k La0_h) ?_
    refine mx_aload_n dX8_isWord_0 rfl rfl ?_
    refine mx_get 8 50 (ref := "PrairiePoolModel") cl_8 (Nat.le_of_ble_eq_true rfl) (Or.inl q1677) (Or.inl rfl) dX8_isWord_1 (fv_8_50 _ _) (ly8_k La0_h) ?_
    refine mx_iconst dX8_isWord_4 ic_1 ?_
    refine mx_icmp_ne (tgt := 21) dX8_isWord_5 rfl (fun _ => ?_) (fun q_ => absurd q_ c1)
    refine mx_iconst dX8_isWord_21 ic_0 ?_
    refine mx_zretK rfl dX8_isWord_22 (Or.inl rfl) ?_
    refine mx_if_eq (tgt := 137) dX8_variable_131 rfl (fun _ => ?_) (fun _ => absurd ‹_› (by decide))
    refine mx_aload_n dX8_variable_137 rfl rfl ?_
    refine mx_ldc2 q2202 dX8_variable_138 ?_
    refine mx_callV 8 (y' := mi_X8_isWord) (vs := [jv (147761734772 : Int64)]) (st := []) (al' := [some (rv a0), some (jv (147761734772 : Int64)), none]) cl_8 V_X8_isWord (Or.inl q2196) dX8_variable_141 rfl rfl (Nat.le_of_ble_eq_true rfl) (Nat.le_of_ble_eq_true rfl) (ly8_k La0_h) ?_
    refine mx_aload_n dX8_isWord_0 rfl rfl ?_
    refine mx_get 8 50 (ref := "PrairiePoolModel") cl_8 (Nat.le_of_ble_eq_true rfl) (Or.inl q1677) (Or.inl rfl) dX8_isWord_1 (fv_8_50 _ _) (ly8_k La0_h) ?_
    refine mx_iconst dX8_isWord_4 ic_1 ?_
    refine mx_icmp_ne (tgt := 21) dX8_isWord_5 rfl (fun _ => ?_) (fun q_ => absurd q_ c1)
    refine mx_iconst dX8_isWord_21 ic_0 ?_
    refine mx_zretK rfl dX8_isWord_22 (Or.inl rfl) ?_
    refine mx_if_eq (tgt := 150) dX8_variable_144 rfl (fun _ => ?_) (fun _ => absurd ‹_› (by decide))
    refine mx_aload_n dX8_variable_150 rfl rfl ?_
    refine mx_bipush dX8_variable_151 ib_99 ?_
    refine mx_bipush dX8_variable_153 ib_97 ?_
    refine mx_bipush dX8_variable_155 ib_114 ?_
    refine mx_bipush dX8_variable_157 ib_115 ?_
    refine mx_iconst dX8_variable_159 ic_0 ?_
    refine mx_iconst dX8_variable_160 ic_0 ?_
    refine mx_callS (y' := mi_X8_spelled) (vs := [iv (99 : Int32), iv (97 : Int32), iv (114 : Int32), iv (115 : Int32), iv (0 : Int32), iv (0 : Int32)]) (st := [rv a0]) (al' := [some (iv (99 : Int32)), some (iv (97 : Int32)), some (iv (114 : Int32)), some (iv (115 : Int32)), some (iv (0 : Int32)), some (iv (0 : Int32)), none, none]) S_X8_spelled q2075 dX8_variable_161 rfl rfl (Nat.le_of_ble_eq_true rfl) (Nat.le_of_ble_eq_true rfl) ?_
    refine mx_iload_n dX8_spelled_0 rfl rfl ?_
    refine mx_i2l dX8_spelled_1 ?_
    refine mx_ldc2 q2078 dX8_spelled_2 ?_
    refine mx_lsub dX8_spelled_5 ?_
    refine mx_lstore (al' := [some (iv (99 : Int32)), some (iv (97 : Int32)), some (iv (114 : Int32)), some (iv (115 : Int32)), some (iv (0 : Int32)), some (iv (0 : Int32)), some (jv ((99 : Int32).toInt64 - (96 : Int64))), none]) dX8_spelled_6 (Nat.le_of_ble_eq_true rfl) rfl ?_
    refine mx_lload dX8_spelled_8 rfl ?_
    refine mx_ldc2 q2079 dX8_spelled_10 ?_
    refine mx_lmul dX8_spelled_13 ?_
    refine mx_iload_n dX8_spelled_14 rfl rfl ?_
    refine mx_i2l dX8_spelled_15 ?_
    refine mx_ladd dX8_spelled_16 ?_
    refine mx_ldc2 q2078 dX8_spelled_17 ?_
    refine mx_lsub dX8_spelled_20 ?_
    refine mx_lstore (al' := [some (iv (99 : Int32)), some (iv (97 : Int32)), some (iv (114 : Int32)), some (iv (115 : Int32)), some (iv (0 : Int32)), some (iv (0 : Int32)), some (jv (((((99 : Int32).toInt64 - (96 : Int64)) * (32 : Int64)) + (97 : Int32).toInt64) - (96 : Int64))), none]) dX8_spelled_21 (Nat.le_of_ble_eq_true rfl) rfl ?_
    refine mx_iload_n dX8_spelled_23 rfl rfl ?_
    refine mx_if_le (tgt := 43) dX8_spelled_24 rfl (fun _ => absurd ‹_› (by decide)) (fun _ => ?_)
    refine mx_lload dX8_spelled_27 rfl ?_
    refine mx_ldc2 q2079 dX8_spelled_29 ?_
    refine mx_lmul dX8_spelled_32 ?_
    refine mx_iload_n dX8_spelled_33 rfl rfl ?_
    refine mx_i2l dX8_spelled_34 ?_
    refine mx_ladd dX8_spelled_35 ?_
    refine mx_ldc2 q2078 dX8_spelled_36 ?_
    refine mx_lsub dX8_spelled_39 ?_
    refine mx_goto (tgt := 45) dX8_spelled_40 rfl ?_
    refine mx_lstore (al' := [some (iv (99 : Int32)), some (iv (97 : Int32)), some (iv (114 : Int32)), some (iv (115 : Int32)), some (iv (0 : Int32)), some (iv (0 : Int32)), some (jv ((((((((99 : Int32).toInt64 - (96 : Int64)) * (32 : Int64)) + (97 : Int32).toInt64) - (96 : Int64)) * (32 : Int64)) + (114 : Int32).toInt64) - (96 : Int64))), none]) dX8_spelled_45 (Nat.le_of_ble_eq_true rfl) rfl ?_
    refine mx_iload_n dX8_spelled_47 rfl rfl ?_
    refine mx_if_le (tgt := 67) dX8_spelled_48 rfl (fun _ => absurd ‹_› (by decide)) (fun _ => ?_)
    refine mx_lload dX8_spelled_51 rfl ?_
    refine mx_ldc2 q2079 dX8_spelled_53 ?_
    refine mx_lmul dX8_spelled_56 ?_
    refine mx_iload_n dX8_spelled_57 rfl rfl ?_
    refine mx_i2l dX8_spelled_58 ?_
    refine mx_ladd dX8_spelled_59 ?_
    refine mx_ldc2 q2078 dX8_spelled_60 ?_
    refine mx_lsub dX8_spelled_63 ?_
    refine mx_goto (tgt := 69) dX8_spelled_64 rfl ?_
    refine mx_lstore (al' := [some (iv (99 : Int32)), some (iv (97 : Int32)), some (iv (114 : Int32)), some (iv (115 : Int32)), some (iv (0 : Int32)), some (iv (0 : Int32)), some (jv (((((((((((99 : Int32).toInt64 - (96 : Int64)) * (32 : Int64)) + (97 : Int32).toInt64) - (96 : Int64)) * (32 : Int64)) + (114 : Int32).toInt64) - (96 : Int64)) * (32 : Int64)) + (115 : Int32).toInt64) - (96 : Int64))), none]) dX8_spelled_69 (Nat.le_of_ble_eq_true rfl) rfl ?_
    refine mx_iload dX8_spelled_71 rfl ?_
    refine mx_if_le (tgt := 93) dX8_spelled_73 rfl (fun _ => ?_) (fun _ => absurd ‹_› (by decide))
    refine mx_lload dX8_spelled_93 rfl ?_
    refine mx_lstore (al' := [some (iv (99 : Int32)), some (iv (97 : Int32)), some (iv (114 : Int32)), some (iv (115 : Int32)), some (iv (0 : Int32)), some (iv (0 : Int32)), some (jv (((((((((((99 : Int32).toInt64 - (96 : Int64)) * (32 : Int64)) + (97 : Int32).toInt64) - (96 : Int64)) * (32 : Int64)) + (114 : Int32).toInt64) - (96 : Int64)) * (32 : Int64)) + (115 : Int32).toInt64) - (96 : Int64))), none]) dX8_spelled_95 (Nat.le_of_ble_eq_true rfl) rfl ?_
    refine mx_iload dX8_spelled_97 rfl ?_
    refine mx_if_le (tgt := 119) dX8_spelled_99 rfl (fun _ => ?_) (fun _ => absurd ‹_› (by decide))
    refine mx_lload dX8_spelled_119 rfl ?_
    refine mx_lretK rfl dX8_spelled_121 ?_
    refine mx_tj (show (((((((((((99 : Int32).toInt64 - (96 : Int64)) * (32 : Int64)) + (97 : Int32).toInt64) - (96 : Int64)) * (32 : Int64)) + (114 : Int32).toInt64) - (96 : Int64)) * (32 : Int64)) + (115 : Int32).toInt64) - (96 : Int64)) = (99923 : Int64) by decide) ?_
    refine mx_callV 8 (y' := mi_X8_isWord) (vs := [jv (99923 : Int64)]) (st := []) (al' := [some (rv a0), some (jv (99923 : Int64)), none]) cl_8 V_X8_isWord (Or.inl q2196) dX8_variable_164 rfl rfl (Nat.le_of_ble_eq_true rfl) (Nat.le_of_ble_eq_true rfl) (ly8_k La0_h) ?_
    refine mx_aload_n dX8_isWord_0 rfl rfl ?_
    refine mx_get 8 50 (ref := "PrairiePoolModel") cl_8 (Nat.le_of_ble_eq_true rfl) (Or.inl q1677) (Or.inl rfl) dX8_isWord_1 (fv_8_50 _ _) (ly8_k La0_h) ?_
    refine mx_iconst dX8_isWord_4 ic_1 ?_
    refine mx_icmp_ne (tgt := 21) dX8_isWord_5 rfl (fun _ => ?_) (fun q_ => absurd q_ c1)
    refine mx_iconst dX8_isWord_21 ic_0 ?_
    refine mx_zretK rfl dX8_isWord_22 (Or.inl rfl) ?_
    refine mx_if_eq (tgt := 173) dX8_variable_167 rfl (fun _ => ?_) (fun _ => absurd ‹_› (by decide))
    refine mx_aload_n dX8_variable_173 rfl rfl ?_
    refine mx_bipush dX8_variable_174 ib_119 ?_
    refine mx_bipush dX8_variable_176 ib_97 ?_
    refine mx_bipush dX8_variable_178 ib_105 ?_
    refine mx_bipush dX8_variable_180 ib_116 ?_
    refine mx_bipush dX8_variable_182 ib_115 ?_
    refine mx_iconst dX8_variable_184 ic_0 ?_
    refine mx_callS (y' := mi_X8_spelled) (vs := [iv (119 : Int32), iv (97 : Int32), iv (105 : Int32), iv (116 : Int32), iv (115 : Int32), iv (0 : Int32)]) (st := [rv a0]) (al' := [some (iv (119 : Int32)), some (iv (97 : Int32)), some (iv (105 : Int32)), some (iv (116 : Int32)), some (iv (115 : Int32)), some (iv (0 : Int32)), none, none]) S_X8_spelled q2075 dX8_variable_185 rfl rfl (Nat.le_of_ble_eq_true rfl) (Nat.le_of_ble_eq_true rfl) ?_
    refine mx_iload_n dX8_spelled_0 rfl rfl ?_
    refine mx_i2l dX8_spelled_1 ?_
    refine mx_ldc2 q2078 dX8_spelled_2 ?_
    refine mx_lsub dX8_spelled_5 ?_
    refine mx_lstore (al' := [some (iv (119 : Int32)), some (iv (97 : Int32)), some (iv (105 : Int32)), some (iv (116 : Int32)), some (iv (115 : Int32)), some (iv (0 : Int32)), some (jv ((119 : Int32).toInt64 - (96 : Int64))), none]) dX8_spelled_6 (Nat.le_of_ble_eq_true rfl) rfl ?_
    refine mx_lload dX8_spelled_8 rfl ?_
    refine mx_ldc2 q2079 dX8_spelled_10 ?_
    refine mx_lmul dX8_spelled_13 ?_
    refine mx_iload_n dX8_spelled_14 rfl rfl ?_
    refine mx_i2l dX8_spelled_15 ?_
    refine mx_ladd dX8_spelled_16 ?_
    refine mx_ldc2 q2078 dX8_spelled_17 ?_
    refine mx_lsub dX8_spelled_20 ?_
    refine mx_lstore (al' := [some (iv (119 : Int32)), some (iv (97 : Int32)), some (iv (105 : Int32)), some (iv (116 : Int32)), some (iv (115 : Int32)), some (iv (0 : Int32)), some (jv (((((119 : Int32).toInt64 - (96 : Int64)) * (32 : Int64)) + (97 : Int32).toInt64) - (96 : Int64))), none]) dX8_spelled_21 (Nat.le_of_ble_eq_true rfl) rfl ?_
    refine mx_iload_n dX8_spelled_23 rfl rfl ?_
    refine mx_if_le (tgt := 43) dX8_spelled_24 rfl (fun _ => absurd ‹_› (by decide)) (fun _ => ?_)
    refine mx_lload dX8_spelled_27 rfl ?_
    refine mx_ldc2 q2079 dX8_spelled_29 ?_
    refine mx_lmul dX8_spelled_32 ?_
    refine mx_iload_n dX8_spelled_33 rfl rfl ?_
    refine mx_i2l dX8_spelled_34 ?_
    refine mx_ladd dX8_spelled_35 ?_
    refine mx_ldc2 q2078 dX8_spelled_36 ?_
    refine mx_lsub dX8_spelled_39 ?_
    refine mx_goto (tgt := 45) dX8_spelled_40 rfl ?_
    refine mx_lstore (al' := [some (iv (119 : Int32)), some (iv (97 : Int32)), some (iv (105 : Int32)), some (iv (116 : Int32)), some (iv (115 : Int32)), some (iv (0 : Int32)), some (jv ((((((((119 : Int32).toInt64 - (96 : Int64)) * (32 : Int64)) + (97 : Int32).toInt64) - (96 : Int64)) * (32 : Int64)) + (105 : Int32).toInt64) - (96 : Int64))), none]) dX8_spelled_45 (Nat.le_of_ble_eq_true rfl) rfl ?_
    refine mx_iload_n dX8_spelled_47 rfl rfl ?_
    refine mx_if_le (tgt := 67) dX8_spelled_48 rfl (fun _ => absurd ‹_› (by decide)) (fun _ => ?_)
    refine mx_lload dX8_spelled_51 rfl ?_
    refine mx_ldc2 q2079 dX8_spelled_53 ?_
    refine mx_lmul dX8_spelled_56 ?_
    refine mx_iload_n dX8_spelled_57 rfl rfl ?_
    refine mx_i2l dX8_spelled_58 ?_
    refine mx_ladd dX8_spelled_59 ?_
    refine mx_ldc2 q2078 dX8_spelled_60 ?_
    refine mx_lsub dX8_spelled_63 ?_
    refine mx_goto (tgt := 69) dX8_spelled_64 rfl ?_
    refine mx_lstore (al' := [some (iv (119 : Int32)), some (iv (97 : Int32)), some (iv (105 : Int32)), some (iv (116 : Int32)), some (iv (115 : Int32)), some (iv (0 : Int32)), some (jv (((((((((((119 : Int32).toInt64 - (96 : Int64)) * (32 : Int64)) + (97 : Int32).toInt64) - (96 : Int64)) * (32 : Int64)) + (105 : Int32).toInt64) - (96 : Int64)) * (32 : Int64)) + (116 : Int32).toInt64) - (96 : Int64))), none]) dX8_spelled_69 (Nat.le_of_ble_eq_true rfl) rfl ?_
    refine mx_iload dX8_spelled_71 rfl ?_
    refine mx_if_le (tgt := 93) dX8_spelled_73 rfl (fun _ => absurd ‹_› (by decide)) (fun _ => ?_)
    refine mx_lload dX8_spelled_76 rfl ?_
    refine mx_ldc2 q2079 dX8_spelled_78 ?_
    refine mx_lmul dX8_spelled_81 ?_
    refine mx_iload dX8_spelled_82 rfl ?_
    refine mx_i2l dX8_spelled_84 ?_
    refine mx_ladd dX8_spelled_85 ?_
    refine mx_ldc2 q2078 dX8_spelled_86 ?_
    refine mx_lsub dX8_spelled_89 ?_
    refine mx_goto (tgt := 95) dX8_spelled_90 rfl ?_
    refine mx_lstore (al' := [some (iv (119 : Int32)), some (iv (97 : Int32)), some (iv (105 : Int32)), some (iv (116 : Int32)), some (iv (115 : Int32)), some (iv (0 : Int32)), some (jv ((((((((((((((119 : Int32).toInt64 - (96 : Int64)) * (32 : Int64)) + (97 : Int32).toInt64) - (96 : Int64)) * (32 : Int64)) + (105 : Int32).toInt64) - (96 : Int64)) * (32 : Int64)) + (116 : Int32).toInt64) - (96 : Int64)) * (32 : Int64)) + (115 : Int32).toInt64) - (96 : Int64))), none]) dX8_spelled_95 (Nat.le_of_ble_eq_true rfl) rfl ?_
    refine mx_iload dX8_spelled_97 rfl ?_
    refine mx_if_le (tgt := 119) dX8_spelled_99 rfl (fun _ => ?_) (fun _ => absurd ‹_› (by decide))
    refine mx_lload dX8_spelled_119 rfl ?_
    refine mx_lretK rfl dX8_spelled_121 ?_
    refine mx_tj (show ((((((((((((((119 : Int32).toInt64 - (96 : Int64)) * (32 : Int64)) + (97 : Int32).toInt64) - (96 : Int64)) * (32 : Int64)) + (105 : Int32).toInt64) - (96 : Int64)) * (32 : Int64)) + (116 : Int32).toInt64) - (96 : Int64)) * (32 : Int64)) + (115 : Int32).toInt64) - (96 : Int64)) = (24159891 : Int64) by decide) ?_
    refine mx_callV 8 (y' := mi_X8_isWord) (vs := [jv (24159891 : Int64)]) (st := []) (al' := [some (rv a0), some (jv (24159891 : Int64)), none]) cl_8 V_X8_isWord (Or.inl q2196) dX8_variable_188 rfl rfl (Nat.le_of_ble_eq_true rfl) (Nat.le_of_ble_eq_true rfl) (ly8_k La0_h) ?_
    refine mx_aload_n dX8_isWord_0 rfl rfl ?_
    refine mx_get 8 50 (ref := "PrairiePoolModel") cl_8 (Nat.le_of_ble_eq_true rfl) (Or.inl q1677) (Or.inl rfl) dX8_isWord_1 (fv_8_50 _ _) (ly8_k La0_h) ?_
    refine mx_iconst dX8_isWord_4 ic_1 ?_
    refine mx_icmp_ne (tgt := 21) dX8_isWord_5 rfl (fun _ => ?_) (fun q_ => absurd q_ c1)
    refine mx_iconst dX8_isWord_21 ic_0 ?_
    refine mx_zretK rfl dX8_isWord_22 (Or.inl rfl) ?_
    refine mx_if_eq (tgt := 197) dX8_variable_191 rfl (fun _ => ?_) (fun _ => absurd ‹_› (by decide))
    refine mx_aload_n dX8_variable_197 rfl rfl ?_
    refine mx_bipush dX8_variable_198 ib_112 ?_
    refine mx_bipush dX8_variable_200 ib_114 ?_
    refine mx_bipush dX8_variable_202 ib_105 ?_
    refine mx_bipush dX8_variable_204 ib_99 ?_
    refine mx_bipush dX8_variable_206 ib_101 ?_
    refine mx_iconst dX8_variable_208 ic_0 ?_
    refine mx_callS (y' := mi_X8_spelled) (vs := [iv (112 : Int32), iv (114 : Int32), iv (105 : Int32), iv (99 : Int32), iv (101 : Int32), iv (0 : Int32)]) (st := [rv a0]) (al' := [some (iv (112 : Int32)), some (iv (114 : Int32)), some (iv (105 : Int32)), some (iv (99 : Int32)), some (iv (101 : Int32)), some (iv (0 : Int32)), none, none]) S_X8_spelled q2075 dX8_variable_209 rfl rfl (Nat.le_of_ble_eq_true rfl) (Nat.le_of_ble_eq_true rfl) ?_
    refine mx_iload_n dX8_spelled_0 rfl rfl ?_
    refine mx_i2l dX8_spelled_1 ?_
    refine mx_ldc2 q2078 dX8_spelled_2 ?_
    refine mx_lsub dX8_spelled_5 ?_
    refine mx_lstore (al' := [some (iv (112 : Int32)), some (iv (114 : Int32)), some (iv (105 : Int32)), some (iv (99 : Int32)), some (iv (101 : Int32)), some (iv (0 : Int32)), some (jv ((112 : Int32).toInt64 - (96 : Int64))), none]) dX8_spelled_6 (Nat.le_of_ble_eq_true rfl) rfl ?_
    refine mx_lload dX8_spelled_8 rfl ?_
    refine mx_ldc2 q2079 dX8_spelled_10 ?_
    refine mx_lmul dX8_spelled_13 ?_
    refine mx_iload_n dX8_spelled_14 rfl rfl ?_
    refine mx_i2l dX8_spelled_15 ?_
    refine mx_ladd dX8_spelled_16 ?_
    refine mx_ldc2 q2078 dX8_spelled_17 ?_
    refine mx_lsub dX8_spelled_20 ?_
    refine mx_lstore (al' := [some (iv (112 : Int32)), some (iv (114 : Int32)), some (iv (105 : Int32)), some (iv (99 : Int32)), some (iv (101 : Int32)), some (iv (0 : Int32)), some (jv (((((112 : Int32).toInt64 - (96 : Int64)) * (32 : Int64)) + (114 : Int32).toInt64) - (96 : Int64))), none]) dX8_spelled_21 (Nat.le_of_ble_eq_true rfl) rfl ?_
    refine mx_iload_n dX8_spelled_23 rfl rfl ?_
    refine mx_if_le (tgt := 43) dX8_spelled_24 rfl (fun _ => absurd ‹_› (by decide)) (fun _ => ?_)
    refine mx_lload dX8_spelled_27 rfl ?_
    refine mx_ldc2 q2079 dX8_spelled_29 ?_
    refine mx_lmul dX8_spelled_32 ?_
    refine mx_iload_n dX8_spelled_33 rfl rfl ?_
    refine mx_i2l dX8_spelled_34 ?_
    refine mx_ladd dX8_spelled_35 ?_
    refine mx_ldc2 q2078 dX8_spelled_36 ?_
    refine mx_lsub dX8_spelled_39 ?_
    refine mx_goto (tgt := 45) dX8_spelled_40 rfl ?_
    refine mx_lstore (al' := [some (iv (112 : Int32)), some (iv (114 : Int32)), some (iv (105 : Int32)), some (iv (99 : Int32)), some (iv (101 : Int32)), some (iv (0 : Int32)), some (jv ((((((((112 : Int32).toInt64 - (96 : Int64)) * (32 : Int64)) + (114 : Int32).toInt64) - (96 : Int64)) * (32 : Int64)) + (105 : Int32).toInt64) - (96 : Int64))), none]) dX8_spelled_45 (Nat.le_of_ble_eq_true rfl) rfl ?_
    refine mx_iload_n dX8_spelled_47 rfl rfl ?_
    refine mx_if_le (tgt := 67) dX8_spelled_48 rfl (fun _ => absurd ‹_› (by decide)) (fun _ => ?_)
    refine mx_lload dX8_spelled_51 rfl ?_
    refine mx_ldc2 q2079 dX8_spelled_53 ?_
    refine mx_lmul dX8_spelled_56 ?_
    refine mx_iload_n dX8_spelled_57 rfl rfl ?_
    refine mx_i2l dX8_spelled_58 ?_
    refine mx_ladd dX8_spelled_59 ?_
    refine mx_ldc2 q2078 dX8_spelled_60 ?_
    refine mx_lsub dX8_spelled_63 ?_
    refine mx_goto (tgt := 69) dX8_spelled_64 rfl ?_
    refine mx_lstore (al' := [some (iv (112 : Int32)), some (iv (114 : Int32)), some (iv (105 : Int32)), some (iv (99 : Int32)), some (iv (101 : Int32)), some (iv (0 : Int32)), some (jv (((((((((((112 : Int32).toInt64 - (96 : Int64)) * (32 : Int64)) + (114 : Int32).toInt64) - (96 : Int64)) * (32 : Int64)) + (105 : Int32).toInt64) - (96 : Int64)) * (32 : Int64)) + (99 : Int32).toInt64) - (96 : Int64))), none]) dX8_spelled_69 (Nat.le_of_ble_eq_true rfl) rfl ?_
    refine mx_iload dX8_spelled_71 rfl ?_
    refine mx_if_le (tgt := 93) dX8_spelled_73 rfl (fun _ => absurd ‹_› (by decide)) (fun _ => ?_)
    refine mx_lload dX8_spelled_76 rfl ?_
    refine mx_ldc2 q2079 dX8_spelled_78 ?_
    refine mx_lmul dX8_spelled_81 ?_
    refine mx_iload dX8_spelled_82 rfl ?_
    refine mx_i2l dX8_spelled_84 ?_
    refine mx_ladd dX8_spelled_85 ?_
    refine mx_ldc2 q2078 dX8_spelled_86 ?_
    refine mx_lsub dX8_spelled_89 ?_
    refine mx_goto (tgt := 95) dX8_spelled_90 rfl ?_
    refine mx_lstore (al' := [some (iv (112 : Int32)), some (iv (114 : Int32)), some (iv (105 : Int32)), some (iv (99 : Int32)), some (iv (101 : Int32)), some (iv (0 : Int32)), some (jv ((((((((((((((112 : Int32).toInt64 - (96 : Int64)) * (32 : Int64)) + (114 : Int32).toInt64) - (96 : Int64)) * (32 : Int64)) + (105 : Int32).toInt64) - (96 : Int64)) * (32 : Int64)) + (99 : Int32).toInt64) - (96 : Int64)) * (32 : Int64)) + (101 : Int32).toInt64) - (96 : Int64))), none]) dX8_spelled_95 (Nat.le_of_ble_eq_true rfl) rfl ?_
    refine mx_iload dX8_spelled_97 rfl ?_
    refine mx_if_le (tgt := 119) dX8_spelled_99 rfl (fun _ => ?_) (fun _ => absurd ‹_› (by decide))
    refine mx_lload dX8_spelled_119 rfl ?_
    refine mx_lretK rfl dX8_spelled_121 ?_
    refine mx_tj (show ((((((((((((((112 : Int32).toInt64 - (96 : Int64)) * (32 : Int64)) + (114 : Int32).toInt64) - (96 : Int64)) * (32 : Int64)) + (105 : Int32).toInt64) - (96 : Int64)) * (32 : Int64)) + (99 : Int32).toInt64) - (96 : Int64)) * (32 : Int64)) + (101 : Int32).toInt64) - (96 : Int64)) = (17376357 : Int64) by decide) ?_
    refine mx_callV 8 (y' := mi_X8_isWord) (vs := [jv (17376357 : Int64)]) (st := []) (al' := [some (rv a0), some (jv (17376357 : Int64)), none]) cl_8 V_X8_isWord (Or.inl q2196) dX8_variable_212 rfl rfl (Nat.le_of_ble_eq_true rfl) (Nat.le_of_ble_eq_true rfl) (ly8_k La0_h) ?_
    refine mx_aload_n dX8_isWord_0 rfl rfl ?_
    refine mx_get 8 50 (ref := "PrairiePoolModel") cl_8 (Nat.le_of_ble_eq_true rfl) (Or.inl q1677) (Or.inl rfl) dX8_isWord_1 (fv_8_50 _ _) (ly8_k La0_h) ?_
    refine mx_iconst dX8_isWord_4 ic_1 ?_
    refine mx_icmp_ne (tgt := 21) dX8_isWord_5 rfl (fun _ => ?_) (fun q_ => absurd q_ c1)
    refine mx_iconst dX8_isWord_21 ic_0 ?_
    refine mx_zretK rfl dX8_isWord_22 (Or.inl rfl) ?_
    refine mx_if_eq (tgt := 223) dX8_variable_215 rfl (fun _ => ?_) (fun _ => absurd ‹_› (by decide))
    refine mx_iconst dX8_variable_223 ic_m1 ?_
    exact mx_iret rfl dX8_variable_224 H
  · have H := H.2 c1
    refine mx_aload_n dX8_isWord_8 rfl rfl ?_
    refine mx_get 8 55 (ref := "PrairiePoolModel") cl_8 (Nat.le_of_ble_eq_true rfl) (Or.inl q1682) (Or.inl rfl) dX8_isWord_9 (fv_8_55 _ _) (ly8_k La0_h) ?_
    refine mx_lload_n dX8_isWord_12 rfl rfl ?_
    refine mx_lif_ne (tgt := 21) dX8_isWord_13 dX8_isWord_14 rfl (fun c2 => ?_) (fun c2 => ?_)
    · have H := H.1 c2
      refine mx_iconst dX8_isWord_21 ic_0 ?_
      refine mx_zretK rfl dX8_isWord_22 (Or.inl rfl) ?_
      refine mx_if_eq (tgt := 23) dX8_variable_18 rfl (fun _ => ?_) (fun _ => absurd ‹_› (by decide))
      refine mx_aload_n dX8_variable_23 rfl rfl ?_
      refine mx_ldc2 q2200 dX8_variable_24 ?_
      refine mx_callV 8 (y' := mi_X8_isWord) (vs := [jv (253792434 : Int64)]) (st := []) (al' := [some (rv a0), some (jv (253792434 : Int64)), none]) cl_8 V_X8_isWord (Or.inl q2196) dX8_variable_27 rfl rfl (Nat.le_of_ble_eq_true rfl) (Nat.le_of_ble_eq_true rfl) (ly8_k La0_h) ?_
      refine mx_aload_n dX8_isWord_0 rfl rfl ?_
      refine mx_get 8 50 (ref := "PrairiePoolModel") cl_8 (Nat.le_of_ble_eq_true rfl) (Or.inl q1677) (Or.inl rfl) dX8_isWord_1 (fv_8_50 _ _) (ly8_k La0_h) ?_
      refine mx_iconst dX8_isWord_4 ic_1 ?_
      refine mx_icmp_ne (tgt := 21) dX8_isWord_5 rfl (fun q_ => absurd c1 q_) (fun _ => ?_)
      refine mx_aload_n dX8_isWord_8 rfl rfl ?_
      refine mx_get 8 55 (ref := "PrairiePoolModel") cl_8 (Nat.le_of_ble_eq_true rfl) (Or.inl q1682) (Or.inl rfl) dX8_isWord_9 (fv_8_55 _ _) (ly8_k La0_h) ?_
      refine mx_lload_n dX8_isWord_12 rfl rfl ?_
      refine mx_lif_ne (tgt := 21) dX8_isWord_13 dX8_isWord_14 rfl (fun c3 => ?_) (fun c3 => ?_)
      · have H := H.1 c3
        refine mx_iconst dX8_isWord_21 ic_0 ?_
        refine mx_zretK rfl dX8_isWord_22 (Or.inl rfl) ?_
        refine mx_if_eq (tgt := 35) dX8_variable_30 rfl (fun _ => ?_) (fun _ => absurd ‹_› (by decide))
        refine mx_aload_n dX8_variable_35 rfl rfl ?_
        refine mx_bipush dX8_variable_36 ib_119 ?_
        refine mx_bipush dX8_variable_38 ib_101 ?_
        refine mx_bipush dX8_variable_40 ib_101 ?_
        refine mx_bipush dX8_variable_42 ib_107 ?_
        refine mx_iconst dX8_variable_44 ic_0 ?_
        refine mx_iconst dX8_variable_45 ic_0 ?_
        refine mx_callS (y' := mi_X8_spelled) (vs := [iv (119 : Int32), iv (101 : Int32), iv (101 : Int32), iv (107 : Int32), iv (0 : Int32), iv (0 : Int32)]) (st := [rv a0]) (al' := [some (iv (119 : Int32)), some (iv (101 : Int32)), some (iv (101 : Int32)), some (iv (107 : Int32)), some (iv (0 : Int32)), some (iv (0 : Int32)), none, none]) S_X8_spelled q2075 dX8_variable_46 rfl rfl (Nat.le_of_ble_eq_true rfl) (Nat.le_of_ble_eq_true rfl) ?_
        refine mx_iload_n dX8_spelled_0 rfl rfl ?_
        refine mx_i2l dX8_spelled_1 ?_
        refine mx_ldc2 q2078 dX8_spelled_2 ?_
        refine mx_lsub dX8_spelled_5 ?_
        refine mx_lstore (al' := [some (iv (119 : Int32)), some (iv (101 : Int32)), some (iv (101 : Int32)), some (iv (107 : Int32)), some (iv (0 : Int32)), some (iv (0 : Int32)), some (jv ((119 : Int32).toInt64 - (96 : Int64))), none]) dX8_spelled_6 (Nat.le_of_ble_eq_true rfl) rfl ?_
        refine mx_lload dX8_spelled_8 rfl ?_
        refine mx_ldc2 q2079 dX8_spelled_10 ?_
        refine mx_lmul dX8_spelled_13 ?_
        refine mx_iload_n dX8_spelled_14 rfl rfl ?_
        refine mx_i2l dX8_spelled_15 ?_
        refine mx_ladd dX8_spelled_16 ?_
        refine mx_ldc2 q2078 dX8_spelled_17 ?_
        refine mx_lsub dX8_spelled_20 ?_
        refine mx_lstore (al' := [some (iv (119 : Int32)), some (iv (101 : Int32)), some (iv (101 : Int32)), some (iv (107 : Int32)), some (iv (0 : Int32)), some (iv (0 : Int32)), some (jv (((((119 : Int32).toInt64 - (96 : Int64)) * (32 : Int64)) + (101 : Int32).toInt64) - (96 : Int64))), none]) dX8_spelled_21 (Nat.le_of_ble_eq_true rfl) rfl ?_
        refine mx_iload_n dX8_spelled_23 rfl rfl ?_
        refine mx_if_le (tgt := 43) dX8_spelled_24 rfl (fun _ => absurd ‹_› (by decide)) (fun _ => ?_)
        refine mx_lload dX8_spelled_27 rfl ?_
        refine mx_ldc2 q2079 dX8_spelled_29 ?_
        refine mx_lmul dX8_spelled_32 ?_
        refine mx_iload_n dX8_spelled_33 rfl rfl ?_
        refine mx_i2l dX8_spelled_34 ?_
        refine mx_ladd dX8_spelled_35 ?_
        refine mx_ldc2 q2078 dX8_spelled_36 ?_
        refine mx_lsub dX8_spelled_39 ?_
        refine mx_goto (tgt := 45) dX8_spelled_40 rfl ?_
        refine mx_lstore (al' := [some (iv (119 : Int32)), some (iv (101 : Int32)), some (iv (101 : Int32)), some (iv (107 : Int32)), some (iv (0 : Int32)), some (iv (0 : Int32)), some (jv ((((((((119 : Int32).toInt64 - (96 : Int64)) * (32 : Int64)) + (101 : Int32).toInt64) - (96 : Int64)) * (32 : Int64)) + (101 : Int32).toInt64) - (96 : Int64))), none]) dX8_spelled_45 (Nat.le_of_ble_eq_true rfl) rfl ?_
        refine mx_iload_n dX8_spelled_47 rfl rfl ?_
        refine mx_if_le (tgt := 67) dX8_spelled_48 rfl (fun _ => absurd ‹_› (by decide)) (fun _ => ?_)
        refine mx_lload dX8_spelled_51 rfl ?_
        refine mx_ldc2 q2079 dX8_spelled_53 ?_
        refine mx_lmul dX8_spelled_56 ?_
        refine mx_iload_n dX8_spelled_57 rfl rfl ?_
        refine mx_i2l dX8_spelled_58 ?_
        refine mx_ladd dX8_spelled_59 ?_
        refine mx_ldc2 q2078 dX8_spelled_60 ?_
        refine mx_lsub dX8_spelled_63 ?_
        refine mx_goto (tgt := 69) dX8_spelled_64 rfl ?_
        refine mx_lstore (al' := [some (iv (119 : Int32)), some (iv (101 : Int32)), some (iv (101 : Int32)), some (iv (107 : Int32)), some (iv (0 : Int32)), some (iv (0 : Int32)), some (jv (((((((((((119 : Int32).toInt64 - (96 : Int64)) * (32 : Int64)) + (101 : Int32).toInt64) - (96 : Int64)) * (32 : Int64)) + (101 : Int32).toInt64) - (96 : Int64)) * (32 : Int64)) + (107 : Int32).toInt64) - (96 : Int64))), none]) dX8_spelled_69 (Nat.le_of_ble_eq_true rfl) rfl ?_
        refine mx_iload dX8_spelled_71 rfl ?_
        refine mx_if_le (tgt := 93) dX8_spelled_73 rfl (fun _ => ?_) (fun _ => absurd ‹_› (by decide))
        refine mx_lload dX8_spelled_93 rfl ?_
        refine mx_lstore (al' := [some (iv (119 : Int32)), some (iv (101 : Int32)), some (iv (101 : Int32)), some (iv (107 : Int32)), some (iv (0 : Int32)), some (iv (0 : Int32)), some (jv (((((((((((119 : Int32).toInt64 - (96 : Int64)) * (32 : Int64)) + (101 : Int32).toInt64) - (96 : Int64)) * (32 : Int64)) + (101 : Int32).toInt64) - (96 : Int64)) * (32 : Int64)) + (107 : Int32).toInt64) - (96 : Int64))), none]) dX8_spelled_95 (Nat.le_of_ble_eq_true rfl) rfl ?_
        refine mx_iload dX8_spelled_97 rfl ?_
        refine mx_if_le (tgt := 119) dX8_spelled_99 rfl (fun _ => ?_) (fun _ => absurd ‹_› (by decide))
        refine mx_lload dX8_spelled_119 rfl ?_
        refine mx_lretK rfl dX8_spelled_121 ?_
        refine mx_tj (show (((((((((((119 : Int32).toInt64 - (96 : Int64)) * (32 : Int64)) + (101 : Int32).toInt64) - (96 : Int64)) * (32 : Int64)) + (101 : Int32).toInt64) - (96 : Int64)) * (32 : Int64)) + (107 : Int32).toInt64) - (96 : Int64)) = (758955 : Int64) by decide) ?_
        refine mx_callV 8 (y' := mi_X8_isWord) (vs := [jv (758955 : Int64)]) (st := []) (al' := [some (rv a0), some (jv (758955 : Int64)), none]) cl_8 V_X8_isWord (Or.inl q2196) dX8_variable_49 rfl rfl (Nat.le_of_ble_eq_true rfl) (Nat.le_of_ble_eq_true rfl) (ly8_k La0_h) ?_
        refine mx_aload_n dX8_isWord_0 rfl rfl ?_
        refine mx_get 8 50 (ref := "PrairiePoolModel") cl_8 (Nat.le_of_ble_eq_true rfl) (Or.inl q1677) (Or.inl rfl) dX8_isWord_1 (fv_8_50 _ _) (ly8_k La0_h) ?_
        refine mx_iconst dX8_isWord_4 ic_1 ?_
        refine mx_icmp_ne (tgt := 21) dX8_isWord_5 rfl (fun q_ => absurd c1 q_) (fun _ => ?_)
        refine mx_aload_n dX8_isWord_8 rfl rfl ?_
        refine mx_get 8 55 (ref := "PrairiePoolModel") cl_8 (Nat.le_of_ble_eq_true rfl) (Or.inl q1682) (Or.inl rfl) dX8_isWord_9 (fv_8_55 _ _) (ly8_k La0_h) ?_
        refine mx_lload_n dX8_isWord_12 rfl rfl ?_
        refine mx_lif_ne (tgt := 21) dX8_isWord_13 dX8_isWord_14 rfl (fun c4 => ?_) (fun c4 => ?_)
        · have H := H.1 c4
          refine mx_iconst dX8_isWord_21 ic_0 ?_
          refine mx_zretK rfl dX8_isWord_22 (Or.inl rfl) ?_
          refine mx_if_eq (tgt := 57) dX8_variable_52 rfl (fun _ => ?_) (fun _ => absurd ‹_› (by decide))
          refine mx_aload_n dX8_variable_57 rfl rfl ?_
          refine mx_bipush dX8_variable_58 ib_121 ?_
          refine mx_bipush dX8_variable_60 ib_101 ?_
          refine mx_bipush dX8_variable_62 ib_97 ?_
          refine mx_bipush dX8_variable_64 ib_114 ?_
          refine mx_iconst dX8_variable_66 ic_0 ?_
          refine mx_iconst dX8_variable_67 ic_0 ?_
          refine mx_callS (y' := mi_X8_spelled) (vs := [iv (121 : Int32), iv (101 : Int32), iv (97 : Int32), iv (114 : Int32), iv (0 : Int32), iv (0 : Int32)]) (st := [rv a0]) (al' := [some (iv (121 : Int32)), some (iv (101 : Int32)), some (iv (97 : Int32)), some (iv (114 : Int32)), some (iv (0 : Int32)), some (iv (0 : Int32)), none, none]) S_X8_spelled q2075 dX8_variable_68 rfl rfl (Nat.le_of_ble_eq_true rfl) (Nat.le_of_ble_eq_true rfl) ?_
          refine mx_iload_n dX8_spelled_0 rfl rfl ?_
          refine mx_i2l dX8_spelled_1 ?_
          refine mx_ldc2 q2078 dX8_spelled_2 ?_
          refine mx_lsub dX8_spelled_5 ?_
          refine mx_lstore (al' := [some (iv (121 : Int32)), some (iv (101 : Int32)), some (iv (97 : Int32)), some (iv (114 : Int32)), some (iv (0 : Int32)), some (iv (0 : Int32)), some (jv ((121 : Int32).toInt64 - (96 : Int64))), none]) dX8_spelled_6 (Nat.le_of_ble_eq_true rfl) rfl ?_
          refine mx_lload dX8_spelled_8 rfl ?_
          refine mx_ldc2 q2079 dX8_spelled_10 ?_
          refine mx_lmul dX8_spelled_13 ?_
          refine mx_iload_n dX8_spelled_14 rfl rfl ?_
          refine mx_i2l dX8_spelled_15 ?_
          refine mx_ladd dX8_spelled_16 ?_
          refine mx_ldc2 q2078 dX8_spelled_17 ?_
          refine mx_lsub dX8_spelled_20 ?_
          refine mx_lstore (al' := [some (iv (121 : Int32)), some (iv (101 : Int32)), some (iv (97 : Int32)), some (iv (114 : Int32)), some (iv (0 : Int32)), some (iv (0 : Int32)), some (jv (((((121 : Int32).toInt64 - (96 : Int64)) * (32 : Int64)) + (101 : Int32).toInt64) - (96 : Int64))), none]) dX8_spelled_21 (Nat.le_of_ble_eq_true rfl) rfl ?_
          refine mx_iload_n dX8_spelled_23 rfl rfl ?_
          refine mx_if_le (tgt := 43) dX8_spelled_24 rfl (fun _ => absurd ‹_› (by decide)) (fun _ => ?_)
          refine mx_lload dX8_spelled_27 rfl ?_
          refine mx_ldc2 q2079 dX8_spelled_29 ?_
          refine mx_lmul dX8_spelled_32 ?_
          refine mx_iload_n dX8_spelled_33 rfl rfl ?_
          refine mx_i2l dX8_spelled_34 ?_
          refine mx_ladd dX8_spelled_35 ?_
          refine mx_ldc2 q2078 dX8_spelled_36 ?_
          refine mx_lsub dX8_spelled_39 ?_
          refine mx_goto (tgt := 45) dX8_spelled_40 rfl ?_
          refine mx_lstore (al' := [some (iv (121 : Int32)), some (iv (101 : Int32)), some (iv (97 : Int32)), some (iv (114 : Int32)), some (iv (0 : Int32)), some (iv (0 : Int32)), some (jv ((((((((121 : Int32).toInt64 - (96 : Int64)) * (32 : Int64)) + (101 : Int32).toInt64) - (96 : Int64)) * (32 : Int64)) + (97 : Int32).toInt64) - (96 : Int64))), none]) dX8_spelled_45 (Nat.le_of_ble_eq_true rfl) rfl ?_
          refine mx_iload_n dX8_spelled_47 rfl rfl ?_
          refine mx_if_le (tgt := 67) dX8_spelled_48 rfl (fun _ => absurd ‹_› (by decide)) (fun _ => ?_)
          refine mx_lload dX8_spelled_51 rfl ?_
          refine mx_ldc2 q2079 dX8_spelled_53 ?_
          refine mx_lmul dX8_spelled_56 ?_
          refine mx_iload_n dX8_spelled_57 rfl rfl ?_
          refine mx_i2l dX8_spelled_58 ?_
          refine mx_ladd dX8_spelled_59 ?_
          refine mx_ldc2 q2078 dX8_spelled_60 ?_
          refine mx_lsub dX8_spelled_63 ?_
          refine mx_goto (tgt := 69) dX8_spelled_64 rfl ?_
          refine mx_lstore (al' := [some (iv (121 : Int32)), some (iv (101 : Int32)), some (iv (97 : Int32)), some (iv (114 : Int32)), some (iv (0 : Int32)), some (iv (0 : Int32)), some (jv (((((((((((121 : Int32).toInt64 - (96 : Int64)) * (32 : Int64)) + (101 : Int32).toInt64) - (96 : Int64)) * (32 : Int64)) + (97 : Int32).toInt64) - (96 : Int64)) * (32 : Int64)) + (114 : Int32).toInt64) - (96 : Int64))), none]) dX8_spelled_69 (Nat.le_of_ble_eq_true rfl) rfl ?_
          refine mx_iload dX8_spelled_71 rfl ?_
          refine mx_if_le (tgt := 93) dX8_spelled_73 rfl (fun _ => ?_) (fun _ => absurd ‹_› (by decide))
          refine mx_lload dX8_spelled_93 rfl ?_
          refine mx_lstore (al' := [some (iv (121 : Int32)), some (iv (101 : Int32)), some (iv (97 : Int32)), some (iv (114 : Int32)), some (iv (0 : Int32)), some (iv (0 : Int32)), some (jv (((((((((((121 : Int32).toInt64 - (96 : Int64)) * (32 : Int64)) + (101 : Int32).toInt64) - (96 : Int64)) * (32 : Int64)) + (97 : Int32).toInt64) - (96 : Int64)) * (32 : Int64)) + (114 : Int32).toInt64) - (96 : Int64))), none]) dX8_spelled_95 (Nat.le_of_ble_eq_true rfl) rfl ?_
          refine mx_iload dX8_spelled_97 rfl ?_
          refine mx_if_le (tgt := 119) dX8_spelled_99 rfl (fun _ => ?_) (fun _ => absurd ‹_› (by decide))
          refine mx_lload dX8_spelled_119 rfl ?_
          refine mx_lretK rfl dX8_spelled_121 ?_
          refine mx_tj (show (((((((((((121 : Int32).toInt64 - (96 : Int64)) * (32 : Int64)) + (101 : Int32).toInt64) - (96 : Int64)) * (32 : Int64)) + (97 : Int32).toInt64) - (96 : Int64)) * (32 : Int64)) + (114 : Int32).toInt64) - (96 : Int64)) = (824370 : Int64) by decide) ?_
          refine mx_callV 8 (y' := mi_X8_isWord) (vs := [jv (824370 : Int64)]) (st := []) (al' := [some (rv a0), some (jv (824370 : Int64)), none]) cl_8 V_X8_isWord (Or.inl q2196) dX8_variable_71 rfl rfl (Nat.le_of_ble_eq_true rfl) (Nat.le_of_ble_eq_true rfl) (ly8_k La0_h) ?_
          refine mx_aload_n dX8_isWord_0 rfl rfl ?_
          refine mx_get 8 50 (ref := "PrairiePoolModel") cl_8 (Nat.le_of_ble_eq_true rfl) (Or.inl q1677) (Or.inl rfl) dX8_isWord_1 (fv_8_50 _ _) (ly8_k La0_h) ?_
          refine mx_iconst dX8_isWord_4 ic_1 ?_
          refine mx_icmp_ne (tgt := 21) dX8_isWord_5 rfl (fun q_ => absurd c1 q_) (fun _ => ?_)
          refine mx_aload_n dX8_isWord_8 rfl rfl ?_
          refine mx_get 8 55 (ref := "PrairiePoolModel") cl_8 (Nat.le_of_ble_eq_true rfl) (Or.inl q1682) (Or.inl rfl) dX8_isWord_9 (fv_8_55 _ _) (ly8_k La0_h) ?_
          refine mx_lload_n dX8_isWord_12 rfl rfl ?_
          refine mx_lif_ne (tgt := 21) dX8_isWord_13 dX8_isWord_14 rfl (fun c5 => ?_) (fun c5 => ?_)
          · have H := H.1 c5
            refine mx_iconst dX8_isWord_21 ic_0 ?_
            refine mx_zretK rfl dX8_isWord_22 (Or.inl rfl) ?_
            refine mx_if_eq (tgt := 79) dX8_variable_74 rfl (fun _ => ?_) (fun _ => absurd ‹_› (by decide))
            refine mx_aload_n dX8_variable_79 rfl rfl ?_
            refine mx_ldc2 q2201 dX8_variable_80 ?_
            refine mx_callV 8 (y' := mi_X8_isWord) (vs := [jv (2872317331 : Int64)]) (st := []) (al' := [some (rv a0), some (jv (2872317331 : Int64)), none]) cl_8 V_X8_isWord (Or.inl q2196) dX8_variable_83 rfl rfl (Nat.le_of_ble_eq_true rfl) (Nat.le_of_ble_eq_true rfl) (ly8_k La0_h) ?_
            refine mx_aload_n dX8_isWord_0 rfl rfl ?_
            refine mx_get 8 50 (ref := "PrairiePoolModel") cl_8 (Nat.le_of_ble_eq_true rfl) (Or.inl q1677) (Or.inl rfl) dX8_isWord_1 (fv_8_50 _ _) (ly8_k La0_h) ?_
            refine mx_iconst dX8_isWord_4 ic_1 ?_
            refine mx_icmp_ne (tgt := 21) dX8_isWord_5 rfl (fun q_ => absurd c1 q_) (fun _ => ?_)
            refine mx_aload_n dX8_isWord_8 rfl rfl ?_
            refine mx_get 8 55 (ref := "PrairiePoolModel") cl_8 (Nat.le_of_ble_eq_true rfl) (Or.inl q1682) (Or.inl rfl) dX8_isWord_9 (fv_8_55 _ _) (ly8_k La0_h) ?_
            refine mx_lload_n dX8_isWord_12 rfl rfl ?_
            refine mx_lif_ne (tgt := 21) dX8_isWord_13 dX8_isWord_14 rfl (fun c6 => ?_) (fun c6 => ?_)
            · have H := H.1 c6
              refine mx_iconst dX8_isWord_21 ic_0 ?_
              refine mx_zretK rfl dX8_isWord_22 (Or.inl rfl) ?_
              refine mx_if_eq (tgt := 91) dX8_variable_86 rfl (fun _ => ?_) (fun _ => absurd ‹_› (by decide))
              refine mx_aload_n dX8_variable_91 rfl rfl ?_
              refine mx_bipush dX8_variable_92 ib_97 ?_
              refine mx_bipush dX8_variable_94 ib_99 ?_
              refine mx_bipush dX8_variable_96 ib_114 ?_
              refine mx_bipush dX8_variable_98 ib_101 ?_
              refine mx_bipush dX8_variable_100 ib_115 ?_
              refine mx_iconst dX8_variable_102 ic_0 ?_
              refine mx_callS (y' := mi_X8_spelled) (vs := [iv (97 : Int32), iv (99 : Int32), iv (114 : Int32), iv (101 : Int32), iv (115 : Int32), iv (0 : Int32)]) (st := [rv a0]) (al' := [some (iv (97 : Int32)), some (iv (99 : Int32)), some (iv (114 : Int32)), some (iv (101 : Int32)), some (iv (115 : Int32)), some (iv (0 : Int32)), none, none]) S_X8_spelled q2075 dX8_variable_103 rfl rfl (Nat.le_of_ble_eq_true rfl) (Nat.le_of_ble_eq_true rfl) ?_
              refine mx_iload_n dX8_spelled_0 rfl rfl ?_
              refine mx_i2l dX8_spelled_1 ?_
              refine mx_ldc2 q2078 dX8_spelled_2 ?_
              refine mx_lsub dX8_spelled_5 ?_
              refine mx_lstore (al' := [some (iv (97 : Int32)), some (iv (99 : Int32)), some (iv (114 : Int32)), some (iv (101 : Int32)), some (iv (115 : Int32)), some (iv (0 : Int32)), some (jv ((97 : Int32).toInt64 - (96 : Int64))), none]) dX8_spelled_6 (Nat.le_of_ble_eq_true rfl) rfl ?_
              refine mx_lload dX8_spelled_8 rfl ?_
              refine mx_ldc2 q2079 dX8_spelled_10 ?_
              refine mx_lmul dX8_spelled_13 ?_
              refine mx_iload_n dX8_spelled_14 rfl rfl ?_
              refine mx_i2l dX8_spelled_15 ?_
              refine mx_ladd dX8_spelled_16 ?_
              refine mx_ldc2 q2078 dX8_spelled_17 ?_
              refine mx_lsub dX8_spelled_20 ?_
              refine mx_lstore (al' := [some (iv (97 : Int32)), some (iv (99 : Int32)), some (iv (114 : Int32)), some (iv (101 : Int32)), some (iv (115 : Int32)), some (iv (0 : Int32)), some (jv (((((97 : Int32).toInt64 - (96 : Int64)) * (32 : Int64)) + (99 : Int32).toInt64) - (96 : Int64))), none]) dX8_spelled_21 (Nat.le_of_ble_eq_true rfl) rfl ?_
              refine mx_iload_n dX8_spelled_23 rfl rfl ?_
              refine mx_if_le (tgt := 43) dX8_spelled_24 rfl (fun _ => absurd ‹_› (by decide)) (fun _ => ?_)
              refine mx_lload dX8_spelled_27 rfl ?_
              refine mx_ldc2 q2079 dX8_spelled_29 ?_
              refine mx_lmul dX8_spelled_32 ?_
              refine mx_iload_n dX8_spelled_33 rfl rfl ?_
              refine mx_i2l dX8_spelled_34 ?_
              refine mx_ladd dX8_spelled_35 ?_
              refine mx_ldc2 q2078 dX8_spelled_36 ?_
              refine mx_lsub dX8_spelled_39 ?_
              refine mx_goto (tgt := 45) dX8_spelled_40 rfl ?_
              refine mx_lstore (al' := [some (iv (97 : Int32)), some (iv (99 : Int32)), some (iv (114 : Int32)), some (iv (101 : Int32)), some (iv (115 : Int32)), some (iv (0 : Int32)), some (jv ((((((((97 : Int32).toInt64 - (96 : Int64)) * (32 : Int64)) + (99 : Int32).toInt64) - (96 : Int64)) * (32 : Int64)) + (114 : Int32).toInt64) - (96 : Int64))), none]) dX8_spelled_45 (Nat.le_of_ble_eq_true rfl) rfl ?_
              refine mx_iload_n dX8_spelled_47 rfl rfl ?_
              refine mx_if_le (tgt := 67) dX8_spelled_48 rfl (fun _ => absurd ‹_› (by decide)) (fun _ => ?_)
              refine mx_lload dX8_spelled_51 rfl ?_
              refine mx_ldc2 q2079 dX8_spelled_53 ?_
              refine mx_lmul dX8_spelled_56 ?_
              refine mx_iload_n dX8_spelled_57 rfl rfl ?_
              refine mx_i2l dX8_spelled_58 ?_
              refine mx_ladd dX8_spelled_59 ?_
              refine mx_ldc2 q2078 dX8_spelled_60 ?_
              refine mx_lsub dX8_spelled_63 ?_
              refine mx_goto (tgt := 69) dX8_spelled_64 rfl ?_
              refine mx_lstore (al' := [some (iv (97 : Int32)), some (iv (99 : Int32)), some (iv (114 : Int32)), some (iv (101 : Int32)), some (iv (115 : Int32)), some (iv (0 : Int32)), some (jv (((((((((((97 : Int32).toInt64 - (96 : Int64)) * (32 : Int64)) + (99 : Int32).toInt64) - (96 : Int64)) * (32 : Int64)) + (114 : Int32).toInt64) - (96 : Int64)) * (32 : Int64)) + (101 : Int32).toInt64) - (96 : Int64))), none]) dX8_spelled_69 (Nat.le_of_ble_eq_true rfl) rfl ?_
              refine mx_iload dX8_spelled_71 rfl ?_
              refine mx_if_le (tgt := 93) dX8_spelled_73 rfl (fun _ => absurd ‹_› (by decide)) (fun _ => ?_)
              refine mx_lload dX8_spelled_76 rfl ?_
              refine mx_ldc2 q2079 dX8_spelled_78 ?_
              refine mx_lmul dX8_spelled_81 ?_
              refine mx_iload dX8_spelled_82 rfl ?_
              refine mx_i2l dX8_spelled_84 ?_
              refine mx_ladd dX8_spelled_85 ?_
              refine mx_ldc2 q2078 dX8_spelled_86 ?_
              refine mx_lsub dX8_spelled_89 ?_
              refine mx_goto (tgt := 95) dX8_spelled_90 rfl ?_
              refine mx_lstore (al' := [some (iv (97 : Int32)), some (iv (99 : Int32)), some (iv (114 : Int32)), some (iv (101 : Int32)), some (iv (115 : Int32)), some (iv (0 : Int32)), some (jv ((((((((((((((97 : Int32).toInt64 - (96 : Int64)) * (32 : Int64)) + (99 : Int32).toInt64) - (96 : Int64)) * (32 : Int64)) + (114 : Int32).toInt64) - (96 : Int64)) * (32 : Int64)) + (101 : Int32).toInt64) - (96 : Int64)) * (32 : Int64)) + (115 : Int32).toInt64) - (96 : Int64))), none]) dX8_spelled_95 (Nat.le_of_ble_eq_true rfl) rfl ?_
              refine mx_iload dX8_spelled_97 rfl ?_
              refine mx_if_le (tgt := 119) dX8_spelled_99 rfl (fun _ => ?_) (fun _ => absurd ‹_› (by decide))
              refine mx_lload dX8_spelled_119 rfl ?_
              refine mx_lretK rfl dX8_spelled_121 ?_
              refine mx_tj (show ((((((((((((((97 : Int32).toInt64 - (96 : Int64)) * (32 : Int64)) + (99 : Int32).toInt64) - (96 : Int64)) * (32 : Int64)) + (114 : Int32).toInt64) - (96 : Int64)) * (32 : Int64)) + (101 : Int32).toInt64) - (96 : Int64)) * (32 : Int64)) + (115 : Int32).toInt64) - (96 : Int64)) = (1165491 : Int64) by decide) ?_
              refine mx_callV 8 (y' := mi_X8_isWord) (vs := [jv (1165491 : Int64)]) (st := []) (al' := [some (rv a0), some (jv (1165491 : Int64)), none]) cl_8 V_X8_isWord (Or.inl q2196) dX8_variable_106 rfl rfl (Nat.le_of_ble_eq_true rfl) (Nat.le_of_ble_eq_true rfl) (ly8_k La0_h) ?_
              refine mx_aload_n dX8_isWord_0 rfl rfl ?_
              refine mx_get 8 50 (ref := "PrairiePoolModel") cl_8 (Nat.le_of_ble_eq_true rfl) (Or.inl q1677) (Or.inl rfl) dX8_isWord_1 (fv_8_50 _ _) (ly8_k La0_h) ?_
              refine mx_iconst dX8_isWord_4 ic_1 ?_
              refine mx_icmp_ne (tgt := 21) dX8_isWord_5 rfl (fun q_ => absurd c1 q_) (fun _ => ?_)
              refine mx_aload_n dX8_isWord_8 rfl rfl ?_
              refine mx_get 8 55 (ref := "PrairiePoolModel") cl_8 (Nat.le_of_ble_eq_true rfl) (Or.inl q1682) (Or.inl rfl) dX8_isWord_9 (fv_8_55 _ _) (ly8_k La0_h) ?_
              refine mx_lload_n dX8_isWord_12 rfl rfl ?_
              refine mx_lif_ne (tgt := 21) dX8_isWord_13 dX8_isWord_14 rfl (fun c7 => ?_) (fun c7 => ?_)
              · have H := H.1 c7
                refine mx_iconst dX8_isWord_21 ic_0 ?_
                refine mx_zretK rfl dX8_isWord_22 (Or.inl rfl) ?_
                refine mx_if_eq (tgt := 114) dX8_variable_109 rfl (fun _ => ?_) (fun _ => absurd ‹_› (by decide))
                refine mx_aload_n dX8_variable_114 rfl rfl ?_
                refine mx_bipush dX8_variable_115 ib_100 ?_
                refine mx_bipush dX8_variable_117 ib_101 ?_
                refine mx_bipush dX8_variable_119 ib_98 ?_
                refine mx_bipush dX8_variable_121 ib_116 ?_
                refine mx_iconst dX8_variable_123 ic_0 ?_
                refine mx_iconst dX8_variable_124 ic_0 ?_
                refine mx_callS (y' := mi_X8_spelled) (vs := [iv (100 : Int32), iv (101 : Int32), iv (98 : Int32), iv (116 : Int32), iv (0 : Int32), iv (0 : Int32)]) (st := [rv a0]) (al' := [some (iv (100 : Int32)), some (iv (101 : Int32)), some (iv (98 : Int32)), some (iv (116 : Int32)), some (iv (0 : Int32)), some (iv (0 : Int32)), none, none]) S_X8_spelled q2075 dX8_variable_125 rfl rfl (Nat.le_of_ble_eq_true rfl) (Nat.le_of_ble_eq_true rfl) ?_
                refine mx_iload_n dX8_spelled_0 rfl rfl ?_
                refine mx_i2l dX8_spelled_1 ?_
                refine mx_ldc2 q2078 dX8_spelled_2 ?_
                refine mx_lsub dX8_spelled_5 ?_
                refine mx_lstore (al' := [some (iv (100 : Int32)), some (iv (101 : Int32)), some (iv (98 : Int32)), some (iv (116 : Int32)), some (iv (0 : Int32)), some (iv (0 : Int32)), some (jv ((100 : Int32).toInt64 - (96 : Int64))), none]) dX8_spelled_6 (Nat.le_of_ble_eq_true rfl) rfl ?_
                refine mx_lload dX8_spelled_8 rfl ?_
                refine mx_ldc2 q2079 dX8_spelled_10 ?_
                refine mx_lmul dX8_spelled_13 ?_
                refine mx_iload_n dX8_spelled_14 rfl rfl ?_
                refine mx_i2l dX8_spelled_15 ?_
                refine mx_ladd dX8_spelled_16 ?_
                refine mx_ldc2 q2078 dX8_spelled_17 ?_
                refine mx_lsub dX8_spelled_20 ?_
                refine mx_lstore (al' := [some (iv (100 : Int32)), some (iv (101 : Int32)), some (iv (98 : Int32)), some (iv (116 : Int32)), some (iv (0 : Int32)), some (iv (0 : Int32)), some (jv (((((100 : Int32).toInt64 - (96 : Int64)) * (32 : Int64)) + (101 : Int32).toInt64) - (96 : Int64))), none]) dX8_spelled_21 (Nat.le_of_ble_eq_true rfl) rfl ?_
                refine mx_iload_n dX8_spelled_23 rfl rfl ?_
                refine mx_if_le (tgt := 43) dX8_spelled_24 rfl (fun _ => absurd ‹_› (by decide)) (fun _ => ?_)
                refine mx_lload dX8_spelled_27 rfl ?_
                refine mx_ldc2 q2079 dX8_spelled_29 ?_
                refine mx_lmul dX8_spelled_32 ?_
                refine mx_iload_n dX8_spelled_33 rfl rfl ?_
                refine mx_i2l dX8_spelled_34 ?_
                refine mx_ladd dX8_spelled_35 ?_
                refine mx_ldc2 q2078 dX8_spelled_36 ?_
                refine mx_lsub dX8_spelled_39 ?_
                refine mx_goto (tgt := 45) dX8_spelled_40 rfl ?_
                refine mx_lstore (al' := [some (iv (100 : Int32)), some (iv (101 : Int32)), some (iv (98 : Int32)), some (iv (116 : Int32)), some (iv (0 : Int32)), some (iv (0 : Int32)), some (jv ((((((((100 : Int32).toInt64 - (96 : Int64)) * (32 : Int64)) + (101 : Int32).toInt64) - (96 : Int64)) * (32 : Int64)) + (98 : Int32).toInt64) - (96 : Int64))), none]) dX8_spelled_45 (Nat.le_of_ble_eq_true rfl) rfl ?_
                refine mx_iload_n dX8_spelled_47 rfl rfl ?_
                refine mx_if_le (tgt := 67) dX8_spelled_48 rfl (fun _ => absurd ‹_› (by decide)) (fun _ => ?_)
                refine mx_lload dX8_spelled_51 rfl ?_
                refine mx_ldc2 q2079 dX8_spelled_53 ?_
                refine mx_lmul dX8_spelled_56 ?_
                refine mx_iload_n dX8_spelled_57 rfl rfl ?_
                refine mx_i2l dX8_spelled_58 ?_
                refine mx_ladd dX8_spelled_59 ?_
                refine mx_ldc2 q2078 dX8_spelled_60 ?_
                refine mx_lsub dX8_spelled_63 ?_
                refine mx_goto (tgt := 69) dX8_spelled_64 rfl ?_
                refine mx_lstore (al' := [some (iv (100 : Int32)), some (iv (101 : Int32)), some (iv (98 : Int32)), some (iv (116 : Int32)), some (iv (0 : Int32)), some (iv (0 : Int32)), some (jv (((((((((((100 : Int32).toInt64 - (96 : Int64)) * (32 : Int64)) + (101 : Int32).toInt64) - (96 : Int64)) * (32 : Int64)) + (98 : Int32).toInt64) - (96 : Int64)) * (32 : Int64)) + (116 : Int32).toInt64) - (96 : Int64))), none]) dX8_spelled_69 (Nat.le_of_ble_eq_true rfl) rfl ?_
                refine mx_iload dX8_spelled_71 rfl ?_
                refine mx_if_le (tgt := 93) dX8_spelled_73 rfl (fun _ => ?_) (fun _ => absurd ‹_› (by decide))
                refine mx_lload dX8_spelled_93 rfl ?_
                refine mx_lstore (al' := [some (iv (100 : Int32)), some (iv (101 : Int32)), some (iv (98 : Int32)), some (iv (116 : Int32)), some (iv (0 : Int32)), some (iv (0 : Int32)), some (jv (((((((((((100 : Int32).toInt64 - (96 : Int64)) * (32 : Int64)) + (101 : Int32).toInt64) - (96 : Int64)) * (32 : Int64)) + (98 : Int32).toInt64) - (96 : Int64)) * (32 : Int64)) + (116 : Int32).toInt64) - (96 : Int64))), none]) dX8_spelled_95 (Nat.le_of_ble_eq_true rfl) rfl ?_
                refine mx_iload dX8_spelled_97 rfl ?_
                refine mx_if_le (tgt := 119) dX8_spelled_99 rfl (fun _ => ?_) (fun _ => absurd ‹_› (by decide))
                refine mx_lload dX8_spelled_119 rfl ?_
                refine mx_lretK rfl dX8_spelled_121 ?_
                refine mx_tj (show (((((((((((100 : Int32).toInt64 - (96 : Int64)) * (32 : Int64)) + (101 : Int32).toInt64) - (96 : Int64)) * (32 : Int64)) + (98 : Int32).toInt64) - (96 : Int64)) * (32 : Int64)) + (116 : Int32).toInt64) - (96 : Int64)) = (136276 : Int64) by decide) ?_
                refine mx_callV 8 (y' := mi_X8_isWord) (vs := [jv (136276 : Int64)]) (st := []) (al' := [some (rv a0), some (jv (136276 : Int64)), none]) cl_8 V_X8_isWord (Or.inl q2196) dX8_variable_128 rfl rfl (Nat.le_of_ble_eq_true rfl) (Nat.le_of_ble_eq_true rfl) (ly8_k La0_h) ?_
                refine mx_aload_n dX8_isWord_0 rfl rfl ?_
                refine mx_get 8 50 (ref := "PrairiePoolModel") cl_8 (Nat.le_of_ble_eq_true rfl) (Or.inl q1677) (Or.inl rfl) dX8_isWord_1 (fv_8_50 _ _) (ly8_k La0_h) ?_
                refine mx_iconst dX8_isWord_4 ic_1 ?_
                refine mx_icmp_ne (tgt := 21) dX8_isWord_5 rfl (fun q_ => absurd c1 q_) (fun _ => ?_)
                refine mx_aload_n dX8_isWord_8 rfl rfl ?_
                refine mx_get 8 55 (ref := "PrairiePoolModel") cl_8 (Nat.le_of_ble_eq_true rfl) (Or.inl q1682) (Or.inl rfl) dX8_isWord_9 (fv_8_55 _ _) (ly8_k La0_h) ?_
                refine mx_lload_n dX8_isWord_12 rfl rfl ?_
                refine mx_lif_ne (tgt := 21) dX8_isWord_13 dX8_isWord_14 rfl (fun c8 => ?_) (fun c8 => ?_)
                · have H := H.1 c8
                  refine mx_iconst dX8_isWord_21 ic_0 ?_
                  refine mx_zretK rfl dX8_isWord_22 (Or.inl rfl) ?_
                  refine mx_if_eq (tgt := 137) dX8_variable_131 rfl (fun _ => ?_) (fun _ => absurd ‹_› (by decide))
                  refine mx_aload_n dX8_variable_137 rfl rfl ?_
                  refine mx_ldc2 q2202 dX8_variable_138 ?_
                  refine mx_callV 8 (y' := mi_X8_isWord) (vs := [jv (147761734772 : Int64)]) (st := []) (al' := [some (rv a0), some (jv (147761734772 : Int64)), none]) cl_8 V_X8_isWord (Or.inl q2196) dX8_variable_141 rfl rfl (Nat.le_of_ble_eq_true rfl) (Nat.le_of_ble_eq_true rfl) (ly8_k La0_h) ?_
                  refine mx_aload_n dX8_isWord_0 rfl rfl ?_
                  refine mx_get 8 50 (ref := "PrairiePoolModel") cl_8 (Nat.le_of_ble_eq_true rfl) (Or.inl q1677) (Or.inl rfl) dX8_isWord_1 (fv_8_50 _ _) (ly8_k La0_h) ?_
                  refine mx_iconst dX8_isWord_4 ic_1 ?_
                  refine mx_icmp_ne (tgt := 21) dX8_isWord_5 rfl (fun q_ => absurd c1 q_) (fun _ => ?_)
                  refine mx_aload_n dX8_isWord_8 rfl rfl ?_
                  refine mx_get 8 55 (ref := "PrairiePoolModel") cl_8 (Nat.le_of_ble_eq_true rfl) (Or.inl q1682) (Or.inl rfl) dX8_isWord_9 (fv_8_55 _ _) (ly8_k La0_h) ?_
                  refine mx_lload_n dX8_isWord_12 rfl rfl ?_
                  refine mx_lif_ne (tgt := 21) dX8_isWord_13 dX8_isWord_14 rfl (fun c9 => ?_) (fun c9 => ?_)
                  · have H := H.1 c9
                    refine mx_iconst dX8_isWord_21 ic_0 ?_
                    refine mx_zretK rfl dX8_isWord_22 (Or.inl rfl) ?_
                    refine mx_if_eq (tgt := 150) dX8_variable_144 rfl (fun _ => ?_) (fun _ => absurd ‹_› (by decide))
                    refine mx_aload_n dX8_variable_150 rfl rfl ?_
                    refine mx_bipush dX8_variable_151 ib_99 ?_
                    refine mx_bipush dX8_variable_153 ib_97 ?_
                    refine mx_bipush dX8_variable_155 ib_114 ?_
                    refine mx_bipush dX8_variable_157 ib_115 ?_
                    refine mx_iconst dX8_variable_159 ic_0 ?_
                    refine mx_iconst dX8_variable_160 ic_0 ?_
                    refine mx_callS (y' := mi_X8_spelled) (vs := [iv (99 : Int32), iv (97 : Int32), iv (114 : Int32), iv (115 : Int32), iv (0 : Int32), iv (0 : Int32)]) (st := [rv a0]) (al' := [some (iv (99 : Int32)), some (iv (97 : Int32)), some (iv (114 : Int32)), some (iv (115 : Int32)), some (iv (0 : Int32)), some (iv (0 : Int32)), none, none]) S_X8_spelled q2075 dX8_variable_161 rfl rfl (Nat.le_of_ble_eq_true rfl) (Nat.le_of_ble_eq_true rfl) ?_
                    refine mx_iload_n dX8_spelled_0 rfl rfl ?_
                    refine mx_i2l dX8_spelled_1 ?_
                    refine mx_ldc2 q2078 dX8_spelled_2 ?_
                    refine mx_lsub dX8_spelled_5 ?_
                    refine mx_lstore (al' := [some (iv (99 : Int32)), some (iv (97 : Int32)), some (iv (114 : Int32)), some (iv (115 : Int32)), some (iv (0 : Int32)), some (iv (0 : Int32)), some (jv ((99 : Int32).toInt64 - (96 : Int64))), none]) dX8_spelled_6 (Nat.le_of_ble_eq_true rfl) rfl ?_
                    refine mx_lload dX8_spelled_8 rfl ?_
                    refine mx_ldc2 q2079 dX8_spelled_10 ?_
                    refine mx_lmul dX8_spelled_13 ?_
                    refine mx_iload_n dX8_spelled_14 rfl rfl ?_
                    refine mx_i2l dX8_spelled_15 ?_
                    refine mx_ladd dX8_spelled_16 ?_
                    refine mx_ldc2 q2078 dX8_spelled_17 ?_
                    refine mx_lsub dX8_spelled_20 ?_
                    refine mx_lstore (al' := [some (iv (99 : Int32)), some (iv (97 : Int32)), some (iv (114 : Int32)), some (iv (115 : Int32)), some (iv (0 : Int32)), some (iv (0 : Int32)), some (jv (((((99 : Int32).toInt64 - (96 : Int64)) * (32 : Int64)) + (97 : Int32).toInt64) - (96 : Int64))), none]) dX8_spelled_21 (Nat.le_of_ble_eq_true rfl) rfl ?_
                    refine mx_iload_n dX8_spelled_23 rfl rfl ?_
                    refine mx_if_le (tgt := 43) dX8_spelled_24 rfl (fun _ => absurd ‹_› (by decide)) (fun _ => ?_)
                    refine mx_lload dX8_spelled_27 rfl ?_
                    refine mx_ldc2 q2079 dX8_spelled_29 ?_
                    refine mx_lmul dX8_spelled_32 ?_
                    refine mx_iload_n dX8_spelled_33 rfl rfl ?_
                    refine mx_i2l dX8_spelled_34 ?_
                    refine mx_ladd dX8_spelled_35 ?_
                    refine mx_ldc2 q2078 dX8_spelled_36 ?_
                    refine mx_lsub dX8_spelled_39 ?_
                    refine mx_goto (tgt := 45) dX8_spelled_40 rfl ?_
                    refine mx_lstore (al' := [some (iv (99 : Int32)), some (iv (97 : Int32)), some (iv (114 : Int32)), some (iv (115 : Int32)), some (iv (0 : Int32)), some (iv (0 : Int32)), some (jv ((((((((99 : Int32).toInt64 - (96 : Int64)) * (32 : Int64)) + (97 : Int32).toInt64) - (96 : Int64)) * (32 : Int64)) + (114 : Int32).toInt64) - (96 : Int64))), none]) dX8_spelled_45 (Nat.le_of_ble_eq_true rfl) rfl ?_
                    refine mx_iload_n dX8_spelled_47 rfl rfl ?_
                    refine mx_if_le (tgt := 67) dX8_spelled_48 rfl (fun _ => absurd ‹_› (by decide)) (fun _ => ?_)
                    refine mx_lload dX8_spelled_51 rfl ?_
                    refine mx_ldc2 q2079 dX8_spelled_53 ?_
                    refine mx_lmul dX8_spelled_56 ?_
                    refine mx_iload_n dX8_spelled_57 rfl rfl ?_
                    refine mx_i2l dX8_spelled_58 ?_
                    refine mx_ladd dX8_spelled_59 ?_
                    refine mx_ldc2 q2078 dX8_spelled_60 ?_
                    refine mx_lsub dX8_spelled_63 ?_
                    refine mx_goto (tgt := 69) dX8_spelled_64 rfl ?_
                    refine mx_lstore (al' := [some (iv (99 : Int32)), some (iv (97 : Int32)), some (iv (114 : Int32)), some (iv (115 : Int32)), some (iv (0 : Int32)), some (iv (0 : Int32)), some (jv (((((((((((99 : Int32).toInt64 - (96 : Int64)) * (32 : Int64)) + (97 : Int32).toInt64) - (96 : Int64)) * (32 : Int64)) + (114 : Int32).toInt64) - (96 : Int64)) * (32 : Int64)) + (115 : Int32).toInt64) - (96 : Int64))), none]) dX8_spelled_69 (Nat.le_of_ble_eq_true rfl) rfl ?_
                    refine mx_iload dX8_spelled_71 rfl ?_
                    refine mx_if_le (tgt := 93) dX8_spelled_73 rfl (fun _ => ?_) (fun _ => absurd ‹_› (by decide))
                    refine mx_lload dX8_spelled_93 rfl ?_
                    refine mx_lstore (al' := [some (iv (99 : Int32)), some (iv (97 : Int32)), some (iv (114 : Int32)), some (iv (115 : Int32)), some (iv (0 : Int32)), some (iv (0 : Int32)), some (jv (((((((((((99 : Int32).toInt64 - (96 : Int64)) * (32 : Int64)) + (97 : Int32).toInt64) - (96 : Int64)) * (32 : Int64)) + (114 : Int32).toInt64) - (96 : Int64)) * (32 : Int64)) + (115 : Int32).toInt64) - (96 : Int64))), none]) dX8_spelled_95 (Nat.le_of_ble_eq_true rfl) rfl ?_
                    refine mx_iload dX8_spelled_97 rfl ?_
                    refine mx_if_le (tgt := 119) dX8_spelled_99 rfl (fun _ => ?_) (fun _ => absurd ‹_› (by decide))
                    refine mx_lload dX8_spelled_119 rfl ?_
                    refine mx_lretK rfl dX8_spelled_121 ?_
                    refine mx_tj (show (((((((((((99 : Int32).toInt64 - (96 : Int64)) * (32 : Int64)) + (97 : Int32).toInt64) - (96 : Int64)) * (32 : Int64)) + (114 : Int32).toInt64) - (96 : Int64)) * (32 : Int64)) + (115 : Int32).toInt64) - (96 : Int64)) = (99923 : Int64) by decide) ?_
                    refine mx_callV 8 (y' := mi_X8_isWord) (vs := [jv (99923 : Int64)]) (st := []) (al' := [some (rv a0), some (jv (99923 : Int64)), none]) cl_8 V_X8_isWord (Or.inl q2196) dX8_variable_164 rfl rfl (Nat.le_of_ble_eq_true rfl) (Nat.le_of_ble_eq_true rfl) (ly8_k La0_h) ?_
                    refine mx_aload_n dX8_isWord_0 rfl rfl ?_
                    refine mx_get 8 50 (ref := "PrairiePoolModel") cl_8 (Nat.le_of_ble_eq_true rfl) (Or.inl q1677) (Or.inl rfl) dX8_isWord_1 (fv_8_50 _ _) (ly8_k La0_h) ?_
                    refine mx_iconst dX8_isWord_4 ic_1 ?_
                    refine mx_icmp_ne (tgt := 21) dX8_isWord_5 rfl (fun q_ => absurd c1 q_) (fun _ => ?_)
                    refine mx_aload_n dX8_isWord_8 rfl rfl ?_
                    refine mx_get 8 55 (ref := "PrairiePoolModel") cl_8 (Nat.le_of_ble_eq_true rfl) (Or.inl q1682) (Or.inl rfl) dX8_isWord_9 (fv_8_55 _ _) (ly8_k La0_h) ?_
                    refine mx_lload_n dX8_isWord_12 rfl rfl ?_
                    refine mx_lif_ne (tgt := 21) dX8_isWord_13 dX8_isWord_14 rfl (fun c10 => ?_) (fun c10 => ?_)
                    · have H := H.1 c10
                      refine mx_iconst dX8_isWord_21 ic_0 ?_
                      refine mx_zretK rfl dX8_isWord_22 (Or.inl rfl) ?_
                      refine mx_if_eq (tgt := 173) dX8_variable_167 rfl (fun _ => ?_) (fun _ => absurd ‹_› (by decide))
                      refine mx_aload_n dX8_variable_173 rfl rfl ?_
                      refine mx_bipush dX8_variable_174 ib_119 ?_
                      refine mx_bipush dX8_variable_176 ib_97 ?_
                      refine mx_bipush dX8_variable_178 ib_105 ?_
                      refine mx_bipush dX8_variable_180 ib_116 ?_
                      refine mx_bipush dX8_variable_182 ib_115 ?_
                      refine mx_iconst dX8_variable_184 ic_0 ?_
                      refine mx_callS (y' := mi_X8_spelled) (vs := [iv (119 : Int32), iv (97 : Int32), iv (105 : Int32), iv (116 : Int32), iv (115 : Int32), iv (0 : Int32)]) (st := [rv a0]) (al' := [some (iv (119 : Int32)), some (iv (97 : Int32)), some (iv (105 : Int32)), some (iv (116 : Int32)), some (iv (115 : Int32)), some (iv (0 : Int32)), none, none]) S_X8_spelled q2075 dX8_variable_185 rfl rfl (Nat.le_of_ble_eq_true rfl) (Nat.le_of_ble_eq_true rfl) ?_
                      refine mx_iload_n dX8_spelled_0 rfl rfl ?_
                      refine mx_i2l dX8_spelled_1 ?_
                      refine mx_ldc2 q2078 dX8_spelled_2 ?_
                      refine mx_lsub dX8_spelled_5 ?_
                      refine mx_lstore (al' := [some (iv (119 : Int32)), some (iv (97 : Int32)), some (iv (105 : Int32)), some (iv (116 : Int32)), some (iv (115 : Int32)), some (iv (0 : Int32)), some (jv ((119 : Int32).toInt64 - (96 : Int64))), none]) dX8_spelled_6 (Nat.le_of_ble_eq_true rfl) rfl ?_
                      refine mx_lload dX8_spelled_8 rfl ?_
                      refine mx_ldc2 q2079 dX8_spelled_10 ?_
                      refine mx_lmul dX8_spelled_13 ?_
                      refine mx_iload_n dX8_spelled_14 rfl rfl ?_
                      refine mx_i2l dX8_spelled_15 ?_
                      refine mx_ladd dX8_spelled_16 ?_
                      refine mx_ldc2 q2078 dX8_spelled_17 ?_
                      refine mx_lsub dX8_spelled_20 ?_
                      refine mx_lstore (al' := [some (iv (119 : Int32)), some (iv (97 : Int32)), some (iv (105 : Int32)), some (iv (116 : Int32)), some (iv (115 : Int32)), some (iv (0 : Int32)), some (jv (((((119 : Int32).toInt64 - (96 : Int64)) * (32 : Int64)) + (97 : Int32).toInt64) - (96 : Int64))), none]) dX8_spelled_21 (Nat.le_of_ble_eq_true rfl) rfl ?_
                      refine mx_iload_n dX8_spelled_23 rfl rfl ?_
                      refine mx_if_le (tgt := 43) dX8_spelled_24 rfl (fun _ => absurd ‹_› (by decide)) (fun _ => ?_)
                      refine mx_lload dX8_spelled_27 rfl ?_
                      refine mx_ldc2 q2079 dX8_spelled_29 ?_
                      refine mx_lmul dX8_spelled_32 ?_
                      refine mx_iload_n dX8_spelled_33 rfl rfl ?_
                      refine mx_i2l dX8_spelled_34 ?_
                      refine mx_ladd dX8_spelled_35 ?_
                      refine mx_ldc2 q2078 dX8_spelled_36 ?_
                      refine mx_lsub dX8_spelled_39 ?_
                      refine mx_goto (tgt := 45) dX8_spelled_40 rfl ?_
                      refine mx_lstore (al' := [some (iv (119 : Int32)), some (iv (97 : Int32)), some (iv (105 : Int32)), some (iv (116 : Int32)), some (iv (115 : Int32)), some (iv (0 : Int32)), some (jv ((((((((119 : Int32).toInt64 - (96 : Int64)) * (32 : Int64)) + (97 : Int32).toInt64) - (96 : Int64)) * (32 : Int64)) + (105 : Int32).toInt64) - (96 : Int64))), none]) dX8_spelled_45 (Nat.le_of_ble_eq_true rfl) rfl ?_
                      refine mx_iload_n dX8_spelled_47 rfl rfl ?_
                      refine mx_if_le (tgt := 67) dX8_spelled_48 rfl (fun _ => absurd ‹_› (by decide)) (fun _ => ?_)
                      refine mx_lload dX8_spelled_51 rfl ?_
                      refine mx_ldc2 q2079 dX8_spelled_53 ?_
                      refine mx_lmul dX8_spelled_56 ?_
                      refine mx_iload_n dX8_spelled_57 rfl rfl ?_
                      refine mx_i2l dX8_spelled_58 ?_
                      refine mx_ladd dX8_spelled_59 ?_
                      refine mx_ldc2 q2078 dX8_spelled_60 ?_
                      refine mx_lsub dX8_spelled_63 ?_
                      refine mx_goto (tgt := 69) dX8_spelled_64 rfl ?_
                      refine mx_lstore (al' := [some (iv (119 : Int32)), some (iv (97 : Int32)), some (iv (105 : Int32)), some (iv (116 : Int32)), some (iv (115 : Int32)), some (iv (0 : Int32)), some (jv (((((((((((119 : Int32).toInt64 - (96 : Int64)) * (32 : Int64)) + (97 : Int32).toInt64) - (96 : Int64)) * (32 : Int64)) + (105 : Int32).toInt64) - (96 : Int64)) * (32 : Int64)) + (116 : Int32).toInt64) - (96 : Int64))), none]) dX8_spelled_69 (Nat.le_of_ble_eq_true rfl) rfl ?_
                      refine mx_iload dX8_spelled_71 rfl ?_
                      refine mx_if_le (tgt := 93) dX8_spelled_73 rfl (fun _ => absurd ‹_› (by decide)) (fun _ => ?_)
                      refine mx_lload dX8_spelled_76 rfl ?_
                      refine mx_ldc2 q2079 dX8_spelled_78 ?_
                      refine mx_lmul dX8_spelled_81 ?_
                      refine mx_iload dX8_spelled_82 rfl ?_
                      refine mx_i2l dX8_spelled_84 ?_
                      refine mx_ladd dX8_spelled_85 ?_
                      refine mx_ldc2 q2078 dX8_spelled_86 ?_
                      refine mx_lsub dX8_spelled_89 ?_
                      refine mx_goto (tgt := 95) dX8_spelled_90 rfl ?_
                      refine mx_lstore (al' := [some (iv (119 : Int32)), some (iv (97 : Int32)), some (iv (105 : Int32)), some (iv (116 : Int32)), some (iv (115 : Int32)), some (iv (0 : Int32)), some (jv ((((((((((((((119 : Int32).toInt64 - (96 : Int64)) * (32 : Int64)) + (97 : Int32).toInt64) - (96 : Int64)) * (32 : Int64)) + (105 : Int32).toInt64) - (96 : Int64)) * (32 : Int64)) + (116 : Int32).toInt64) - (96 : Int64)) * (32 : Int64)) + (115 : Int32).toInt64) - (96 : Int64))), none]) dX8_spelled_95 (Nat.le_of_ble_eq_true rfl) rfl ?_
                      refine mx_iload dX8_spelled_97 rfl ?_
                      refine mx_if_le (tgt := 119) dX8_spelled_99 rfl (fun _ => ?_) (fun _ => absurd ‹_› (by decide))
                      refine mx_lload dX8_spelled_119 rfl ?_
                      refine mx_lretK rfl dX8_spelled_121 ?_
                      refine mx_tj (show ((((((((((((((119 : Int32).toInt64 - (96 : Int64)) * (32 : Int64)) + (97 : Int32).toInt64) - (96 : Int64)) * (32 : Int64)) + (105 : Int32).toInt64) - (96 : Int64)) * (32 : Int64)) + (116 : Int32).toInt64) - (96 : Int64)) * (32 : Int64)) + (115 : Int32).toInt64) - (96 : Int64)) = (24159891 : Int64) by decide) ?_
                      refine mx_callV 8 (y' := mi_X8_isWord) (vs := [jv (24159891 : Int64)]) (st := []) (al' := [some (rv a0), some (jv (24159891 : Int64)), none]) cl_8 V_X8_isWord (Or.inl q2196) dX8_variable_188 rfl rfl (Nat.le_of_ble_eq_true rfl) (Nat.le_of_ble_eq_true rfl) (ly8_k La0_h) ?_
                      refine mx_aload_n dX8_isWord_0 rfl rfl ?_
                      refine mx_get 8 50 (ref := "PrairiePoolModel") cl_8 (Nat.le_of_ble_eq_true rfl) (Or.inl q1677) (Or.inl rfl) dX8_isWord_1 (fv_8_50 _ _) (ly8_k La0_h) ?_
                      refine mx_iconst dX8_isWord_4 ic_1 ?_
                      refine mx_icmp_ne (tgt := 21) dX8_isWord_5 rfl (fun q_ => absurd c1 q_) (fun _ => ?_)
                      refine mx_aload_n dX8_isWord_8 rfl rfl ?_
                      refine mx_get 8 55 (ref := "PrairiePoolModel") cl_8 (Nat.le_of_ble_eq_true rfl) (Or.inl q1682) (Or.inl rfl) dX8_isWord_9 (fv_8_55 _ _) (ly8_k La0_h) ?_
                      refine mx_lload_n dX8_isWord_12 rfl rfl ?_
                      refine mx_lif_ne (tgt := 21) dX8_isWord_13 dX8_isWord_14 rfl (fun c11 => ?_) (fun c11 => ?_)
                      · have H := H.1 c11
                        refine mx_iconst dX8_isWord_21 ic_0 ?_
                        refine mx_zretK rfl dX8_isWord_22 (Or.inl rfl) ?_
                        refine mx_if_eq (tgt := 197) dX8_variable_191 rfl (fun _ => ?_) (fun _ => absurd ‹_› (by decide))
                        refine mx_aload_n dX8_variable_197 rfl rfl ?_
                        refine mx_bipush dX8_variable_198 ib_112 ?_
                        refine mx_bipush dX8_variable_200 ib_114 ?_
                        refine mx_bipush dX8_variable_202 ib_105 ?_
                        refine mx_bipush dX8_variable_204 ib_99 ?_
                        refine mx_bipush dX8_variable_206 ib_101 ?_
                        refine mx_iconst dX8_variable_208 ic_0 ?_
                        refine mx_callS (y' := mi_X8_spelled) (vs := [iv (112 : Int32), iv (114 : Int32), iv (105 : Int32), iv (99 : Int32), iv (101 : Int32), iv (0 : Int32)]) (st := [rv a0]) (al' := [some (iv (112 : Int32)), some (iv (114 : Int32)), some (iv (105 : Int32)), some (iv (99 : Int32)), some (iv (101 : Int32)), some (iv (0 : Int32)), none, none]) S_X8_spelled q2075 dX8_variable_209 rfl rfl (Nat.le_of_ble_eq_true rfl) (Nat.le_of_ble_eq_true rfl) ?_
                        refine mx_iload_n dX8_spelled_0 rfl rfl ?_
                        refine mx_i2l dX8_spelled_1 ?_
                        refine mx_ldc2 q2078 dX8_spelled_2 ?_
                        refine mx_lsub dX8_spelled_5 ?_
                        refine mx_lstore (al' := [some (iv (112 : Int32)), some (iv (114 : Int32)), some (iv (105 : Int32)), some (iv (99 : Int32)), some (iv (101 : Int32)), some (iv (0 : Int32)), some (jv ((112 : Int32).toInt64 - (96 : Int64))), none]) dX8_spelled_6 (Nat.le_of_ble_eq_true rfl) rfl ?_
                        refine mx_lload dX8_spelled_8 rfl ?_
                        refine mx_ldc2 q2079 dX8_spelled_10 ?_
                        refine mx_lmul dX8_spelled_13 ?_
                        refine mx_iload_n dX8_spelled_14 rfl rfl ?_
                        refine mx_i2l dX8_spelled_15 ?_
                        refine mx_ladd dX8_spelled_16 ?_
                        refine mx_ldc2 q2078 dX8_spelled_17 ?_
                        refine mx_lsub dX8_spelled_20 ?_
                        refine mx_lstore (al' := [some (iv (112 : Int32)), some (iv (114 : Int32)), some (iv (105 : Int32)), some (iv (99 : Int32)), some (iv (101 : Int32)), some (iv (0 : Int32)), some (jv (((((112 : Int32).toInt64 - (96 : Int64)) * (32 : Int64)) + (114 : Int32).toInt64) - (96 : Int64))), none]) dX8_spelled_21 (Nat.le_of_ble_eq_true rfl) rfl ?_
                        refine mx_iload_n dX8_spelled_23 rfl rfl ?_
                        refine mx_if_le (tgt := 43) dX8_spelled_24 rfl (fun _ => absurd ‹_› (by decide)) (fun _ => ?_)
                        refine mx_lload dX8_spelled_27 rfl ?_
                        refine mx_ldc2 q2079 dX8_spelled_29 ?_
                        refine mx_lmul dX8_spelled_32 ?_
                        refine mx_iload_n dX8_spelled_33 rfl rfl ?_
                        refine mx_i2l dX8_spelled_34 ?_
                        refine mx_ladd dX8_spelled_35 ?_
                        refine mx_ldc2 q2078 dX8_spelled_36 ?_
                        refine mx_lsub dX8_spelled_39 ?_
                        refine mx_goto (tgt := 45) dX8_spelled_40 rfl ?_
                        refine mx_lstore (al' := [some (iv (112 : Int32)), some (iv (114 : Int32)), some (iv (105 : Int32)), some (iv (99 : Int32)), some (iv (101 : Int32)), some (iv (0 : Int32)), some (jv ((((((((112 : Int32).toInt64 - (96 : Int64)) * (32 : Int64)) + (114 : Int32).toInt64) - (96 : Int64)) * (32 : Int64)) + (105 : Int32).toInt64) - (96 : Int64))), none]) dX8_spelled_45 (Nat.le_of_ble_eq_true rfl) rfl ?_
                        refine mx_iload_n dX8_spelled_47 rfl rfl ?_
                        refine mx_if_le (tgt := 67) dX8_spelled_48 rfl (fun _ => absurd ‹_› (by decide)) (fun _ => ?_)
                        refine mx_lload dX8_spelled_51 rfl ?_
                        refine mx_ldc2 q2079 dX8_spelled_53 ?_
                        refine mx_lmul dX8_spelled_56 ?_
                        refine mx_iload_n dX8_spelled_57 rfl rfl ?_
                        refine mx_i2l dX8_spelled_58 ?_
                        refine mx_ladd dX8_spelled_59 ?_
                        refine mx_ldc2 q2078 dX8_spelled_60 ?_
                        refine mx_lsub dX8_spelled_63 ?_
                        refine mx_goto (tgt := 69) dX8_spelled_64 rfl ?_
                        refine mx_lstore (al' := [some (iv (112 : Int32)), some (iv (114 : Int32)), some (iv (105 : Int32)), some (iv (99 : Int32)), some (iv (101 : Int32)), some (iv (0 : Int32)), some (jv (((((((((((112 : Int32).toInt64 - (96 : Int64)) * (32 : Int64)) + (114 : Int32).toInt64) - (96 : Int64)) * (32 : Int64)) + (105 : Int32).toInt64) - (96 : Int64)) * (32 : Int64)) + (99 : Int32).toInt64) - (96 : Int64))), none]) dX8_spelled_69 (Nat.le_of_ble_eq_true rfl) rfl ?_
                        refine mx_iload dX8_spelled_71 rfl ?_
                        refine mx_if_le (tgt := 93) dX8_spelled_73 rfl (fun _ => absurd ‹_› (by decide)) (fun _ => ?_)
                        refine mx_lload dX8_spelled_76 rfl ?_
                        refine mx_ldc2 q2079 dX8_spelled_78 ?_
                        refine mx_lmul dX8_spelled_81 ?_
                        refine mx_iload dX8_spelled_82 rfl ?_
                        refine mx_i2l dX8_spelled_84 ?_
                        refine mx_ladd dX8_spelled_85 ?_
                        refine mx_ldc2 q2078 dX8_spelled_86 ?_
                        refine mx_lsub dX8_spelled_89 ?_
                        refine mx_goto (tgt := 95) dX8_spelled_90 rfl ?_
                        refine mx_lstore (al' := [some (iv (112 : Int32)), some (iv (114 : Int32)), some (iv (105 : Int32)), some (iv (99 : Int32)), some (iv (101 : Int32)), some (iv (0 : Int32)), some (jv ((((((((((((((112 : Int32).toInt64 - (96 : Int64)) * (32 : Int64)) + (114 : Int32).toInt64) - (96 : Int64)) * (32 : Int64)) + (105 : Int32).toInt64) - (96 : Int64)) * (32 : Int64)) + (99 : Int32).toInt64) - (96 : Int64)) * (32 : Int64)) + (101 : Int32).toInt64) - (96 : Int64))), none]) dX8_spelled_95 (Nat.le_of_ble_eq_true rfl) rfl ?_
                        refine mx_iload dX8_spelled_97 rfl ?_
                        refine mx_if_le (tgt := 119) dX8_spelled_99 rfl (fun _ => ?_) (fun _ => absurd ‹_› (by decide))
                        refine mx_lload dX8_spelled_119 rfl ?_
                        refine mx_lretK rfl dX8_spelled_121 ?_
                        refine mx_tj (show ((((((((((((((112 : Int32).toInt64 - (96 : Int64)) * (32 : Int64)) + (114 : Int32).toInt64) - (96 : Int64)) * (32 : Int64)) + (105 : Int32).toInt64) - (96 : Int64)) * (32 : Int64)) + (99 : Int32).toInt64) - (96 : Int64)) * (32 : Int64)) + (101 : Int32).toInt64) - (96 : Int64)) = (17376357 : Int64) by decide) ?_
                        refine mx_callV 8 (y' := mi_X8_isWord) (vs := [jv (17376357 : Int64)]) (st := []) (al' := [some (rv a0), some (jv (17376357 : Int64)), none]) cl_8 V_X8_isWord (Or.inl q2196) dX8_variable_212 rfl rfl (Nat.le_of_ble_eq_true rfl) (Nat.le_of_ble_eq_true rfl) (ly8_k La0_h) ?_
                        refine mx_aload_n dX8_isWord_0 rfl rfl ?_
                        refine mx_get 8 50 (ref := "PrairiePoolModel") cl_8 (Nat.le_of_ble_eq_true rfl) (Or.inl q1677) (Or.inl rfl) dX8_isWord_1 (fv_8_50 _ _) (ly8_k La0_h) ?_
                        refine mx_iconst dX8_isWord_4 ic_1 ?_
                        refine mx_icmp_ne (tgt := 21) dX8_isWord_5 rfl (fun q_ => absurd c1 q_) (fun _ => ?_)
                        refine mx_aload_n dX8_isWord_8 rfl rfl ?_
                        refine mx_get 8 55 (ref := "PrairiePoolModel") cl_8 (Nat.le_of_ble_eq_true rfl) (Or.inl q1682) (Or.inl rfl) dX8_isWord_9 (fv_8_55 _ _) (ly8_k La0_h) ?_
                        refine mx_lload_n dX8_isWord_12 rfl rfl ?_
                        refine mx_lif_ne (tgt := 21) dX8_isWord_13 dX8_isWord_14 rfl (fun c12 => ?_) (fun c12 => ?_)
                        · have H := H.1 c12
                          refine mx_iconst dX8_isWord_21 ic_0 ?_
                          refine mx_zretK rfl dX8_isWord_22 (Or.inl rfl) ?_
                          refine mx_if_eq (tgt := 223) dX8_variable_215 rfl (fun _ => ?_) (fun _ => absurd ‹_› (by decide))
                          refine mx_iconst dX8_variable_223 ic_m1 ?_
                          exact mx_iret rfl dX8_variable_224 H
                        · have H := H.2 c12
                          refine mx_iconst dX8_isWord_17 ic_1 ?_
                          refine mx_goto (tgt := 22) dX8_isWord_18 rfl ?_
                          refine mx_zretK rfl dX8_isWord_22 (Or.inr rfl) ?_
                          refine mx_if_eq (tgt := 223) dX8_variable_215 rfl (fun _ => absurd ‹_› (by decide)) (fun _ => ?_)
                          refine mx_bipush dX8_variable_218 ib_10 ?_
                          refine mx_goto (tgt := 224) dX8_variable_220 rfl ?_
                          exact mx_iret rfl dX8_variable_224 H
                      · have H := H.2 c11
                        refine mx_iconst dX8_isWord_17 ic_1 ?_
                        refine mx_goto (tgt := 22) dX8_isWord_18 rfl ?_
                        refine mx_zretK rfl dX8_isWord_22 (Or.inr rfl) ?_
                        refine mx_if_eq (tgt := 197) dX8_variable_191 rfl (fun _ => absurd ‹_› (by decide)) (fun _ => ?_)
                        refine mx_bipush dX8_variable_194 ib_9 ?_
                        exact mx_iret rfl dX8_variable_196 H
                    · have H := H.2 c10
                      refine mx_iconst dX8_isWord_17 ic_1 ?_
                      refine mx_goto (tgt := 22) dX8_isWord_18 rfl ?_
                      refine mx_zretK rfl dX8_isWord_22 (Or.inr rfl) ?_
                      refine mx_if_eq (tgt := 173) dX8_variable_167 rfl (fun _ => absurd ‹_› (by decide)) (fun _ => ?_)
                      refine mx_bipush dX8_variable_170 ib_8 ?_
                      exact mx_iret rfl dX8_variable_172 H
                  · have H := H.2 c9
                    refine mx_iconst dX8_isWord_17 ic_1 ?_
                    refine mx_goto (tgt := 22) dX8_isWord_18 rfl ?_
                    refine mx_zretK rfl dX8_isWord_22 (Or.inr rfl) ?_
                    refine mx_if_eq (tgt := 150) dX8_variable_144 rfl (fun _ => absurd ‹_› (by decide)) (fun _ => ?_)
                    refine mx_bipush dX8_variable_147 ib_7 ?_
                    exact mx_iret rfl dX8_variable_149 H
                · have H := H.2 c8
                  refine mx_iconst dX8_isWord_17 ic_1 ?_
                  refine mx_goto (tgt := 22) dX8_isWord_18 rfl ?_
                  refine mx_zretK rfl dX8_isWord_22 (Or.inr rfl) ?_
                  refine mx_if_eq (tgt := 137) dX8_variable_131 rfl (fun _ => absurd ‹_› (by decide)) (fun _ => ?_)
                  refine mx_bipush dX8_variable_134 ib_6 ?_
                  exact mx_iret rfl dX8_variable_136 H
              · have H := H.2 c7
                refine mx_iconst dX8_isWord_17 ic_1 ?_
                refine mx_goto (tgt := 22) dX8_isWord_18 rfl ?_
                refine mx_zretK rfl dX8_isWord_22 (Or.inr rfl) ?_
                refine mx_if_eq (tgt := 114) dX8_variable_109 rfl (fun _ => absurd ‹_› (by decide)) (fun _ => ?_)
                refine mx_iconst dX8_variable_112 ic_5 ?_
                exact mx_iret rfl dX8_variable_113 H
            · have H := H.2 c6
              refine mx_iconst dX8_isWord_17 ic_1 ?_
              refine mx_goto (tgt := 22) dX8_isWord_18 rfl ?_
              refine mx_zretK rfl dX8_isWord_22 (Or.inr rfl) ?_
              refine mx_if_eq (tgt := 91) dX8_variable_86 rfl (fun _ => absurd ‹_› (by decide)) (fun _ => ?_)
              refine mx_iconst dX8_variable_89 ic_4 ?_
              exact mx_iret rfl dX8_variable_90 H
          · have H := H.2 c5
            refine mx_iconst dX8_isWord_17 ic_1 ?_
            refine mx_goto (tgt := 22) dX8_isWord_18 rfl ?_
            refine mx_zretK rfl dX8_isWord_22 (Or.inr rfl) ?_
            refine mx_if_eq (tgt := 79) dX8_variable_74 rfl (fun _ => absurd ‹_› (by decide)) (fun _ => ?_)
            refine mx_iconst dX8_variable_77 ic_3 ?_
            exact mx_iret rfl dX8_variable_78 H
        · have H := H.2 c4
          refine mx_iconst dX8_isWord_17 ic_1 ?_
          refine mx_goto (tgt := 22) dX8_isWord_18 rfl ?_
          refine mx_zretK rfl dX8_isWord_22 (Or.inr rfl) ?_
          refine mx_if_eq (tgt := 57) dX8_variable_52 rfl (fun _ => absurd ‹_› (by decide)) (fun _ => ?_)
          refine mx_iconst dX8_variable_55 ic_2 ?_
          exact mx_iret rfl dX8_variable_56 H
      · have H := H.2 c3
        refine mx_iconst dX8_isWord_17 ic_1 ?_
        refine mx_goto (tgt := 22) dX8_isWord_18 rfl ?_
        refine mx_zretK rfl dX8_isWord_22 (Or.inr rfl) ?_
        refine mx_if_eq (tgt := 35) dX8_variable_30 rfl (fun _ => absurd ‹_› (by decide)) (fun _ => ?_)
        refine mx_iconst dX8_variable_33 ic_1 ?_
        exact mx_iret rfl dX8_variable_34 H
    · have H := H.2 c2
      refine mx_iconst dX8_isWord_17 ic_1 ?_
      refine mx_goto (tgt := 22) dX8_isWord_18 rfl ?_
      refine mx_zretK rfl dX8_isWord_22 (Or.inr rfl) ?_
      refine mx_if_eq (tgt := 23) dX8_variable_18 rfl (fun _ => absurd ‹_› (by decide)) (fun _ => ?_)
      refine mx_iconst dX8_variable_21 ic_0 ?_
      exact mx_iret rfl dX8_variable_22 H
theorem v_X8_isWord {G : ma_G} {d : Nat} {a0 : Nat} {x1 : Int64} {h : ah_T} {Q : Option ma_V → ah_T → Prop} {E : Nat → ah_T → Prop} (La0_h : LY8 h a0) (H : (¬ (ah_I h a0 50) = (1 : Int32) → Q (some (iv (0 : Int32))) h) ∧ ((ah_I h a0 50) = (1 : Int32) → (¬ (ah_J h a0 55) = x1 → Q (some (iv (0 : Int32))) h) ∧ ((ah_J h a0 55) = x1 → Q (some (iv (1 : Int32))) h))) : MX G mi_X8_isWord d 0 [some (rv a0), some (jv x1), none] [] h Q E := by
  refine mx_aload_n dX8_isWord_0 rfl rfl ?_
  refine mx_get 8 50 (ref := "PrairiePoolModel") cl_8 (Nat.le_of_ble_eq_true rfl) (Or.inl q1677) (Or.inl rfl) dX8_isWord_1 (fv_8_50 _ _) (ly8_k La0_h) ?_
  refine mx_iconst dX8_isWord_4 ic_1 ?_
  refine mx_icmp_ne (tgt := 21) dX8_isWord_5 rfl (fun c1 => ?_) (fun c1 => ?_)
  · have H := H.1 c1
    refine mx_iconst dX8_isWord_21 ic_0 ?_
    exact mx_zret rfl dX8_isWord_22 (Or.inl rfl) H
  · have H := H.2 c1
    refine mx_aload_n dX8_isWord_8 rfl rfl ?_
    refine mx_get 8 55 (ref := "PrairiePoolModel") cl_8 (Nat.le_of_ble_eq_true rfl) (Or.inl q1682) (Or.inl rfl) dX8_isWord_9 (fv_8_55 _ _) (ly8_k La0_h) ?_
    refine mx_lload_n dX8_isWord_12 rfl rfl ?_
    refine mx_lif_ne (tgt := 21) dX8_isWord_13 dX8_isWord_14 rfl (fun c2 => ?_) (fun c2 => ?_)
    · have H := H.1 c2
      refine mx_iconst dX8_isWord_21 ic_0 ?_
      exact mx_zret rfl dX8_isWord_22 (Or.inl rfl) H
    · have H := H.2 c2
      refine mx_iconst dX8_isWord_17 ic_1 ?_
      refine mx_goto (tgt := 22) dX8_isWord_18 rfl ?_
      exact mx_zret rfl dX8_isWord_22 (Or.inr rfl) H
theorem dX8_isKept_0 : decode mi_X8_isKept.2.1 0 = .ok (.aload_n 0, 1) := by decide +kernel
theorem dX8_isKept_1 : decode mi_X8_isKept.2.1 1 = .ok (.invokevirtual 472, 3) := by decide +kernel
theorem dX8_isKept_4 : decode mi_X8_isKept.2.1 4 = .ok (.ifCond .ne 52, 3) := by decide +kernel
theorem dX8_isKept_7 : decode mi_X8_isKept.2.1 7 = .ok (.aload_n 0, 1) := by decide +kernel
theorem dX8_isKept_8 : decode mi_X8_isKept.2.1 8 = .ok (.invokevirtual 476, 3) := by decide +kernel
theorem dX8_isKept_11 : decode mi_X8_isKept.2.1 11 = .ok (.ifCond .ne 45, 3) := by decide +kernel
theorem dX8_isKept_14 : decode mi_X8_isKept.2.1 14 = .ok (.aload_n 0, 1) := by decide +kernel
theorem dX8_isKept_15 : decode mi_X8_isKept.2.1 15 = .ok (.invokevirtual 479, 3) := by decide +kernel
theorem dX8_isKept_18 : decode mi_X8_isKept.2.1 18 = .ok (.ifCond .ne 38, 3) := by decide +kernel
theorem dX8_isKept_21 : decode mi_X8_isKept.2.1 21 = .ok (.aload_n 0, 1) := by decide +kernel
theorem dX8_isKept_22 : decode mi_X8_isKept.2.1 22 = .ok (.invokevirtual 482, 3) := by decide +kernel
theorem dX8_isKept_25 : decode mi_X8_isKept.2.1 25 = .ok (.ifCond .ne 31, 3) := by decide +kernel
theorem dX8_isKept_28 : decode mi_X8_isKept.2.1 28 = .ok (.aload_n 0, 1) := by decide +kernel
theorem dX8_isKept_29 : decode mi_X8_isKept.2.1 29 = .ok (.invokevirtual 485, 3) := by decide +kernel
theorem dX8_isKept_32 : decode mi_X8_isKept.2.1 32 = .ok (.ifCond .ne 24, 3) := by decide +kernel
theorem dX8_isKept_35 : decode mi_X8_isKept.2.1 35 = .ok (.aload_n 0, 1) := by decide +kernel
theorem dX8_isKept_36 : decode mi_X8_isKept.2.1 36 = .ok (.invokevirtual 488, 3) := by decide +kernel
theorem dX8_isKept_39 : decode mi_X8_isKept.2.1 39 = .ok (.ifCond .ne 17, 3) := by decide +kernel
theorem dX8_isKept_42 : decode mi_X8_isKept.2.1 42 = .ok (.aload_n 0, 1) := by decide +kernel
theorem dX8_isKept_43 : decode mi_X8_isKept.2.1 43 = .ok (.invokevirtual 491, 3) := by decide +kernel
theorem dX8_isKept_46 : decode mi_X8_isKept.2.1 46 = .ok (.ifCond .ne 10, 3) := by decide +kernel
theorem dX8_isKept_49 : decode mi_X8_isKept.2.1 49 = .ok (.aload_n 0, 1) := by decide +kernel
theorem dX8_isKept_50 : decode mi_X8_isKept.2.1 50 = .ok (.invokevirtual 494, 3) := by decide +kernel
theorem dX8_isKept_53 : decode mi_X8_isKept.2.1 53 = .ok (.ifCond .eq 7, 3) := by decide +kernel
theorem dX8_isKept_56 : decode mi_X8_isKept.2.1 56 = .ok (.iconst 1, 1) := by decide +kernel
theorem dX8_isKept_57 : decode mi_X8_isKept.2.1 57 = .ok (.goto 4, 3) := by decide +kernel
theorem dX8_isKept_60 : decode mi_X8_isKept.2.1 60 = .ok (.iconst 0, 1) := by decide +kernel
theorem dX8_isKept_61 : decode mi_X8_isKept.2.1 61 = .ok (.ireturn, 1) := by decide +kernel
theorem v_X8_isKept {G : ma_G} {d : Nat} {a0 : Nat} {h : ah_T} {Q : Option ma_V → ah_T → Prop} {E : Nat → ah_T → Prop} (La0_h : LY8 h a0) (H : (¬ (ah_I h a0 50) = (1 : Int32) → Q (some (iv (0 : Int32))) h) ∧ ((ah_I h a0 50) = (1 : Int32) → (¬ (ah_J h a0 55) = (294 : Int64) → (¬ (ah_J h a0 55) = (663726 : Int64) → (¬ (ah_J h a0 55) = (176741 : Int64) → (¬ (ah_J h a0 55) = (1476 : Int64) → (¬ (ah_J h a0 55) = (498 : Int64) → (¬ (ah_J h a0 55) = (14836 : Int64) → (¬ (ah_J h a0 55) = (12748404 : Int64) → (¬ (ah_J h a0 55) = (441972 : Int64) → Q (some (iv (0 : Int32))) h) ∧ ((ah_J h a0 55) = (441972 : Int64) → Q (some (iv (1 : Int32))) h)) ∧ ((ah_J h a0 55) = (12748404 : Int64) → Q (some (iv (1 : Int32))) h)) ∧ ((ah_J h a0 55) = (14836 : Int64) → Q (some (iv (1 : Int32))) h)) ∧ ((ah_J h a0 55) = (498 : Int64) → Q (some (iv (1 : Int32))) h)) ∧ ((ah_J h a0 55) = (1476 : Int64) → Q (some (iv (1 : Int32))) h)) ∧ ((ah_J h a0 55) = (176741 : Int64) → Q (some (iv (1 : Int32))) h)) ∧ ((ah_J h a0 55) = (663726 : Int64) → Q (some (iv (1 : Int32))) h)) ∧ ((ah_J h a0 55) = (294 : Int64) → Q (some (iv (1 : Int32))) h))) : MX G mi_X8_isKept (d + 2) 0 [some (rv a0)] [] h Q E := by
  refine mx_aload_n dX8_isKept_0 rfl rfl ?_
  refine mx_callV 8 (y' := mi_X8_isIf) (vs := []) (st := []) (al' := [some (rv a0)]) cl_8 V_X8_isIf (Or.inl q2207) dX8_isKept_1 rfl rfl (Nat.le_of_ble_eq_true rfl) (Nat.le_of_ble_eq_true rfl) (ly8_k La0_h) ?_
  refine mx_aload_n dX8_isIf_0 rfl rfl ?_
  refine mx_bipush dX8_isIf_1 ib_105 ?_
  refine mx_bipush dX8_isIf_3 ib_102 ?_
  refine mx_iconst dX8_isIf_5 ic_0 ?_
  refine mx_iconst dX8_isIf_6 ic_0 ?_
  refine mx_iconst dX8_isIf_7 ic_0 ?_
  refine mx_iconst dX8_isIf_8 ic_0 ?_
  refine mx_callS (y' := mi_X8_spelled) (vs := [iv (105 : Int32), iv (102 : Int32), iv (0 : Int32), iv (0 : Int32), iv (0 : Int32), iv (0 : Int32)]) (st := [rv a0]) (al' := [some (iv (105 : Int32)), some (iv (102 : Int32)), some (iv (0 : Int32)), some (iv (0 : Int32)), some (iv (0 : Int32)), some (iv (0 : Int32)), none, none]) S_X8_spelled q2075 dX8_isIf_9 rfl rfl (Nat.le_of_ble_eq_true rfl) (Nat.le_of_ble_eq_true rfl) ?_
  refine mx_iload_n dX8_spelled_0 rfl rfl ?_
  refine mx_i2l dX8_spelled_1 ?_
  refine mx_ldc2 q2078 dX8_spelled_2 ?_
  refine mx_lsub dX8_spelled_5 ?_
  refine mx_lstore (al' := [some (iv (105 : Int32)), some (iv (102 : Int32)), some (iv (0 : Int32)), some (iv (0 : Int32)), some (iv (0 : Int32)), some (iv (0 : Int32)), some (jv ((105 : Int32).toInt64 - (96 : Int64))), none]) dX8_spelled_6 (Nat.le_of_ble_eq_true rfl) rfl ?_
  refine mx_lload dX8_spelled_8 rfl ?_
  refine mx_ldc2 q2079 dX8_spelled_10 ?_
  refine mx_lmul dX8_spelled_13 ?_
  refine mx_iload_n dX8_spelled_14 rfl rfl ?_
  refine mx_i2l dX8_spelled_15 ?_
  refine mx_ladd dX8_spelled_16 ?_
  refine mx_ldc2 q2078 dX8_spelled_17 ?_
  refine mx_lsub dX8_spelled_20 ?_
  refine mx_lstore (al' := [some (iv (105 : Int32)), some (iv (102 : Int32)), some (iv (0 : Int32)), some (iv (0 : Int32)), some (iv (0 : Int32)), some (iv (0 : Int32)), some (jv (((((105 : Int32).toInt64 - (96 : Int64)) * (32 : Int64)) + (102 : Int32).toInt64) - (96 : Int64))), none]) dX8_spelled_21 (Nat.le_of_ble_eq_true rfl) rfl ?_
  refine mx_iload_n dX8_spelled_23 rfl rfl ?_
  refine mx_if_le (tgt := 43) dX8_spelled_24 rfl (fun _ => ?_) (fun _ => absurd ‹_› (by decide))
  refine mx_lload dX8_spelled_43 rfl ?_
  refine mx_lstore (al' := [some (iv (105 : Int32)), some (iv (102 : Int32)), some (iv (0 : Int32)), some (iv (0 : Int32)), some (iv (0 : Int32)), some (iv (0 : Int32)), some (jv (((((105 : Int32).toInt64 - (96 : Int64)) * (32 : Int64)) + (102 : Int32).toInt64) - (96 : Int64))), none]) dX8_spelled_45 (Nat.le_of_ble_eq_true rfl) rfl ?_
  refine mx_iload_n dX8_spelled_47 rfl rfl ?_
  refine mx_if_le (tgt := 67) dX8_spelled_48 rfl (fun _ => ?_) (fun _ => absurd ‹_› (by decide))
  refine mx_lload dX8_spelled_67 rfl ?_
  refine mx_lstore (al' := [some (iv (105 : Int32)), some (iv (102 : Int32)), some (iv (0 : Int32)), some (iv (0 : Int32)), some (iv (0 : Int32)), some (iv (0 : Int32)), some (jv (((((105 : Int32).toInt64 - (96 : Int64)) * (32 : Int64)) + (102 : Int32).toInt64) - (96 : Int64))), none]) dX8_spelled_69 (Nat.le_of_ble_eq_true rfl) rfl ?_
  refine mx_iload dX8_spelled_71 rfl ?_
  refine mx_if_le (tgt := 93) dX8_spelled_73 rfl (fun _ => ?_) (fun _ => absurd ‹_› (by decide))
  refine mx_lload dX8_spelled_93 rfl ?_
  refine mx_lstore (al' := [some (iv (105 : Int32)), some (iv (102 : Int32)), some (iv (0 : Int32)), some (iv (0 : Int32)), some (iv (0 : Int32)), some (iv (0 : Int32)), some (jv (((((105 : Int32).toInt64 - (96 : Int64)) * (32 : Int64)) + (102 : Int32).toInt64) - (96 : Int64))), none]) dX8_spelled_95 (Nat.le_of_ble_eq_true rfl) rfl ?_
  refine mx_iload dX8_spelled_97 rfl ?_
  refine mx_if_le (tgt := 119) dX8_spelled_99 rfl (fun _ => ?_) (fun _ => absurd ‹_› (by decide))
  refine mx_lload dX8_spelled_119 rfl ?_
  refine mx_lretK rfl dX8_spelled_121 ?_
  refine mx_tj (show (((((105 : Int32).toInt64 - (96 : Int64)) * (32 : Int64)) + (102 : Int32).toInt64) - (96 : Int64)) = (294 : Int64) by decide) ?_
  refine mx_callV 8 (y' := mi_X8_isWord) (vs := [jv (294 : Int64)]) (st := []) (al' := [some (rv a0), some (jv (294 : Int64)), none]) cl_8 V_X8_isWord (Or.inl q2196) dX8_isIf_12 rfl rfl (Nat.le_of_ble_eq_true rfl) (Nat.le_of_ble_eq_true rfl) (ly8_k La0_h) ?_
  refine mx_aload_n dX8_isWord_0 rfl rfl ?_
  refine mx_get 8 50 (ref := "PrairiePoolModel") cl_8 (Nat.le_of_ble_eq_true rfl) (Or.inl q1677) (Or.inl rfl) dX8_isWord_1 (fv_8_50 _ _) (ly8_k La0_h) ?_
  refine mx_iconst dX8_isWord_4 ic_1 ?_
  refine mx_icmp_ne (tgt := 21) dX8_isWord_5 rfl (fun c1 => ?_) (fun c1 => ?_)
  · have H := H.1 c1
    refine mx_iconst dX8_isWord_21 ic_0 ?_
    refine mx_zretK rfl dX8_isWord_22 (Or.inl rfl) ?_
    refine mx_zretK rfl dX8_isIf_15 (Or.inl rfl) ?_
    refine mx_if_ne (tgt := 56) dX8_isKept_4 rfl (fun _ => absurd ‹_› (by decide)) (fun _ => ?_)
    refine mx_aload_n dX8_isKept_7 rfl rfl ?_
    refine mx_callV 8 (y' := mi_X8_isThen) (vs := []) (st := []) (al' := [some (rv a0)]) cl_8 V_X8_isThen (Or.inl q2211) dX8_isKept_8 rfl rfl (Nat.le_of_ble_eq_true rfl) (Nat.le_of_ble_eq_true rfl) (ly8_k La0_h) ?_
    refine mx_aload_n dX8_isThen_0 rfl rfl ?_
    refine mx_bipush dX8_isThen_1 ib_116 ?_
    refine mx_bipush dX8_isThen_3 ib_104 ?_
    refine mx_bipush dX8_isThen_5 ib_101 ?_
    refine mx_bipush dX8_isThen_7 ib_110 ?_
    refine mx_iconst dX8_isThen_9 ic_0 ?_
    refine mx_iconst dX8_isThen_10 ic_0 ?_
    refine mx_callS (y' := mi_X8_spelled) (vs := [iv (116 : Int32), iv (104 : Int32), iv (101 : Int32), iv (110 : Int32), iv (0 : Int32), iv (0 : Int32)]) (st := [rv a0]) (al' := [some (iv (116 : Int32)), some (iv (104 : Int32)), some (iv (101 : Int32)), some (iv (110 : Int32)), some (iv (0 : Int32)), some (iv (0 : Int32)), none, none]) S_X8_spelled q2075 dX8_isThen_11 rfl rfl (Nat.le_of_ble_eq_true rfl) (Nat.le_of_ble_eq_true rfl) ?_
    refine mx_iload_n dX8_spelled_0 rfl rfl ?_
    refine mx_i2l dX8_spelled_1 ?_
    refine mx_ldc2 q2078 dX8_spelled_2 ?_
    refine mx_lsub dX8_spelled_5 ?_
    refine mx_lstore (al' := [some (iv (116 : Int32)), some (iv (104 : Int32)), some (iv (101 : Int32)), some (iv (110 : Int32)), some (iv (0 : Int32)), some (iv (0 : Int32)), some (jv ((116 : Int32).toInt64 - (96 : Int64))), none]) dX8_spelled_6 (Nat.le_of_ble_eq_true rfl) rfl ?_
    refine mx_lload dX8_spelled_8 rfl ?_
    refine mx_ldc2 q2079 dX8_spelled_10 ?_
    refine mx_lmul dX8_spelled_13 ?_
    refine mx_iload_n dX8_spelled_14 rfl rfl ?_
    refine mx_i2l dX8_spelled_15 ?_
    refine mx_ladd dX8_spelled_16 ?_
    refine mx_ldc2 q2078 dX8_spelled_17 ?_
    refine mx_lsub dX8_spelled_20 ?_
    refine mx_lstore (al' := [some (iv (116 : Int32)), some (iv (104 : Int32)), some (iv (101 : Int32)), some (iv (110 : Int32)), some (iv (0 : Int32)), some (iv (0 : Int32)), some (jv (((((116 : Int32).toInt64 - (96 : Int64)) * (32 : Int64)) + (104 : Int32).toInt64) - (96 : Int64))), none]) dX8_spelled_21 (Nat.le_of_ble_eq_true rfl) rfl ?_
    refine mx_iload_n dX8_spelled_23 rfl rfl ?_
    refine mx_if_le (tgt := 43) dX8_spelled_24 rfl (fun _ => absurd ‹_› (by decide)) (fun _ => ?_)
    refine mx_lload dX8_spelled_27 rfl ?_
    refine mx_ldc2 q2079 dX8_spelled_29 ?_
    refine mx_lmul dX8_spelled_32 ?_
    refine mx_iload_n dX8_spelled_33 rfl rfl ?_
    refine mx_i2l dX8_spelled_34 ?_
    refine mx_ladd dX8_spelled_35 ?_
    refine mx_ldc2 q2078 dX8_spelled_36 ?_
    refine mx_lsub dX8_spelled_39 ?_
    refine mx_goto (tgt := 45) dX8_spelled_40 rfl ?_
    refine mx_lstore (al' := [some (iv (116 : Int32)), some (iv (104 : Int32)), some (iv (101 : Int32)), some (iv (110 : Int32)), some (iv (0 : Int32)), some (iv (0 : Int32)), some (jv ((((((((116 : Int32).toInt64 - (96 : Int64)) * (32 : Int64)) + (104 : Int32).toInt64) - (96 : Int64)) * (32 : Int64)) + (101 : Int32).toInt64) - (96 : Int64))), none]) dX8_spelled_45 (Nat.le_of_ble_eq_true rfl) rfl ?_
    refine mx_iload_n dX8_spelled_47 rfl rfl ?_
    refine mx_if_le (tgt := 67) dX8_spelled_48 rfl (fun _ => absurd ‹_› (by decide)) (fun _ => ?_)
    refine mx_lload dX8_spelled_51 rfl ?_
    refine mx_ldc2 q2079 dX8_spelled_53 ?_
    refine mx_lmul dX8_spelled_56 ?_
    refine mx_iload_n dX8_spelled_57 rfl rfl ?_
    refine mx_i2l dX8_spelled_58 ?_
    refine mx_ladd dX8_spelled_59 ?_
    refine mx_ldc2 q2078 dX8_spelled_60 ?_
    refine mx_lsub dX8_spelled_63 ?_
    refine mx_goto (tgt := 69) dX8_spelled_64 rfl ?_
    refine mx_lstore (al' := [some (iv (116 : Int32)), some (iv (104 : Int32)), some (iv (101 : Int32)), some (iv (110 : Int32)), some (iv (0 : Int32)), some (iv (0 : Int32)), some (jv (((((((((((116 : Int32).toInt64 - (96 : Int64)) * (32 : Int64)) + (104 : Int32).toInt64) - (96 : Int64)) * (32 : Int64)) + (101 : Int32).toInt64) - (96 : Int64)) * (32 : Int64)) + (110 : Int32).toInt64) - (96 : Int64))), none]) dX8_spelled_69 (Nat.le_of_ble_eq_true rfl) rfl ?_
    refine mx_iload dX8_spelled_71 rfl ?_
    refine mx_if_le (tgt := 93) dX8_spelled_73 rfl (fun _ => ?_) (fun _ => absurd ‹_› (by decide))
    refine mx_lload dX8_spelled_93 rfl ?_
    refine mx_lstore (al' := [some (iv (116 : Int32)), some (iv (104 : Int32)), some (iv (101 : Int32)), some (iv (110 : Int32)), some (iv (0 : Int32)), some (iv (0 : Int32)), some (jv (((((((((((116 : Int32).toInt64 - (96 : Int64)) * (32 : Int64)) + (104 : Int32).toInt64) - (96 : Int64)) * (32 : Int64)) + (101 : Int32).toInt64) - (96 : Int64)) * (32 : Int64)) + (110 : Int32).toInt64) - (96 : Int64))), none]) dX8_spelled_95 (Nat.le_of_ble_eq_true rfl) rfl ?_
    refine mx_iload dX8_spelled_97 rfl ?_
    refine mx_if_le (tgt := 119) dX8_spelled_99 rfl (fun _ => ?_) (fun _ => absurd ‹_› (by decide))
    refine mx_lload dX8_spelled_119 rfl ?_
    refine mx_lretK rfl dX8_spelled_121 ?_
    refine mx_tj (show (((((((((((116 : Int32).toInt64 - (96 : Int64)) * (32 : Int64)) + (104 : Int32).toInt64) - (96 : Int64)) * (32 : Int64)) + (101 : Int32).toInt64) - (96 : Int64)) * (32 : Int64)) + (110 : Int32).toInt64) - (96 : Int64)) = (663726 : Int64) by decide) ?_
    refine mx_callV 8 (y' := mi_X8_isWord) (vs := [jv (663726 : Int64)]) (st := []) (al' := [some (rv a0), some (jv (663726 : Int64)), none]) cl_8 V_X8_isWord (Or.inl q2196) dX8_isThen_14 rfl rfl (Nat.le_of_ble_eq_true rfl) (Nat.le_of_ble_eq_true rfl) (ly8_k La0_h) ?_
    refine mx_aload_n dX8_isWord_0 rfl rfl ?_
    refine mx_get 8 50 (ref := "PrairiePoolModel") cl_8 (Nat.le_of_ble_eq_true rfl) (Or.inl q1677) (Or.inl rfl) dX8_isWord_1 (fv_8_50 _ _) (ly8_k La0_h) ?_
    refine mx_iconst dX8_isWord_4 ic_1 ?_
    refine mx_icmp_ne (tgt := 21) dX8_isWord_5 rfl (fun _ => ?_) (fun q_ => absurd q_ c1)
    refine mx_iconst dX8_isWord_21 ic_0 ?_
    refine mx_zretK rfl dX8_isWord_22 (Or.inl rfl) ?_
    refine mx_zretK rfl dX8_isThen_17 (Or.inl rfl) ?_
    refine mx_if_ne (tgt := 56) dX8_isKept_11 rfl (fun _ => absurd ‹_› (by decide)) (fun _ => ?_)
    refine mx_aload_n dX8_isKept_14 rfl rfl ?_
    refine mx_callV 8 (y' := mi_X8_isElse) (vs := []) (st := []) (al' := [some (rv a0)]) cl_8 V_X8_isElse (Or.inl q2215) dX8_isKept_15 rfl rfl (Nat.le_of_ble_eq_true rfl) (Nat.le_of_ble_eq_true rfl) (ly8_k La0_h) ?_
    refine mx_aload_n dX8_isElse_0 rfl rfl ?_
    refine mx_bipush dX8_isElse_1 ib_101 ?_
    refine mx_bipush dX8_isElse_3 ib_108 ?_
    refine mx_bipush dX8_isElse_5 ib_115 ?_
    refine mx_bipush dX8_isElse_7 ib_101 ?_
    refine mx_iconst dX8_isElse_9 ic_0 ?_
    refine mx_iconst dX8_isElse_10 ic_0 ?_
    refine mx_callS (y' := mi_X8_spelled) (vs := [iv (101 : Int32), iv (108 : Int32), iv (115 : Int32), iv (101 : Int32), iv (0 : Int32), iv (0 : Int32)]) (st := [rv a0]) (al' := [some (iv (101 : Int32)), some (iv (108 : Int32)), some (iv (115 : Int32)), some (iv (101 : Int32)), some (iv (0 : Int32)), some (iv (0 : Int32)), none, none]) S_X8_spelled q2075 dX8_isElse_11 rfl rfl (Nat.le_of_ble_eq_true rfl) (Nat.le_of_ble_eq_true rfl) ?_
    refine mx_iload_n dX8_spelled_0 rfl rfl ?_
    refine mx_i2l dX8_spelled_1 ?_
    refine mx_ldc2 q2078 dX8_spelled_2 ?_
    refine mx_lsub dX8_spelled_5 ?_
    refine mx_lstore (al' := [some (iv (101 : Int32)), some (iv (108 : Int32)), some (iv (115 : Int32)), some (iv (101 : Int32)), some (iv (0 : Int32)), some (iv (0 : Int32)), some (jv ((101 : Int32).toInt64 - (96 : Int64))), none]) dX8_spelled_6 (Nat.le_of_ble_eq_true rfl) rfl ?_
    refine mx_lload dX8_spelled_8 rfl ?_
    refine mx_ldc2 q2079 dX8_spelled_10 ?_
    refine mx_lmul dX8_spelled_13 ?_
    refine mx_iload_n dX8_spelled_14 rfl rfl ?_
    refine mx_i2l dX8_spelled_15 ?_
    refine mx_ladd dX8_spelled_16 ?_
    refine mx_ldc2 q2078 dX8_spelled_17 ?_
    refine mx_lsub dX8_spelled_20 ?_
    refine mx_lstore (al' := [some (iv (101 : Int32)), some (iv (108 : Int32)), some (iv (115 : Int32)), some (iv (101 : Int32)), some (iv (0 : Int32)), some (iv (0 : Int32)), some (jv (((((101 : Int32).toInt64 - (96 : Int64)) * (32 : Int64)) + (108 : Int32).toInt64) - (96 : Int64))), none]) dX8_spelled_21 (Nat.le_of_ble_eq_true rfl) rfl ?_
    refine mx_iload_n dX8_spelled_23 rfl rfl ?_
    refine mx_if_le (tgt := 43) dX8_spelled_24 rfl (fun _ => absurd ‹_› (by decide)) (fun _ => ?_)
    refine mx_lload dX8_spelled_27 rfl ?_
    refine mx_ldc2 q2079 dX8_spelled_29 ?_
    refine mx_lmul dX8_spelled_32 ?_
    refine mx_iload_n dX8_spelled_33 rfl rfl ?_
    refine mx_i2l dX8_spelled_34 ?_
    refine mx_ladd dX8_spelled_35 ?_
    refine mx_ldc2 q2078 dX8_spelled_36 ?_
    refine mx_lsub dX8_spelled_39 ?_
    refine mx_goto (tgt := 45) dX8_spelled_40 rfl ?_
    refine mx_lstore (al' := [some (iv (101 : Int32)), some (iv (108 : Int32)), some (iv (115 : Int32)), some (iv (101 : Int32)), some (iv (0 : Int32)), some (iv (0 : Int32)), some (jv ((((((((101 : Int32).toInt64 - (96 : Int64)) * (32 : Int64)) + (108 : Int32).toInt64) - (96 : Int64)) * (32 : Int64)) + (115 : Int32).toInt64) - (96 : Int64))), none]) dX8_spelled_45 (Nat.le_of_ble_eq_true rfl) rfl ?_
    refine mx_iload_n dX8_spelled_47 rfl rfl ?_
    refine mx_if_le (tgt := 67) dX8_spelled_48 rfl (fun _ => absurd ‹_› (by decide)) (fun _ => ?_)
    refine mx_lload dX8_spelled_51 rfl ?_
    refine mx_ldc2 q2079 dX8_spelled_53 ?_
    refine mx_lmul dX8_spelled_56 ?_
    refine mx_iload_n dX8_spelled_57 rfl rfl ?_
    refine mx_i2l dX8_spelled_58 ?_
    refine mx_ladd dX8_spelled_59 ?_
    refine mx_ldc2 q2078 dX8_spelled_60 ?_
    refine mx_lsub dX8_spelled_63 ?_
    refine mx_goto (tgt := 69) dX8_spelled_64 rfl ?_
    refine mx_lstore (al' := [some (iv (101 : Int32)), some (iv (108 : Int32)), some (iv (115 : Int32)), some (iv (101 : Int32)), some (iv (0 : Int32)), some (iv (0 : Int32)), some (jv (((((((((((101 : Int32).toInt64 - (96 : Int64)) * (32 : Int64)) + (108 : Int32).toInt64) - (96 : Int64)) * (32 : Int64)) + (115 : Int32).toInt64) - (96 : Int64)) * (32 : Int64)) + (101 : Int32).toInt64) - (96 : Int64))), none]) dX8_spelled_69 (Nat.le_of_ble_eq_true rfl) rfl ?_
    refine mx_iload dX8_spelled_71 rfl ?_
    refine mx_if_le (tgt := 93) dX8_spelled_73 rfl (fun _ => ?_) (fun _ => absurd ‹_› (by decide))
    refine mx_lload dX8_spelled_93 rfl ?_
    refine mx_lstore (al' := [some (iv (101 : Int32)), some (iv (108 : Int32)), some (iv (115 : Int32)), some (iv (101 : Int32)), some (iv (0 : Int32)), some (iv (0 : Int32)), some (jv (((((((((((101 : Int32).toInt64 - (96 : Int64)) * (32 : Int64)) + (108 : Int32).toInt64) - (96 : Int64)) * (32 : Int64)) + (115 : Int32).toInt64) - (96 : Int64)) * (32 : Int64)) + (101 : Int32).toInt64) - (96 : Int64))), none]) dX8_spelled_95 (Nat.le_of_ble_eq_true rfl) rfl ?_
    refine mx_iload dX8_spelled_97 rfl ?_
    refine mx_if_le (tgt := 119) dX8_spelled_99 rfl (fun _ => ?_) (fun _ => absurd ‹_› (by decide))
    refine mx_lload dX8_spelled_119 rfl ?_
    refine mx_lretK rfl dX8_spelled_121 ?_
    refine mx_tj (show (((((((((((101 : Int32).toInt64 - (96 : Int64)) * (32 : Int64)) + (108 : Int32).toInt64) - (96 : Int64)) * (32 : Int64)) + (115 : Int32).toInt64) - (96 : Int64)) * (32 : Int64)) + (101 : Int32).toInt64) - (96 : Int64)) = (176741 : Int64) by decide) ?_
    refine mx_callV 8 (y' := mi_X8_isWord) (vs := [jv (176741 : Int64)]) (st := []) (al' := [some (rv a0), some (jv (176741 : Int64)), none]) cl_8 V_X8_isWord (Or.inl q2196) dX8_isElse_14 rfl rfl (Nat.le_of_ble_eq_true rfl) (Nat.le_of_ble_eq_true rfl) (ly8_k La0_h) ?_
    refine mx_aload_n dX8_isWord_0 rfl rfl ?_
    refine mx_get 8 50 (ref := "PrairiePoolModel") cl_8 (Nat.le_of_ble_eq_true rfl) (Or.inl q1677) (Or.inl rfl) dX8_isWord_1 (fv_8_50 _ _) (ly8_k La0_h) ?_
    refine mx_iconst dX8_isWord_4 ic_1 ?_
    refine mx_icmp_ne (tgt := 21) dX8_isWord_5 rfl (fun _ => ?_) (fun q_ => absurd q_ c1)
    refine mx_iconst dX8_isWord_21 ic_0 ?_
    refine mx_zretK rfl dX8_isWord_22 (Or.inl rfl) ?_
    refine mx_zretK rfl dX8_isElse_17 (Or.inl rfl) ?_
    refine mx_if_ne (tgt := 56) dX8_isKept_18 rfl (fun _ => absurd ‹_› (by decide)) (fun _ => ?_)
    refine mx_aload_n dX8_isKept_21 rfl rfl ?_
    refine mx_callV 8 (y' := mi_X8_isAnd) (vs := []) (st := []) (al' := [some (rv a0)]) cl_8 V_X8_isAnd (Or.inl q2219) dX8_isKept_22 rfl rfl (Nat.le_of_ble_eq_true rfl) (Nat.le_of_ble_eq_true rfl) (ly8_k La0_h) ?_
    refine mx_aload_n dX8_isAnd_0 rfl rfl ?_
    refine mx_bipush dX8_isAnd_1 ib_97 ?_
    refine mx_bipush dX8_isAnd_3 ib_110 ?_
    refine mx_bipush dX8_isAnd_5 ib_100 ?_
    refine mx_iconst dX8_isAnd_7 ic_0 ?_
    refine mx_iconst dX8_isAnd_8 ic_0 ?_
    refine mx_iconst dX8_isAnd_9 ic_0 ?_
    refine mx_callS (y' := mi_X8_spelled) (vs := [iv (97 : Int32), iv (110 : Int32), iv (100 : Int32), iv (0 : Int32), iv (0 : Int32), iv (0 : Int32)]) (st := [rv a0]) (al' := [some (iv (97 : Int32)), some (iv (110 : Int32)), some (iv (100 : Int32)), some (iv (0 : Int32)), some (iv (0 : Int32)), some (iv (0 : Int32)), none, none]) S_X8_spelled q2075 dX8_isAnd_10 rfl rfl (Nat.le_of_ble_eq_true rfl) (Nat.le_of_ble_eq_true rfl) ?_
    refine mx_iload_n dX8_spelled_0 rfl rfl ?_
    refine mx_i2l dX8_spelled_1 ?_
    refine mx_ldc2 q2078 dX8_spelled_2 ?_
    refine mx_lsub dX8_spelled_5 ?_
    refine mx_lstore (al' := [some (iv (97 : Int32)), some (iv (110 : Int32)), some (iv (100 : Int32)), some (iv (0 : Int32)), some (iv (0 : Int32)), some (iv (0 : Int32)), some (jv ((97 : Int32).toInt64 - (96 : Int64))), none]) dX8_spelled_6 (Nat.le_of_ble_eq_true rfl) rfl ?_
    refine mx_lload dX8_spelled_8 rfl ?_
    refine mx_ldc2 q2079 dX8_spelled_10 ?_
    refine mx_lmul dX8_spelled_13 ?_
    refine mx_iload_n dX8_spelled_14 rfl rfl ?_
    refine mx_i2l dX8_spelled_15 ?_
    refine mx_ladd dX8_spelled_16 ?_
    refine mx_ldc2 q2078 dX8_spelled_17 ?_
    refine mx_lsub dX8_spelled_20 ?_
    refine mx_lstore (al' := [some (iv (97 : Int32)), some (iv (110 : Int32)), some (iv (100 : Int32)), some (iv (0 : Int32)), some (iv (0 : Int32)), some (iv (0 : Int32)), some (jv (((((97 : Int32).toInt64 - (96 : Int64)) * (32 : Int64)) + (110 : Int32).toInt64) - (96 : Int64))), none]) dX8_spelled_21 (Nat.le_of_ble_eq_true rfl) rfl ?_
    refine mx_iload_n dX8_spelled_23 rfl rfl ?_
    refine mx_if_le (tgt := 43) dX8_spelled_24 rfl (fun _ => absurd ‹_› (by decide)) (fun _ => ?_)
    refine mx_lload dX8_spelled_27 rfl ?_
    refine mx_ldc2 q2079 dX8_spelled_29 ?_
    refine mx_lmul dX8_spelled_32 ?_
    refine mx_iload_n dX8_spelled_33 rfl rfl ?_
    refine mx_i2l dX8_spelled_34 ?_
    refine mx_ladd dX8_spelled_35 ?_
    refine mx_ldc2 q2078 dX8_spelled_36 ?_
    refine mx_lsub dX8_spelled_39 ?_
    refine mx_goto (tgt := 45) dX8_spelled_40 rfl ?_
    refine mx_lstore (al' := [some (iv (97 : Int32)), some (iv (110 : Int32)), some (iv (100 : Int32)), some (iv (0 : Int32)), some (iv (0 : Int32)), some (iv (0 : Int32)), some (jv ((((((((97 : Int32).toInt64 - (96 : Int64)) * (32 : Int64)) + (110 : Int32).toInt64) - (96 : Int64)) * (32 : Int64)) + (100 : Int32).toInt64) - (96 : Int64))), none]) dX8_spelled_45 (Nat.le_of_ble_eq_true rfl) rfl ?_
    refine mx_iload_n dX8_spelled_47 rfl rfl ?_
    refine mx_if_le (tgt := 67) dX8_spelled_48 rfl (fun _ => ?_) (fun _ => absurd ‹_› (by decide))
    refine mx_lload dX8_spelled_67 rfl ?_
    refine mx_lstore (al' := [some (iv (97 : Int32)), some (iv (110 : Int32)), some (iv (100 : Int32)), some (iv (0 : Int32)), some (iv (0 : Int32)), some (iv (0 : Int32)), some (jv ((((((((97 : Int32).toInt64 - (96 : Int64)) * (32 : Int64)) + (110 : Int32).toInt64) - (96 : Int64)) * (32 : Int64)) + (100 : Int32).toInt64) - (96 : Int64))), none]) dX8_spelled_69 (Nat.le_of_ble_eq_true rfl) rfl ?_
    refine mx_iload dX8_spelled_71 rfl ?_
    refine mx_if_le (tgt := 93) dX8_spelled_73 rfl (fun _ => ?_) (fun _ => absurd ‹_› (by decide))
    refine mx_lload dX8_spelled_93 rfl ?_
    refine mx_lstore (al' := [some (iv (97 : Int32)), some (iv (110 : Int32)), some (iv (100 : Int32)), some (iv (0 : Int32)), some (iv (0 : Int32)), some (iv (0 : Int32)), some (jv ((((((((97 : Int32).toInt64 - (96 : Int64)) * (32 : Int64)) + (110 : Int32).toInt64) - (96 : Int64)) * (32 : Int64)) + (100 : Int32).toInt64) - (96 : Int64))), none]) dX8_spelled_95 (Nat.le_of_ble_eq_true rfl) rfl ?_
    refine mx_iload dX8_spelled_97 rfl ?_
    refine mx_if_le (tgt := 119) dX8_spelled_99 rfl (fun _ => ?_) (fun _ => absurd ‹_› (by decide))
    refine mx_lload dX8_spelled_119 rfl ?_
    refine mx_lretK rfl dX8_spelled_121 ?_
    refine mx_tj (show ((((((((97 : Int32).toInt64 - (96 : Int64)) * (32 : Int64)) + (110 : Int32).toInt64) - (96 : Int64)) * (32 : Int64)) + (100 : Int32).toInt64) - (96 : Int64)) = (1476 : Int64) by decide) ?_
    refine mx_callV 8 (y' := mi_X8_isWord) (vs := [jv (1476 : Int64)]) (st := []) (al' := [some (rv a0), some (jv (1476 : Int64)), none]) cl_8 V_X8_isWord (Or.inl q2196) dX8_isAnd_13 rfl rfl (Nat.le_of_ble_eq_true rfl) (Nat.le_of_ble_eq_true rfl) (ly8_k La0_h) ?_
    refine mx_aload_n dX8_isWord_0 rfl rfl ?_
    refine mx_get 8 50 (ref := "PrairiePoolModel") cl_8 (Nat.le_of_ble_eq_true rfl) (Or.inl q1677) (Or.inl rfl) dX8_isWord_1 (fv_8_50 _ _) (ly8_k La0_h) ?_
    refine mx_iconst dX8_isWord_4 ic_1 ?_
    refine mx_icmp_ne (tgt := 21) dX8_isWord_5 rfl (fun _ => ?_) (fun q_ => absurd q_ c1)
    refine mx_iconst dX8_isWord_21 ic_0 ?_
    refine mx_zretK rfl dX8_isWord_22 (Or.inl rfl) ?_
    refine mx_zretK rfl dX8_isAnd_16 (Or.inl rfl) ?_
    refine mx_if_ne (tgt := 56) dX8_isKept_25 rfl (fun _ => absurd ‹_› (by decide)) (fun _ => ?_)
    refine mx_aload_n dX8_isKept_28 rfl rfl ?_
    refine mx_callV 8 (y' := mi_X8_isOr) (vs := []) (st := []) (al' := [some (rv a0)]) cl_8 V_X8_isOr (Or.inl q2223) dX8_isKept_29 rfl rfl (Nat.le_of_ble_eq_true rfl) (Nat.le_of_ble_eq_true rfl) (ly8_k La0_h) ?_
    refine mx_aload_n dX8_isOr_0 rfl rfl ?_
    refine mx_bipush dX8_isOr_1 ib_111 ?_
    refine mx_bipush dX8_isOr_3 ib_114 ?_
    refine mx_iconst dX8_isOr_5 ic_0 ?_
    refine mx_iconst dX8_isOr_6 ic_0 ?_
    refine mx_iconst dX8_isOr_7 ic_0 ?_
    refine mx_iconst dX8_isOr_8 ic_0 ?_
    refine mx_callS (y' := mi_X8_spelled) (vs := [iv (111 : Int32), iv (114 : Int32), iv (0 : Int32), iv (0 : Int32), iv (0 : Int32), iv (0 : Int32)]) (st := [rv a0]) (al' := [some (iv (111 : Int32)), some (iv (114 : Int32)), some (iv (0 : Int32)), some (iv (0 : Int32)), some (iv (0 : Int32)), some (iv (0 : Int32)), none, none]) S_X8_spelled q2075 dX8_isOr_9 rfl rfl (Nat.le_of_ble_eq_true rfl) (Nat.le_of_ble_eq_true rfl) ?_
    refine mx_iload_n dX8_spelled_0 rfl rfl ?_
    refine mx_i2l dX8_spelled_1 ?_
    refine mx_ldc2 q2078 dX8_spelled_2 ?_
    refine mx_lsub dX8_spelled_5 ?_
    refine mx_lstore (al' := [some (iv (111 : Int32)), some (iv (114 : Int32)), some (iv (0 : Int32)), some (iv (0 : Int32)), some (iv (0 : Int32)), some (iv (0 : Int32)), some (jv ((111 : Int32).toInt64 - (96 : Int64))), none]) dX8_spelled_6 (Nat.le_of_ble_eq_true rfl) rfl ?_
    refine mx_lload dX8_spelled_8 rfl ?_
    refine mx_ldc2 q2079 dX8_spelled_10 ?_
    refine mx_lmul dX8_spelled_13 ?_
    refine mx_iload_n dX8_spelled_14 rfl rfl ?_
    refine mx_i2l dX8_spelled_15 ?_
    refine mx_ladd dX8_spelled_16 ?_
    refine mx_ldc2 q2078 dX8_spelled_17 ?_
    refine mx_lsub dX8_spelled_20 ?_
    refine mx_lstore (al' := [some (iv (111 : Int32)), some (iv (114 : Int32)), some (iv (0 : Int32)), some (iv (0 : Int32)), some (iv (0 : Int32)), some (iv (0 : Int32)), some (jv (((((111 : Int32).toInt64 - (96 : Int64)) * (32 : Int64)) + (114 : Int32).toInt64) - (96 : Int64))), none]) dX8_spelled_21 (Nat.le_of_ble_eq_true rfl) rfl ?_
    refine mx_iload_n dX8_spelled_23 rfl rfl ?_
    refine mx_if_le (tgt := 43) dX8_spelled_24 rfl (fun _ => ?_) (fun _ => absurd ‹_› (by decide))
    refine mx_lload dX8_spelled_43 rfl ?_
    refine mx_lstore (al' := [some (iv (111 : Int32)), some (iv (114 : Int32)), some (iv (0 : Int32)), some (iv (0 : Int32)), some (iv (0 : Int32)), some (iv (0 : Int32)), some (jv (((((111 : Int32).toInt64 - (96 : Int64)) * (32 : Int64)) + (114 : Int32).toInt64) - (96 : Int64))), none]) dX8_spelled_45 (Nat.le_of_ble_eq_true rfl) rfl ?_
    refine mx_iload_n dX8_spelled_47 rfl rfl ?_
    refine mx_if_le (tgt := 67) dX8_spelled_48 rfl (fun _ => ?_) (fun _ => absurd ‹_› (by decide))
    refine mx_lload dX8_spelled_67 rfl ?_
    refine mx_lstore (al' := [some (iv (111 : Int32)), some (iv (114 : Int32)), some (iv (0 : Int32)), some (iv (0 : Int32)), some (iv (0 : Int32)), some (iv (0 : Int32)), some (jv (((((111 : Int32).toInt64 - (96 : Int64)) * (32 : Int64)) + (114 : Int32).toInt64) - (96 : Int64))), none]) dX8_spelled_69 (Nat.le_of_ble_eq_true rfl) rfl ?_
    refine mx_iload dX8_spelled_71 rfl ?_
    refine mx_if_le (tgt := 93) dX8_spelled_73 rfl (fun _ => ?_) (fun _ => absurd ‹_› (by decide))
    refine mx_lload dX8_spelled_93 rfl ?_
    refine mx_lstore (al' := [some (iv (111 : Int32)), some (iv (114 : Int32)), some (iv (0 : Int32)), some (iv (0 : Int32)), some (iv (0 : Int32)), some (iv (0 : Int32)), some (jv (((((111 : Int32).toInt64 - (96 : Int64)) * (32 : Int64)) + (114 : Int32).toInt64) - (96 : Int64))), none]) dX8_spelled_95 (Nat.le_of_ble_eq_true rfl) rfl ?_
    refine mx_iload dX8_spelled_97 rfl ?_
    refine mx_if_le (tgt := 119) dX8_spelled_99 rfl (fun _ => ?_) (fun _ => absurd ‹_› (by decide))
    refine mx_lload dX8_spelled_119 rfl ?_
    refine mx_lretK rfl dX8_spelled_121 ?_
    refine mx_tj (show (((((111 : Int32).toInt64 - (96 : Int64)) * (32 : Int64)) + (114 : Int32).toInt64) - (96 : Int64)) = (498 : Int64) by decide) ?_
    refine mx_callV 8 (y' := mi_X8_isWord) (vs := [jv (498 : Int64)]) (st := []) (al' := [some (rv a0), some (jv (498 : Int64)), none]) cl_8 V_X8_isWord (Or.inl q2196) dX8_isOr_12 rfl rfl (Nat.le_of_ble_eq_true rfl) (Nat.le_of_ble_eq_true rfl) (ly8_k La0_h) ?_
    refine mx_aload_n dX8_isWord_0 rfl rfl ?_
    refine mx_get 8 50 (ref := "PrairiePoolModel") cl_8 (Nat.le_of_ble_eq_true rfl) (Or.inl q1677) (Or.inl rfl) dX8_isWord_1 (fv_8_50 _ _) (ly8_k La0_h) ?_
    refine mx_iconst dX8_isWord_4 ic_1 ?_
    refine mx_icmp_ne (tgt := 21) dX8_isWord_5 rfl (fun _ => ?_) (fun q_ => absurd q_ c1)
    refine mx_iconst dX8_isWord_21 ic_0 ?_
    refine mx_zretK rfl dX8_isWord_22 (Or.inl rfl) ?_
    refine mx_zretK rfl dX8_isOr_15 (Or.inl rfl) ?_
    refine mx_if_ne (tgt := 56) dX8_isKept_32 rfl (fun _ => absurd ‹_› (by decide)) (fun _ => ?_)
    refine mx_aload_n dX8_isKept_35 rfl rfl ?_
    refine mx_callV 8 (y' := mi_X8_isNot) (vs := []) (st := []) (al' := [some (rv a0)]) cl_8 V_X8_isNot (Or.inl q2227) dX8_isKept_36 rfl rfl (Nat.le_of_ble_eq_true rfl) (Nat.le_of_ble_eq_true rfl) (ly8_k La0_h) ?_
    refine mx_aload_n dX8_isNot_0 rfl rfl ?_
    refine mx_bipush dX8_isNot_1 ib_110 ?_
    refine mx_bipush dX8_isNot_3 ib_111 ?_
    refine mx_bipush dX8_isNot_5 ib_116 ?_
    refine mx_iconst dX8_isNot_7 ic_0 ?_
    refine mx_iconst dX8_isNot_8 ic_0 ?_
    refine mx_iconst dX8_isNot_9 ic_0 ?_
    refine mx_callS (y' := mi_X8_spelled) (vs := [iv (110 : Int32), iv (111 : Int32), iv (116 : Int32), iv (0 : Int32), iv (0 : Int32), iv (0 : Int32)]) (st := [rv a0]) (al' := [some (iv (110 : Int32)), some (iv (111 : Int32)), some (iv (116 : Int32)), some (iv (0 : Int32)), some (iv (0 : Int32)), some (iv (0 : Int32)), none, none]) S_X8_spelled q2075 dX8_isNot_10 rfl rfl (Nat.le_of_ble_eq_true rfl) (Nat.le_of_ble_eq_true rfl) ?_
    refine mx_iload_n dX8_spelled_0 rfl rfl ?_
    refine mx_i2l dX8_spelled_1 ?_
    refine mx_ldc2 q2078 dX8_spelled_2 ?_
    refine mx_lsub dX8_spelled_5 ?_
    refine mx_lstore (al' := [some (iv (110 : Int32)), some (iv (111 : Int32)), some (iv (116 : Int32)), some (iv (0 : Int32)), some (iv (0 : Int32)), some (iv (0 : Int32)), some (jv ((110 : Int32).toInt64 - (96 : Int64))), none]) dX8_spelled_6 (Nat.le_of_ble_eq_true rfl) rfl ?_
    refine mx_lload dX8_spelled_8 rfl ?_
    refine mx_ldc2 q2079 dX8_spelled_10 ?_
    refine mx_lmul dX8_spelled_13 ?_
    refine mx_iload_n dX8_spelled_14 rfl rfl ?_
    refine mx_i2l dX8_spelled_15 ?_
    refine mx_ladd dX8_spelled_16 ?_
    refine mx_ldc2 q2078 dX8_spelled_17 ?_
    refine mx_lsub dX8_spelled_20 ?_
    refine mx_lstore (al' := [some (iv (110 : Int32)), some (iv (111 : Int32)), some (iv (116 : Int32)), some (iv (0 : Int32)), some (iv (0 : Int32)), some (iv (0 : Int32)), some (jv (((((110 : Int32).toInt64 - (96 : Int64)) * (32 : Int64)) + (111 : Int32).toInt64) - (96 : Int64))), none]) dX8_spelled_21 (Nat.le_of_ble_eq_true rfl) rfl ?_
    refine mx_iload_n dX8_spelled_23 rfl rfl ?_
    refine mx_if_le (tgt := 43) dX8_spelled_24 rfl (fun _ => absurd ‹_› (by decide)) (fun _ => ?_)
    refine mx_lload dX8_spelled_27 rfl ?_
    refine mx_ldc2 q2079 dX8_spelled_29 ?_
    refine mx_lmul dX8_spelled_32 ?_
    refine mx_iload_n dX8_spelled_33 rfl rfl ?_
    refine mx_i2l dX8_spelled_34 ?_
    refine mx_ladd dX8_spelled_35 ?_
    refine mx_ldc2 q2078 dX8_spelled_36 ?_
    refine mx_lsub dX8_spelled_39 ?_
    refine mx_goto (tgt := 45) dX8_spelled_40 rfl ?_
    refine mx_lstore (al' := [some (iv (110 : Int32)), some (iv (111 : Int32)), some (iv (116 : Int32)), some (iv (0 : Int32)), some (iv (0 : Int32)), some (iv (0 : Int32)), some (jv ((((((((110 : Int32).toInt64 - (96 : Int64)) * (32 : Int64)) + (111 : Int32).toInt64) - (96 : Int64)) * (32 : Int64)) + (116 : Int32).toInt64) - (96 : Int64))), none]) dX8_spelled_45 (Nat.le_of_ble_eq_true rfl) rfl ?_
    refine mx_iload_n dX8_spelled_47 rfl rfl ?_
    refine mx_if_le (tgt := 67) dX8_spelled_48 rfl (fun _ => ?_) (fun _ => absurd ‹_› (by decide))
    refine mx_lload dX8_spelled_67 rfl ?_
    refine mx_lstore (al' := [some (iv (110 : Int32)), some (iv (111 : Int32)), some (iv (116 : Int32)), some (iv (0 : Int32)), some (iv (0 : Int32)), some (iv (0 : Int32)), some (jv ((((((((110 : Int32).toInt64 - (96 : Int64)) * (32 : Int64)) + (111 : Int32).toInt64) - (96 : Int64)) * (32 : Int64)) + (116 : Int32).toInt64) - (96 : Int64))), none]) dX8_spelled_69 (Nat.le_of_ble_eq_true rfl) rfl ?_
    refine mx_iload dX8_spelled_71 rfl ?_
    refine mx_if_le (tgt := 93) dX8_spelled_73 rfl (fun _ => ?_) (fun _ => absurd ‹_› (by decide))
    refine mx_lload dX8_spelled_93 rfl ?_
    refine mx_lstore (al' := [some (iv (110 : Int32)), some (iv (111 : Int32)), some (iv (116 : Int32)), some (iv (0 : Int32)), some (iv (0 : Int32)), some (iv (0 : Int32)), some (jv ((((((((110 : Int32).toInt64 - (96 : Int64)) * (32 : Int64)) + (111 : Int32).toInt64) - (96 : Int64)) * (32 : Int64)) + (116 : Int32).toInt64) - (96 : Int64))), none]) dX8_spelled_95 (Nat.le_of_ble_eq_true rfl) rfl ?_
    refine mx_iload dX8_spelled_97 rfl ?_
    refine mx_if_le (tgt := 119) dX8_spelled_99 rfl (fun _ => ?_) (fun _ => absurd ‹_› (by decide))
    refine mx_lload dX8_spelled_119 rfl ?_
    refine mx_lretK rfl dX8_spelled_121 ?_
    refine mx_tj (show ((((((((110 : Int32).toInt64 - (96 : Int64)) * (32 : Int64)) + (111 : Int32).toInt64) - (96 : Int64)) * (32 : Int64)) + (116 : Int32).toInt64) - (96 : Int64)) = (14836 : Int64) by decide) ?_
    refine mx_callV 8 (y' := mi_X8_isWord) (vs := [jv (14836 : Int64)]) (st := []) (al' := [some (rv a0), some (jv (14836 : Int64)), none]) cl_8 V_X8_isWord (Or.inl q2196) dX8_isNot_13 rfl rfl (Nat.le_of_ble_eq_true rfl) (Nat.le_of_ble_eq_true rfl) (ly8_k La0_h) ?_
    refine mx_aload_n dX8_isWord_0 rfl rfl ?_
    refine mx_get 8 50 (ref := "PrairiePoolModel") cl_8 (Nat.le_of_ble_eq_true rfl) (Or.inl q1677) (Or.inl rfl) dX8_isWord_1 (fv_8_50 _ _) (ly8_k La0_h) ?_
    refine mx_iconst dX8_isWord_4 ic_1 ?_
    refine mx_icmp_ne (tgt := 21) dX8_isWord_5 rfl (fun _ => ?_) (fun q_ => absurd q_ c1)
    refine mx_iconst dX8_isWord_21 ic_0 ?_
    refine mx_zretK rfl dX8_isWord_22 (Or.inl rfl) ?_
    refine mx_zretK rfl dX8_isNot_16 (Or.inl rfl) ?_
    refine mx_if_ne (tgt := 56) dX8_isKept_39 rfl (fun _ => absurd ‹_› (by decide)) (fun _ => ?_)
    refine mx_aload_n dX8_isKept_42 rfl rfl ?_
    refine mx_callV 8 (y' := mi_X8_isLeast) (vs := []) (st := []) (al' := [some (rv a0)]) cl_8 V_X8_isLeast (Or.inl q2231) dX8_isKept_43 rfl rfl (Nat.le_of_ble_eq_true rfl) (Nat.le_of_ble_eq_true rfl) (ly8_k La0_h) ?_
    refine mx_aload_n dX8_isLeast_0 rfl rfl ?_
    refine mx_bipush dX8_isLeast_1 ib_108 ?_
    refine mx_bipush dX8_isLeast_3 ib_101 ?_
    refine mx_bipush dX8_isLeast_5 ib_97 ?_
    refine mx_bipush dX8_isLeast_7 ib_115 ?_
    refine mx_bipush dX8_isLeast_9 ib_116 ?_
    refine mx_iconst dX8_isLeast_11 ic_0 ?_
    refine mx_callS (y' := mi_X8_spelled) (vs := [iv (108 : Int32), iv (101 : Int32), iv (97 : Int32), iv (115 : Int32), iv (116 : Int32), iv (0 : Int32)]) (st := [rv a0]) (al' := [some (iv (108 : Int32)), some (iv (101 : Int32)), some (iv (97 : Int32)), some (iv (115 : Int32)), some (iv (116 : Int32)), some (iv (0 : Int32)), none, none]) S_X8_spelled q2075 dX8_isLeast_12 rfl rfl (Nat.le_of_ble_eq_true rfl) (Nat.le_of_ble_eq_true rfl) ?_
    refine mx_iload_n dX8_spelled_0 rfl rfl ?_
    refine mx_i2l dX8_spelled_1 ?_
    refine mx_ldc2 q2078 dX8_spelled_2 ?_
    refine mx_lsub dX8_spelled_5 ?_
    refine mx_lstore (al' := [some (iv (108 : Int32)), some (iv (101 : Int32)), some (iv (97 : Int32)), some (iv (115 : Int32)), some (iv (116 : Int32)), some (iv (0 : Int32)), some (jv ((108 : Int32).toInt64 - (96 : Int64))), none]) dX8_spelled_6 (Nat.le_of_ble_eq_true rfl) rfl ?_
    refine mx_lload dX8_spelled_8 rfl ?_
    refine mx_ldc2 q2079 dX8_spelled_10 ?_
    refine mx_lmul dX8_spelled_13 ?_
    refine mx_iload_n dX8_spelled_14 rfl rfl ?_
    refine mx_i2l dX8_spelled_15 ?_
    refine mx_ladd dX8_spelled_16 ?_
    refine mx_ldc2 q2078 dX8_spelled_17 ?_
    refine mx_lsub dX8_spelled_20 ?_
    refine mx_lstore (al' := [some (iv (108 : Int32)), some (iv (101 : Int32)), some (iv (97 : Int32)), some (iv (115 : Int32)), some (iv (116 : Int32)), some (iv (0 : Int32)), some (jv (((((108 : Int32).toInt64 - (96 : Int64)) * (32 : Int64)) + (101 : Int32).toInt64) - (96 : Int64))), none]) dX8_spelled_21 (Nat.le_of_ble_eq_true rfl) rfl ?_
    refine mx_iload_n dX8_spelled_23 rfl rfl ?_
    refine mx_if_le (tgt := 43) dX8_spelled_24 rfl (fun _ => absurd ‹_› (by decide)) (fun _ => ?_)
    refine mx_lload dX8_spelled_27 rfl ?_
    refine mx_ldc2 q2079 dX8_spelled_29 ?_
    refine mx_lmul dX8_spelled_32 ?_
    refine mx_iload_n dX8_spelled_33 rfl rfl ?_
    refine mx_i2l dX8_spelled_34 ?_
    refine mx_ladd dX8_spelled_35 ?_
    refine mx_ldc2 q2078 dX8_spelled_36 ?_
    refine mx_lsub dX8_spelled_39 ?_
    refine mx_goto (tgt := 45) dX8_spelled_40 rfl ?_
    refine mx_lstore (al' := [some (iv (108 : Int32)), some (iv (101 : Int32)), some (iv (97 : Int32)), some (iv (115 : Int32)), some (iv (116 : Int32)), some (iv (0 : Int32)), some (jv ((((((((108 : Int32).toInt64 - (96 : Int64)) * (32 : Int64)) + (101 : Int32).toInt64) - (96 : Int64)) * (32 : Int64)) + (97 : Int32).toInt64) - (96 : Int64))), none]) dX8_spelled_45 (Nat.le_of_ble_eq_true rfl) rfl ?_
    refine mx_iload_n dX8_spelled_47 rfl rfl ?_
    refine mx_if_le (tgt := 67) dX8_spelled_48 rfl (fun _ => absurd ‹_› (by decide)) (fun _ => ?_)
    refine mx_lload dX8_spelled_51 rfl ?_
    refine mx_ldc2 q2079 dX8_spelled_53 ?_
    refine mx_lmul dX8_spelled_56 ?_
    refine mx_iload_n dX8_spelled_57 rfl rfl ?_
    refine mx_i2l dX8_spelled_58 ?_
    refine mx_ladd dX8_spelled_59 ?_
    refine mx_ldc2 q2078 dX8_spelled_60 ?_
    refine mx_lsub dX8_spelled_63 ?_
    refine mx_goto (tgt := 69) dX8_spelled_64 rfl ?_
    refine mx_lstore (al' := [some (iv (108 : Int32)), some (iv (101 : Int32)), some (iv (97 : Int32)), some (iv (115 : Int32)), some (iv (116 : Int32)), some (iv (0 : Int32)), some (jv (((((((((((108 : Int32).toInt64 - (96 : Int64)) * (32 : Int64)) + (101 : Int32).toInt64) - (96 : Int64)) * (32 : Int64)) + (97 : Int32).toInt64) - (96 : Int64)) * (32 : Int64)) + (115 : Int32).toInt64) - (96 : Int64))), none]) dX8_spelled_69 (Nat.le_of_ble_eq_true rfl) rfl ?_
    refine mx_iload dX8_spelled_71 rfl ?_
    refine mx_if_le (tgt := 93) dX8_spelled_73 rfl (fun _ => absurd ‹_› (by decide)) (fun _ => ?_)
    refine mx_lload dX8_spelled_76 rfl ?_
    refine mx_ldc2 q2079 dX8_spelled_78 ?_
    refine mx_lmul dX8_spelled_81 ?_
    refine mx_iload dX8_spelled_82 rfl ?_
    refine mx_i2l dX8_spelled_84 ?_
    refine mx_ladd dX8_spelled_85 ?_
    refine mx_ldc2 q2078 dX8_spelled_86 ?_
    refine mx_lsub dX8_spelled_89 ?_
    refine mx_goto (tgt := 95) dX8_spelled_90 rfl ?_
    refine mx_lstore (al' := [some (iv (108 : Int32)), some (iv (101 : Int32)), some (iv (97 : Int32)), some (iv (115 : Int32)), some (iv (116 : Int32)), some (iv (0 : Int32)), some (jv ((((((((((((((108 : Int32).toInt64 - (96 : Int64)) * (32 : Int64)) + (101 : Int32).toInt64) - (96 : Int64)) * (32 : Int64)) + (97 : Int32).toInt64) - (96 : Int64)) * (32 : Int64)) + (115 : Int32).toInt64) - (96 : Int64)) * (32 : Int64)) + (116 : Int32).toInt64) - (96 : Int64))), none]) dX8_spelled_95 (Nat.le_of_ble_eq_true rfl) rfl ?_
    refine mx_iload dX8_spelled_97 rfl ?_
    refine mx_if_le (tgt := 119) dX8_spelled_99 rfl (fun _ => ?_) (fun _ => absurd ‹_› (by decide))
    refine mx_lload dX8_spelled_119 rfl ?_
    refine mx_lretK rfl dX8_spelled_121 ?_
    refine mx_tj (show ((((((((((((((108 : Int32).toInt64 - (96 : Int64)) * (32 : Int64)) + (101 : Int32).toInt64) - (96 : Int64)) * (32 : Int64)) + (97 : Int32).toInt64) - (96 : Int64)) * (32 : Int64)) + (115 : Int32).toInt64) - (96 : Int64)) * (32 : Int64)) + (116 : Int32).toInt64) - (96 : Int64)) = (12748404 : Int64) by decide) ?_
    refine mx_callV 8 (y' := mi_X8_isWord) (vs := [jv (12748404 : Int64)]) (st := []) (al' := [some (rv a0), some (jv (12748404 : Int64)), none]) cl_8 V_X8_isWord (Or.inl q2196) dX8_isLeast_15 rfl rfl (Nat.le_of_ble_eq_true rfl) (Nat.le_of_ble_eq_true rfl) (ly8_k La0_h) ?_
    refine mx_aload_n dX8_isWord_0 rfl rfl ?_
    refine mx_get 8 50 (ref := "PrairiePoolModel") cl_8 (Nat.le_of_ble_eq_true rfl) (Or.inl q1677) (Or.inl rfl) dX8_isWord_1 (fv_8_50 _ _) (ly8_k La0_h) ?_
    refine mx_iconst dX8_isWord_4 ic_1 ?_
    refine mx_icmp_ne (tgt := 21) dX8_isWord_5 rfl (fun _ => ?_) (fun q_ => absurd q_ c1)
    refine mx_iconst dX8_isWord_21 ic_0 ?_
    refine mx_zretK rfl dX8_isWord_22 (Or.inl rfl) ?_
    refine mx_zretK rfl dX8_isLeast_18 (Or.inl rfl) ?_
    refine mx_if_ne (tgt := 56) dX8_isKept_46 rfl (fun _ => absurd ‹_› (by decide)) (fun _ => ?_)
    refine mx_aload_n dX8_isKept_49 rfl rfl ?_
    refine mx_callV 8 (y' := mi_X8_isMost) (vs := []) (st := []) (al' := [some (rv a0)]) cl_8 V_X8_isMost (Or.inl q2235) dX8_isKept_50 rfl rfl (Nat.le_of_ble_eq_true rfl) (Nat.le_of_ble_eq_true rfl) (ly8_k La0_h) ?_
    refine mx_aload_n dX8_isMost_0 rfl rfl ?_
    refine mx_bipush dX8_isMost_1 ib_109 ?_
    refine mx_bipush dX8_isMost_3 ib_111 ?_
    refine mx_bipush dX8_isMost_5 ib_115 ?_
    refine mx_bipush dX8_isMost_7 ib_116 ?_
    refine mx_iconst dX8_isMost_9 ic_0 ?_
    refine mx_iconst dX8_isMost_10 ic_0 ?_
    refine mx_callS (y' := mi_X8_spelled) (vs := [iv (109 : Int32), iv (111 : Int32), iv (115 : Int32), iv (116 : Int32), iv (0 : Int32), iv (0 : Int32)]) (st := [rv a0]) (al' := [some (iv (109 : Int32)), some (iv (111 : Int32)), some (iv (115 : Int32)), some (iv (116 : Int32)), some (iv (0 : Int32)), some (iv (0 : Int32)), none, none]) S_X8_spelled q2075 dX8_isMost_11 rfl rfl (Nat.le_of_ble_eq_true rfl) (Nat.le_of_ble_eq_true rfl) ?_
    refine mx_iload_n dX8_spelled_0 rfl rfl ?_
    refine mx_i2l dX8_spelled_1 ?_
    refine mx_ldc2 q2078 dX8_spelled_2 ?_
    refine mx_lsub dX8_spelled_5 ?_
    refine mx_lstore (al' := [some (iv (109 : Int32)), some (iv (111 : Int32)), some (iv (115 : Int32)), some (iv (116 : Int32)), some (iv (0 : Int32)), some (iv (0 : Int32)), some (jv ((109 : Int32).toInt64 - (96 : Int64))), none]) dX8_spelled_6 (Nat.le_of_ble_eq_true rfl) rfl ?_
    refine mx_lload dX8_spelled_8 rfl ?_
    refine mx_ldc2 q2079 dX8_spelled_10 ?_
    refine mx_lmul dX8_spelled_13 ?_
    refine mx_iload_n dX8_spelled_14 rfl rfl ?_
    refine mx_i2l dX8_spelled_15 ?_
    refine mx_ladd dX8_spelled_16 ?_
    refine mx_ldc2 q2078 dX8_spelled_17 ?_
    refine mx_lsub dX8_spelled_20 ?_
    refine mx_lstore (al' := [some (iv (109 : Int32)), some (iv (111 : Int32)), some (iv (115 : Int32)), some (iv (116 : Int32)), some (iv (0 : Int32)), some (iv (0 : Int32)), some (jv (((((109 : Int32).toInt64 - (96 : Int64)) * (32 : Int64)) + (111 : Int32).toInt64) - (96 : Int64))), none]) dX8_spelled_21 (Nat.le_of_ble_eq_true rfl) rfl ?_
    refine mx_iload_n dX8_spelled_23 rfl rfl ?_
    refine mx_if_le (tgt := 43) dX8_spelled_24 rfl (fun _ => absurd ‹_› (by decide)) (fun _ => ?_)
    refine mx_lload dX8_spelled_27 rfl ?_
    refine mx_ldc2 q2079 dX8_spelled_29 ?_
    refine mx_lmul dX8_spelled_32 ?_
    refine mx_iload_n dX8_spelled_33 rfl rfl ?_
    refine mx_i2l dX8_spelled_34 ?_
    refine mx_ladd dX8_spelled_35 ?_
    refine mx_ldc2 q2078 dX8_spelled_36 ?_
    refine mx_lsub dX8_spelled_39 ?_
    refine mx_goto (tgt := 45) dX8_spelled_40 rfl ?_
    refine mx_lstore (al' := [some (iv (109 : Int32)), some (iv (111 : Int32)), some (iv (115 : Int32)), some (iv (116 : Int32)), some (iv (0 : Int32)), some (iv (0 : Int32)), some (jv ((((((((109 : Int32).toInt64 - (96 : Int64)) * (32 : Int64)) + (111 : Int32).toInt64) - (96 : Int64)) * (32 : Int64)) + (115 : Int32).toInt64) - (96 : Int64))), none]) dX8_spelled_45 (Nat.le_of_ble_eq_true rfl) rfl ?_
    refine mx_iload_n dX8_spelled_47 rfl rfl ?_
    refine mx_if_le (tgt := 67) dX8_spelled_48 rfl (fun _ => absurd ‹_› (by decide)) (fun _ => ?_)
    refine mx_lload dX8_spelled_51 rfl ?_
    refine mx_ldc2 q2079 dX8_spelled_53 ?_
    refine mx_lmul dX8_spelled_56 ?_
    refine mx_iload_n dX8_spelled_57 rfl rfl ?_
    refine mx_i2l dX8_spelled_58 ?_
    refine mx_ladd dX8_spelled_59 ?_
    refine mx_ldc2 q2078 dX8_spelled_60 ?_
    refine mx_lsub dX8_spelled_63 ?_
    refine mx_goto (tgt := 69) dX8_spelled_64 rfl ?_
    refine mx_lstore (al' := [some (iv (109 : Int32)), some (iv (111 : Int32)), some (iv (115 : Int32)), some (iv (116 : Int32)), some (iv (0 : Int32)), some (iv (0 : Int32)), some (jv (((((((((((109 : Int32).toInt64 - (96 : Int64)) * (32 : Int64)) + (111 : Int32).toInt64) - (96 : Int64)) * (32 : Int64)) + (115 : Int32).toInt64) - (96 : Int64)) * (32 : Int64)) + (116 : Int32).toInt64) - (96 : Int64))), none]) dX8_spelled_69 (Nat.le_of_ble_eq_true rfl) rfl ?_
    refine mx_iload dX8_spelled_71 rfl ?_
    refine mx_if_le (tgt := 93) dX8_spelled_73 rfl (fun _ => ?_) (fun _ => absurd ‹_› (by decide))
    refine mx_lload dX8_spelled_93 rfl ?_
    refine mx_lstore (al' := [some (iv (109 : Int32)), some (iv (111 : Int32)), some (iv (115 : Int32)), some (iv (116 : Int32)), some (iv (0 : Int32)), some (iv (0 : Int32)), some (jv (((((((((((109 : Int32).toInt64 - (96 : Int64)) * (32 : Int64)) + (111 : Int32).toInt64) - (96 : Int64)) * (32 : Int64)) + (115 : Int32).toInt64) - (96 : Int64)) * (32 : Int64)) + (116 : Int32).toInt64) - (96 : Int64))), none]) dX8_spelled_95 (Nat.le_of_ble_eq_true rfl) rfl ?_
    refine mx_iload dX8_spelled_97 rfl ?_
    refine mx_if_le (tgt := 119) dX8_spelled_99 rfl (fun _ => ?_) (fun _ => absurd ‹_› (by decide))
    refine mx_lload dX8_spelled_119 rfl ?_
    refine mx_lretK rfl dX8_spelled_121 ?_
    refine mx_tj (show (((((((((((109 : Int32).toInt64 - (96 : Int64)) * (32 : Int64)) + (111 : Int32).toInt64) - (96 : Int64)) * (32 : Int64)) + (115 : Int32).toInt64) - (96 : Int64)) * (32 : Int64)) + (116 : Int32).toInt64) - (96 : Int64)) = (441972 : Int64) by decide) ?_
    refine mx_callV 8 (y' := mi_X8_isWord) (vs := [jv (441972 : Int64)]) (st := []) (al' := [some (rv a0), some (jv (441972 : Int64)), none]) cl_8 V_X8_isWord (Or.inl q2196) dX8_isMost_14 rfl rfl (Nat.le_of_ble_eq_true rfl) (Nat.le_of_ble_eq_true rfl) (ly8_k La0_h) ?_
    refine mx_aload_n dX8_isWord_0 rfl rfl ?_
    refine mx_get 8 50 (ref := "PrairiePoolModel") cl_8 (Nat.le_of_ble_eq_true rfl) (Or.inl q1677) (Or.inl rfl) dX8_isWord_1 (fv_8_50 _ _) (ly8_k La0_h) ?_
    refine mx_iconst dX8_isWord_4 ic_1 ?_
    refine mx_icmp_ne (tgt := 21) dX8_isWord_5 rfl (fun _ => ?_) (fun q_ => absurd q_ c1)
    refine mx_iconst dX8_isWord_21 ic_0 ?_
    refine mx_zretK rfl dX8_isWord_22 (Or.inl rfl) ?_
    refine mx_zretK rfl dX8_isMost_17 (Or.inl rfl) ?_
    refine mx_if_eq (tgt := 60) dX8_isKept_53 rfl (fun _ => ?_) (fun _ => absurd ‹_› (by decide))
    refine mx_iconst dX8_isKept_60 ic_0 ?_
    exact mx_zret rfl dX8_isKept_61 (Or.inl rfl) H
  · have H := H.2 c1
    refine mx_aload_n dX8_isWord_8 rfl rfl ?_
    refine mx_get 8 55 (ref := "PrairiePoolModel") cl_8 (Nat.le_of_ble_eq_true rfl) (Or.inl q1682) (Or.inl rfl) dX8_isWord_9 (fv_8_55 _ _) (ly8_k La0_h) ?_
    refine mx_lload_n dX8_isWord_12 rfl rfl ?_
    refine mx_lif_ne (tgt := 21) dX8_isWord_13 dX8_isWord_14 rfl (fun c2 => ?_) (fun c2 => ?_)
    · have H := H.1 c2
      refine mx_iconst dX8_isWord_21 ic_0 ?_
      refine mx_zretK rfl dX8_isWord_22 (Or.inl rfl) ?_
      refine mx_zretK rfl dX8_isIf_15 (Or.inl rfl) ?_
      refine mx_if_ne (tgt := 56) dX8_isKept_4 rfl (fun _ => absurd ‹_› (by decide)) (fun _ => ?_)
      refine mx_aload_n dX8_isKept_7 rfl rfl ?_
      refine mx_callV 8 (y' := mi_X8_isThen) (vs := []) (st := []) (al' := [some (rv a0)]) cl_8 V_X8_isThen (Or.inl q2211) dX8_isKept_8 rfl rfl (Nat.le_of_ble_eq_true rfl) (Nat.le_of_ble_eq_true rfl) (ly8_k La0_h) ?_
      refine mx_aload_n dX8_isThen_0 rfl rfl ?_
      refine mx_bipush dX8_isThen_1 ib_116 ?_
      refine mx_bipush dX8_isThen_3 ib_104 ?_
      refine mx_bipush dX8_isThen_5 ib_101 ?_
      refine mx_bipush dX8_isThen_7 ib_110 ?_
      refine mx_iconst dX8_isThen_9 ic_0 ?_
      refine mx_iconst dX8_isThen_10 ic_0 ?_
      refine mx_callS (y' := mi_X8_spelled) (vs := [iv (116 : Int32), iv (104 : Int32), iv (101 : Int32), iv (110 : Int32), iv (0 : Int32), iv (0 : Int32)]) (st := [rv a0]) (al' := [some (iv (116 : Int32)), some (iv (104 : Int32)), some (iv (101 : Int32)), some (iv (110 : Int32)), some (iv (0 : Int32)), some (iv (0 : Int32)), none, none]) S_X8_spelled q2075 dX8_isThen_11 rfl rfl (Nat.le_of_ble_eq_true rfl) (Nat.le_of_ble_eq_true rfl) ?_
      refine mx_iload_n dX8_spelled_0 rfl rfl ?_
      refine mx_i2l dX8_spelled_1 ?_
      refine mx_ldc2 q2078 dX8_spelled_2 ?_
      refine mx_lsub dX8_spelled_5 ?_
      refine mx_lstore (al' := [some (iv (116 : Int32)), some (iv (104 : Int32)), some (iv (101 : Int32)), some (iv (110 : Int32)), some (iv (0 : Int32)), some (iv (0 : Int32)), some (jv ((116 : Int32).toInt64 - (96 : Int64))), none]) dX8_spelled_6 (Nat.le_of_ble_eq_true rfl) rfl ?_
      refine mx_lload dX8_spelled_8 rfl ?_
      refine mx_ldc2 q2079 dX8_spelled_10 ?_
      refine mx_lmul dX8_spelled_13 ?_
      refine mx_iload_n dX8_spelled_14 rfl rfl ?_
      refine mx_i2l dX8_spelled_15 ?_
      refine mx_ladd dX8_spelled_16 ?_
      refine mx_ldc2 q2078 dX8_spelled_17 ?_
      refine mx_lsub dX8_spelled_20 ?_
      refine mx_lstore (al' := [some (iv (116 : Int32)), some (iv (104 : Int32)), some (iv (101 : Int32)), some (iv (110 : Int32)), some (iv (0 : Int32)), some (iv (0 : Int32)), some (jv (((((116 : Int32).toInt64 - (96 : Int64)) * (32 : Int64)) + (104 : Int32).toInt64) - (96 : Int64))), none]) dX8_spelled_21 (Nat.le_of_ble_eq_true rfl) rfl ?_
      refine mx_iload_n dX8_spelled_23 rfl rfl ?_
      refine mx_if_le (tgt := 43) dX8_spelled_24 rfl (fun _ => absurd ‹_› (by decide)) (fun _ => ?_)
      refine mx_lload dX8_spelled_27 rfl ?_
      refine mx_ldc2 q2079 dX8_spelled_29 ?_
      refine mx_lmul dX8_spelled_32 ?_
      refine mx_iload_n dX8_spelled_33 rfl rfl ?_
      refine mx_i2l dX8_spelled_34 ?_
      refine mx_ladd dX8_spelled_35 ?_
      refine mx_ldc2 q2078 dX8_spelled_36 ?_
      refine mx_lsub dX8_spelled_39 ?_
      refine mx_goto (tgt := 45) dX8_spelled_40 rfl ?_
      refine mx_lstore (al' := [some (iv (116 : Int32)), some (iv (104 : Int32)), some (iv (101 : Int32)), some (iv (110 : Int32)), some (iv (0 : Int32)), some (iv (0 : Int32)), some (jv ((((((((116 : Int32).toInt64 - (96 : Int64)) * (32 : Int64)) + (104 : Int32).toInt64) - (96 : Int64)) * (32 : Int64)) + (101 : Int32).toInt64) - (96 : Int64))), none]) dX8_spelled_45 (Nat.le_of_ble_eq_true rfl) rfl ?_
      refine mx_iload_n dX8_spelled_47 rfl rfl ?_
      refine mx_if_le (tgt := 67) dX8_spelled_48 rfl (fun _ => absurd ‹_› (by decide)) (fun _ => ?_)
      refine mx_lload dX8_spelled_51 rfl ?_
      refine mx_ldc2 q2079 dX8_spelled_53 ?_
      refine mx_lmul dX8_spelled_56 ?_
      refine mx_iload_n dX8_spelled_57 rfl rfl ?_
      refine mx_i2l dX8_spelled_58 ?_
      refine mx_ladd dX8_spelled_59 ?_
      refine mx_ldc2 q2078 dX8_spelled_60 ?_
      refine mx_lsub dX8_spelled_63 ?_
      refine mx_goto (tgt := 69) dX8_spelled_64 rfl ?_
      refine mx_lstore (al' := [some (iv (116 : Int32)), some (iv (104 : Int32)), some (iv (101 : Int32)), some (iv (110 : Int32)), some (iv (0 : Int32)), some (iv (0 : Int32)), some (jv (((((((((((116 : Int32).toInt64 - (96 : Int64)) * (32 : Int64)) + (104 : Int32).toInt64) - (96 : Int64)) * (32 : Int64)) + (101 : Int32).toInt64) - (96 : Int64)) * (32 : Int64)) + (110 : Int32).toInt64) - (96 : Int64))), none]) dX8_spelled_69 (Nat.le_of_ble_eq_true rfl) rfl ?_
      refine mx_iload dX8_spelled_71 rfl ?_
      refine mx_if_le (tgt := 93) dX8_spelled_73 rfl (fun _ => ?_) (fun _ => absurd ‹_› (by decide))
      refine mx_lload dX8_spelled_93 rfl ?_
      refine mx_lstore (al' := [some (iv (116 : Int32)), some (iv (104 : Int32)), some (iv (101 : Int32)), some (iv (110 : Int32)), some (iv (0 : Int32)), some (iv (0 : Int32)), some (jv (((((((((((116 : Int32).toInt64 - (96 : Int64)) * (32 : Int64)) + (104 : Int32).toInt64) - (96 : Int64)) * (32 : Int64)) + (101 : Int32).toInt64) - (96 : Int64)) * (32 : Int64)) + (110 : Int32).toInt64) - (96 : Int64))), none]) dX8_spelled_95 (Nat.le_of_ble_eq_true rfl) rfl ?_
      refine mx_iload dX8_spelled_97 rfl ?_
      refine mx_if_le (tgt := 119) dX8_spelled_99 rfl (fun _ => ?_) (fun _ => absurd ‹_› (by decide))
      refine mx_lload dX8_spelled_119 rfl ?_
      refine mx_lretK rfl dX8_spelled_121 ?_
      refine mx_tj (show (((((((((((116 : Int32).toInt64 - (96 : Int64)) * (32 : Int64)) + (104 : Int32).toInt64) - (96 : Int64)) * (32 : Int64)) + (101 : Int32).toInt64) - (96 : Int64)) * (32 : Int64)) + (110 : Int32).toInt64) - (96 : Int64)) = (663726 : Int64) by decide) ?_
      refine mx_callV 8 (y' := mi_X8_isWord) (vs := [jv (663726 : Int64)]) (st := []) (al' := [some (rv a0), some (jv (663726 : Int64)), none]) cl_8 V_X8_isWord (Or.inl q2196) dX8_isThen_14 rfl rfl (Nat.le_of_ble_eq_true rfl) (Nat.le_of_ble_eq_true rfl) (ly8_k La0_h) ?_
      refine mx_aload_n dX8_isWord_0 rfl rfl ?_
      refine mx_get 8 50 (ref := "PrairiePoolModel") cl_8 (Nat.le_of_ble_eq_true rfl) (Or.inl q1677) (Or.inl rfl) dX8_isWord_1 (fv_8_50 _ _) (ly8_k La0_h) ?_
      refine mx_iconst dX8_isWord_4 ic_1 ?_
      refine mx_icmp_ne (tgt := 21) dX8_isWord_5 rfl (fun q_ => absurd c1 q_) (fun _ => ?_)
      refine mx_aload_n dX8_isWord_8 rfl rfl ?_
      refine mx_get 8 55 (ref := "PrairiePoolModel") cl_8 (Nat.le_of_ble_eq_true rfl) (Or.inl q1682) (Or.inl rfl) dX8_isWord_9 (fv_8_55 _ _) (ly8_k La0_h) ?_
      refine mx_lload_n dX8_isWord_12 rfl rfl ?_
      refine mx_lif_ne (tgt := 21) dX8_isWord_13 dX8_isWord_14 rfl (fun c3 => ?_) (fun c3 => ?_)
      · have H := H.1 c3
        refine mx_iconst dX8_isWord_21 ic_0 ?_
        refine mx_zretK rfl dX8_isWord_22 (Or.inl rfl) ?_
        refine mx_zretK rfl dX8_isThen_17 (Or.inl rfl) ?_
        refine mx_if_ne (tgt := 56) dX8_isKept_11 rfl (fun _ => absurd ‹_› (by decide)) (fun _ => ?_)
        refine mx_aload_n dX8_isKept_14 rfl rfl ?_
        refine mx_callV 8 (y' := mi_X8_isElse) (vs := []) (st := []) (al' := [some (rv a0)]) cl_8 V_X8_isElse (Or.inl q2215) dX8_isKept_15 rfl rfl (Nat.le_of_ble_eq_true rfl) (Nat.le_of_ble_eq_true rfl) (ly8_k La0_h) ?_
        refine mx_aload_n dX8_isElse_0 rfl rfl ?_
        refine mx_bipush dX8_isElse_1 ib_101 ?_
        refine mx_bipush dX8_isElse_3 ib_108 ?_
        refine mx_bipush dX8_isElse_5 ib_115 ?_
        refine mx_bipush dX8_isElse_7 ib_101 ?_
        refine mx_iconst dX8_isElse_9 ic_0 ?_
        refine mx_iconst dX8_isElse_10 ic_0 ?_
        refine mx_callS (y' := mi_X8_spelled) (vs := [iv (101 : Int32), iv (108 : Int32), iv (115 : Int32), iv (101 : Int32), iv (0 : Int32), iv (0 : Int32)]) (st := [rv a0]) (al' := [some (iv (101 : Int32)), some (iv (108 : Int32)), some (iv (115 : Int32)), some (iv (101 : Int32)), some (iv (0 : Int32)), some (iv (0 : Int32)), none, none]) S_X8_spelled q2075 dX8_isElse_11 rfl rfl (Nat.le_of_ble_eq_true rfl) (Nat.le_of_ble_eq_true rfl) ?_
        refine mx_iload_n dX8_spelled_0 rfl rfl ?_
        refine mx_i2l dX8_spelled_1 ?_
        refine mx_ldc2 q2078 dX8_spelled_2 ?_
        refine mx_lsub dX8_spelled_5 ?_
        refine mx_lstore (al' := [some (iv (101 : Int32)), some (iv (108 : Int32)), some (iv (115 : Int32)), some (iv (101 : Int32)), some (iv (0 : Int32)), some (iv (0 : Int32)), some (jv ((101 : Int32).toInt64 - (96 : Int64))), none]) dX8_spelled_6 (Nat.le_of_ble_eq_true rfl) rfl ?_
        refine mx_lload dX8_spelled_8 rfl ?_
        refine mx_ldc2 q2079 dX8_spelled_10 ?_
        refine mx_lmul dX8_spelled_13 ?_
        refine mx_iload_n dX8_spelled_14 rfl rfl ?_
        refine mx_i2l dX8_spelled_15 ?_
        refine mx_ladd dX8_spelled_16 ?_
        refine mx_ldc2 q2078 dX8_spelled_17 ?_
        refine mx_lsub dX8_spelled_20 ?_
        refine mx_lstore (al' := [some (iv (101 : Int32)), some (iv (108 : Int32)), some (iv (115 : Int32)), some (iv (101 : Int32)), some (iv (0 : Int32)), some (iv (0 : Int32)), some (jv (((((101 : Int32).toInt64 - (96 : Int64)) * (32 : Int64)) + (108 : Int32).toInt64) - (96 : Int64))), none]) dX8_spelled_21 (Nat.le_of_ble_eq_true rfl) rfl ?_
        refine mx_iload_n dX8_spelled_23 rfl rfl ?_
        refine mx_if_le (tgt := 43) dX8_spelled_24 rfl (fun _ => absurd ‹_› (by decide)) (fun _ => ?_)
        refine mx_lload dX8_spelled_27 rfl ?_
        refine mx_ldc2 q2079 dX8_spelled_29 ?_
        refine mx_lmul dX8_spelled_32 ?_
        refine mx_iload_n dX8_spelled_33 rfl rfl ?_
        refine mx_i2l dX8_spelled_34 ?_
        refine mx_ladd dX8_spelled_35 ?_
        refine mx_ldc2 q2078 dX8_spelled_36 ?_
        refine mx_lsub dX8_spelled_39 ?_
        refine mx_goto (tgt := 45) dX8_spelled_40 rfl ?_
        refine mx_lstore (al' := [some (iv (101 : Int32)), some (iv (108 : Int32)), some (iv (115 : Int32)), some (iv (101 : Int32)), some (iv (0 : Int32)), some (iv (0 : Int32)), some (jv ((((((((101 : Int32).toInt64 - (96 : Int64)) * (32 : Int64)) + (108 : Int32).toInt64) - (96 : Int64)) * (32 : Int64)) + (115 : Int32).toInt64) - (96 : Int64))), none]) dX8_spelled_45 (Nat.le_of_ble_eq_true rfl) rfl ?_
        refine mx_iload_n dX8_spelled_47 rfl rfl ?_
        refine mx_if_le (tgt := 67) dX8_spelled_48 rfl (fun _ => absurd ‹_› (by decide)) (fun _ => ?_)
        refine mx_lload dX8_spelled_51 rfl ?_
        refine mx_ldc2 q2079 dX8_spelled_53 ?_
        refine mx_lmul dX8_spelled_56 ?_
        refine mx_iload_n dX8_spelled_57 rfl rfl ?_
        refine mx_i2l dX8_spelled_58 ?_
        refine mx_ladd dX8_spelled_59 ?_
        refine mx_ldc2 q2078 dX8_spelled_60 ?_
        refine mx_lsub dX8_spelled_63 ?_
        refine mx_goto (tgt := 69) dX8_spelled_64 rfl ?_
        refine mx_lstore (al' := [some (iv (101 : Int32)), some (iv (108 : Int32)), some (iv (115 : Int32)), some (iv (101 : Int32)), some (iv (0 : Int32)), some (iv (0 : Int32)), some (jv (((((((((((101 : Int32).toInt64 - (96 : Int64)) * (32 : Int64)) + (108 : Int32).toInt64) - (96 : Int64)) * (32 : Int64)) + (115 : Int32).toInt64) - (96 : Int64)) * (32 : Int64)) + (101 : Int32).toInt64) - (96 : Int64))), none]) dX8_spelled_69 (Nat.le_of_ble_eq_true rfl) rfl ?_
        refine mx_iload dX8_spelled_71 rfl ?_
        refine mx_if_le (tgt := 93) dX8_spelled_73 rfl (fun _ => ?_) (fun _ => absurd ‹_› (by decide))
        refine mx_lload dX8_spelled_93 rfl ?_
        refine mx_lstore (al' := [some (iv (101 : Int32)), some (iv (108 : Int32)), some (iv (115 : Int32)), some (iv (101 : Int32)), some (iv (0 : Int32)), some (iv (0 : Int32)), some (jv (((((((((((101 : Int32).toInt64 - (96 : Int64)) * (32 : Int64)) + (108 : Int32).toInt64) - (96 : Int64)) * (32 : Int64)) + (115 : Int32).toInt64) - (96 : Int64)) * (32 : Int64)) + (101 : Int32).toInt64) - (96 : Int64))), none]) dX8_spelled_95 (Nat.le_of_ble_eq_true rfl) rfl ?_
        refine mx_iload dX8_spelled_97 rfl ?_
        refine mx_if_le (tgt := 119) dX8_spelled_99 rfl (fun _ => ?_) (fun _ => absurd ‹_› (by decide))
        refine mx_lload dX8_spelled_119 rfl ?_
        refine mx_lretK rfl dX8_spelled_121 ?_
        refine mx_tj (show (((((((((((101 : Int32).toInt64 - (96 : Int64)) * (32 : Int64)) + (108 : Int32).toInt64) - (96 : Int64)) * (32 : Int64)) + (115 : Int32).toInt64) - (96 : Int64)) * (32 : Int64)) + (101 : Int32).toInt64) - (96 : Int64)) = (176741 : Int64) by decide) ?_
        refine mx_callV 8 (y' := mi_X8_isWord) (vs := [jv (176741 : Int64)]) (st := []) (al' := [some (rv a0), some (jv (176741 : Int64)), none]) cl_8 V_X8_isWord (Or.inl q2196) dX8_isElse_14 rfl rfl (Nat.le_of_ble_eq_true rfl) (Nat.le_of_ble_eq_true rfl) (ly8_k La0_h) ?_
        refine mx_aload_n dX8_isWord_0 rfl rfl ?_
        refine mx_get 8 50 (ref := "PrairiePoolModel") cl_8 (Nat.le_of_ble_eq_true rfl) (Or.inl q1677) (Or.inl rfl) dX8_isWord_1 (fv_8_50 _ _) (ly8_k La0_h) ?_
        refine mx_iconst dX8_isWord_4 ic_1 ?_
        refine mx_icmp_ne (tgt := 21) dX8_isWord_5 rfl (fun q_ => absurd c1 q_) (fun _ => ?_)
        refine mx_aload_n dX8_isWord_8 rfl rfl ?_
        refine mx_get 8 55 (ref := "PrairiePoolModel") cl_8 (Nat.le_of_ble_eq_true rfl) (Or.inl q1682) (Or.inl rfl) dX8_isWord_9 (fv_8_55 _ _) (ly8_k La0_h) ?_
        refine mx_lload_n dX8_isWord_12 rfl rfl ?_
        refine mx_lif_ne (tgt := 21) dX8_isWord_13 dX8_isWord_14 rfl (fun c4 => ?_) (fun c4 => ?_)
        · have H := H.1 c4
          refine mx_iconst dX8_isWord_21 ic_0 ?_
          refine mx_zretK rfl dX8_isWord_22 (Or.inl rfl) ?_
          refine mx_zretK rfl dX8_isElse_17 (Or.inl rfl) ?_
          refine mx_if_ne (tgt := 56) dX8_isKept_18 rfl (fun _ => absurd ‹_› (by decide)) (fun _ => ?_)
          refine mx_aload_n dX8_isKept_21 rfl rfl ?_
          refine mx_callV 8 (y' := mi_X8_isAnd) (vs := []) (st := []) (al' := [some (rv a0)]) cl_8 V_X8_isAnd (Or.inl q2219) dX8_isKept_22 rfl rfl (Nat.le_of_ble_eq_true rfl) (Nat.le_of_ble_eq_true rfl) (ly8_k La0_h) ?_
          refine mx_aload_n dX8_isAnd_0 rfl rfl ?_
          refine mx_bipush dX8_isAnd_1 ib_97 ?_
          refine mx_bipush dX8_isAnd_3 ib_110 ?_
          refine mx_bipush dX8_isAnd_5 ib_100 ?_
          refine mx_iconst dX8_isAnd_7 ic_0 ?_
          refine mx_iconst dX8_isAnd_8 ic_0 ?_
          refine mx_iconst dX8_isAnd_9 ic_0 ?_
          refine mx_callS (y' := mi_X8_spelled) (vs := [iv (97 : Int32), iv (110 : Int32), iv (100 : Int32), iv (0 : Int32), iv (0 : Int32), iv (0 : Int32)]) (st := [rv a0]) (al' := [some (iv (97 : Int32)), some (iv (110 : Int32)), some (iv (100 : Int32)), some (iv (0 : Int32)), some (iv (0 : Int32)), some (iv (0 : Int32)), none, none]) S_X8_spelled q2075 dX8_isAnd_10 rfl rfl (Nat.le_of_ble_eq_true rfl) (Nat.le_of_ble_eq_true rfl) ?_
          refine mx_iload_n dX8_spelled_0 rfl rfl ?_
          refine mx_i2l dX8_spelled_1 ?_
          refine mx_ldc2 q2078 dX8_spelled_2 ?_
          refine mx_lsub dX8_spelled_5 ?_
          refine mx_lstore (al' := [some (iv (97 : Int32)), some (iv (110 : Int32)), some (iv (100 : Int32)), some (iv (0 : Int32)), some (iv (0 : Int32)), some (iv (0 : Int32)), some (jv ((97 : Int32).toInt64 - (96 : Int64))), none]) dX8_spelled_6 (Nat.le_of_ble_eq_true rfl) rfl ?_
          refine mx_lload dX8_spelled_8 rfl ?_
          refine mx_ldc2 q2079 dX8_spelled_10 ?_
          refine mx_lmul dX8_spelled_13 ?_
          refine mx_iload_n dX8_spelled_14 rfl rfl ?_
          refine mx_i2l dX8_spelled_15 ?_
          refine mx_ladd dX8_spelled_16 ?_
          refine mx_ldc2 q2078 dX8_spelled_17 ?_
          refine mx_lsub dX8_spelled_20 ?_
          refine mx_lstore (al' := [some (iv (97 : Int32)), some (iv (110 : Int32)), some (iv (100 : Int32)), some (iv (0 : Int32)), some (iv (0 : Int32)), some (iv (0 : Int32)), some (jv (((((97 : Int32).toInt64 - (96 : Int64)) * (32 : Int64)) + (110 : Int32).toInt64) - (96 : Int64))), none]) dX8_spelled_21 (Nat.le_of_ble_eq_true rfl) rfl ?_
          refine mx_iload_n dX8_spelled_23 rfl rfl ?_
          refine mx_if_le (tgt := 43) dX8_spelled_24 rfl (fun _ => absurd ‹_› (by decide)) (fun _ => ?_)
          refine mx_lload dX8_spelled_27 rfl ?_
          refine mx_ldc2 q2079 dX8_spelled_29 ?_
          refine mx_lmul dX8_spelled_32 ?_
          refine mx_iload_n dX8_spelled_33 rfl rfl ?_
          refine mx_i2l dX8_spelled_34 ?_
          refine mx_ladd dX8_spelled_35 ?_
          refine mx_ldc2 q2078 dX8_spelled_36 ?_
          refine mx_lsub dX8_spelled_39 ?_
          refine mx_goto (tgt := 45) dX8_spelled_40 rfl ?_
          refine mx_lstore (al' := [some (iv (97 : Int32)), some (iv (110 : Int32)), some (iv (100 : Int32)), some (iv (0 : Int32)), some (iv (0 : Int32)), some (iv (0 : Int32)), some (jv ((((((((97 : Int32).toInt64 - (96 : Int64)) * (32 : Int64)) + (110 : Int32).toInt64) - (96 : Int64)) * (32 : Int64)) + (100 : Int32).toInt64) - (96 : Int64))), none]) dX8_spelled_45 (Nat.le_of_ble_eq_true rfl) rfl ?_
          refine mx_iload_n dX8_spelled_47 rfl rfl ?_
          refine mx_if_le (tgt := 67) dX8_spelled_48 rfl (fun _ => ?_) (fun _ => absurd ‹_› (by decide))
          refine mx_lload dX8_spelled_67 rfl ?_
          refine mx_lstore (al' := [some (iv (97 : Int32)), some (iv (110 : Int32)), some (iv (100 : Int32)), some (iv (0 : Int32)), some (iv (0 : Int32)), some (iv (0 : Int32)), some (jv ((((((((97 : Int32).toInt64 - (96 : Int64)) * (32 : Int64)) + (110 : Int32).toInt64) - (96 : Int64)) * (32 : Int64)) + (100 : Int32).toInt64) - (96 : Int64))), none]) dX8_spelled_69 (Nat.le_of_ble_eq_true rfl) rfl ?_
          refine mx_iload dX8_spelled_71 rfl ?_
          refine mx_if_le (tgt := 93) dX8_spelled_73 rfl (fun _ => ?_) (fun _ => absurd ‹_› (by decide))
          refine mx_lload dX8_spelled_93 rfl ?_
          refine mx_lstore (al' := [some (iv (97 : Int32)), some (iv (110 : Int32)), some (iv (100 : Int32)), some (iv (0 : Int32)), some (iv (0 : Int32)), some (iv (0 : Int32)), some (jv ((((((((97 : Int32).toInt64 - (96 : Int64)) * (32 : Int64)) + (110 : Int32).toInt64) - (96 : Int64)) * (32 : Int64)) + (100 : Int32).toInt64) - (96 : Int64))), none]) dX8_spelled_95 (Nat.le_of_ble_eq_true rfl) rfl ?_
          refine mx_iload dX8_spelled_97 rfl ?_
          refine mx_if_le (tgt := 119) dX8_spelled_99 rfl (fun _ => ?_) (fun _ => absurd ‹_› (by decide))
          refine mx_lload dX8_spelled_119 rfl ?_
          refine mx_lretK rfl dX8_spelled_121 ?_
          refine mx_tj (show ((((((((97 : Int32).toInt64 - (96 : Int64)) * (32 : Int64)) + (110 : Int32).toInt64) - (96 : Int64)) * (32 : Int64)) + (100 : Int32).toInt64) - (96 : Int64)) = (1476 : Int64) by decide) ?_
          refine mx_callV 8 (y' := mi_X8_isWord) (vs := [jv (1476 : Int64)]) (st := []) (al' := [some (rv a0), some (jv (1476 : Int64)), none]) cl_8 V_X8_isWord (Or.inl q2196) dX8_isAnd_13 rfl rfl (Nat.le_of_ble_eq_true rfl) (Nat.le_of_ble_eq_true rfl) (ly8_k La0_h) ?_
          refine mx_aload_n dX8_isWord_0 rfl rfl ?_
          refine mx_get 8 50 (ref := "PrairiePoolModel") cl_8 (Nat.le_of_ble_eq_true rfl) (Or.inl q1677) (Or.inl rfl) dX8_isWord_1 (fv_8_50 _ _) (ly8_k La0_h) ?_
          refine mx_iconst dX8_isWord_4 ic_1 ?_
          refine mx_icmp_ne (tgt := 21) dX8_isWord_5 rfl (fun q_ => absurd c1 q_) (fun _ => ?_)
          refine mx_aload_n dX8_isWord_8 rfl rfl ?_
          refine mx_get 8 55 (ref := "PrairiePoolModel") cl_8 (Nat.le_of_ble_eq_true rfl) (Or.inl q1682) (Or.inl rfl) dX8_isWord_9 (fv_8_55 _ _) (ly8_k La0_h) ?_
          refine mx_lload_n dX8_isWord_12 rfl rfl ?_
          refine mx_lif_ne (tgt := 21) dX8_isWord_13 dX8_isWord_14 rfl (fun c5 => ?_) (fun c5 => ?_)
          · have H := H.1 c5
            refine mx_iconst dX8_isWord_21 ic_0 ?_
            refine mx_zretK rfl dX8_isWord_22 (Or.inl rfl) ?_
            refine mx_zretK rfl dX8_isAnd_16 (Or.inl rfl) ?_
            refine mx_if_ne (tgt := 56) dX8_isKept_25 rfl (fun _ => absurd ‹_› (by decide)) (fun _ => ?_)
            refine mx_aload_n dX8_isKept_28 rfl rfl ?_
            refine mx_callV 8 (y' := mi_X8_isOr) (vs := []) (st := []) (al' := [some (rv a0)]) cl_8 V_X8_isOr (Or.inl q2223) dX8_isKept_29 rfl rfl (Nat.le_of_ble_eq_true rfl) (Nat.le_of_ble_eq_true rfl) (ly8_k La0_h) ?_
            refine mx_aload_n dX8_isOr_0 rfl rfl ?_
            refine mx_bipush dX8_isOr_1 ib_111 ?_
            refine mx_bipush dX8_isOr_3 ib_114 ?_
            refine mx_iconst dX8_isOr_5 ic_0 ?_
            refine mx_iconst dX8_isOr_6 ic_0 ?_
            refine mx_iconst dX8_isOr_7 ic_0 ?_
            refine mx_iconst dX8_isOr_8 ic_0 ?_
            refine mx_callS (y' := mi_X8_spelled) (vs := [iv (111 : Int32), iv (114 : Int32), iv (0 : Int32), iv (0 : Int32), iv (0 : Int32), iv (0 : Int32)]) (st := [rv a0]) (al' := [some (iv (111 : Int32)), some (iv (114 : Int32)), some (iv (0 : Int32)), some (iv (0 : Int32)), some (iv (0 : Int32)), some (iv (0 : Int32)), none, none]) S_X8_spelled q2075 dX8_isOr_9 rfl rfl (Nat.le_of_ble_eq_true rfl) (Nat.le_of_ble_eq_true rfl) ?_
            refine mx_iload_n dX8_spelled_0 rfl rfl ?_
            refine mx_i2l dX8_spelled_1 ?_
            refine mx_ldc2 q2078 dX8_spelled_2 ?_
            refine mx_lsub dX8_spelled_5 ?_
            refine mx_lstore (al' := [some (iv (111 : Int32)), some (iv (114 : Int32)), some (iv (0 : Int32)), some (iv (0 : Int32)), some (iv (0 : Int32)), some (iv (0 : Int32)), some (jv ((111 : Int32).toInt64 - (96 : Int64))), none]) dX8_spelled_6 (Nat.le_of_ble_eq_true rfl) rfl ?_
            refine mx_lload dX8_spelled_8 rfl ?_
            refine mx_ldc2 q2079 dX8_spelled_10 ?_
            refine mx_lmul dX8_spelled_13 ?_
            refine mx_iload_n dX8_spelled_14 rfl rfl ?_
            refine mx_i2l dX8_spelled_15 ?_
            refine mx_ladd dX8_spelled_16 ?_
            refine mx_ldc2 q2078 dX8_spelled_17 ?_
            refine mx_lsub dX8_spelled_20 ?_
            refine mx_lstore (al' := [some (iv (111 : Int32)), some (iv (114 : Int32)), some (iv (0 : Int32)), some (iv (0 : Int32)), some (iv (0 : Int32)), some (iv (0 : Int32)), some (jv (((((111 : Int32).toInt64 - (96 : Int64)) * (32 : Int64)) + (114 : Int32).toInt64) - (96 : Int64))), none]) dX8_spelled_21 (Nat.le_of_ble_eq_true rfl) rfl ?_
            refine mx_iload_n dX8_spelled_23 rfl rfl ?_
            refine mx_if_le (tgt := 43) dX8_spelled_24 rfl (fun _ => ?_) (fun _ => absurd ‹_› (by decide))
            refine mx_lload dX8_spelled_43 rfl ?_
            refine mx_lstore (al' := [some (iv (111 : Int32)), some (iv (114 : Int32)), some (iv (0 : Int32)), some (iv (0 : Int32)), some (iv (0 : Int32)), some (iv (0 : Int32)), some (jv (((((111 : Int32).toInt64 - (96 : Int64)) * (32 : Int64)) + (114 : Int32).toInt64) - (96 : Int64))), none]) dX8_spelled_45 (Nat.le_of_ble_eq_true rfl) rfl ?_
            refine mx_iload_n dX8_spelled_47 rfl rfl ?_
            refine mx_if_le (tgt := 67) dX8_spelled_48 rfl (fun _ => ?_) (fun _ => absurd ‹_› (by decide))
            refine mx_lload dX8_spelled_67 rfl ?_
            refine mx_lstore (al' := [some (iv (111 : Int32)), some (iv (114 : Int32)), some (iv (0 : Int32)), some (iv (0 : Int32)), some (iv (0 : Int32)), some (iv (0 : Int32)), some (jv (((((111 : Int32).toInt64 - (96 : Int64)) * (32 : Int64)) + (114 : Int32).toInt64) - (96 : Int64))), none]) dX8_spelled_69 (Nat.le_of_ble_eq_true rfl) rfl ?_
            refine mx_iload dX8_spelled_71 rfl ?_
            refine mx_if_le (tgt := 93) dX8_spelled_73 rfl (fun _ => ?_) (fun _ => absurd ‹_› (by decide))
            refine mx_lload dX8_spelled_93 rfl ?_
            refine mx_lstore (al' := [some (iv (111 : Int32)), some (iv (114 : Int32)), some (iv (0 : Int32)), some (iv (0 : Int32)), some (iv (0 : Int32)), some (iv (0 : Int32)), some (jv (((((111 : Int32).toInt64 - (96 : Int64)) * (32 : Int64)) + (114 : Int32).toInt64) - (96 : Int64))), none]) dX8_spelled_95 (Nat.le_of_ble_eq_true rfl) rfl ?_
            refine mx_iload dX8_spelled_97 rfl ?_
            refine mx_if_le (tgt := 119) dX8_spelled_99 rfl (fun _ => ?_) (fun _ => absurd ‹_› (by decide))
            refine mx_lload dX8_spelled_119 rfl ?_
            refine mx_lretK rfl dX8_spelled_121 ?_
            refine mx_tj (show (((((111 : Int32).toInt64 - (96 : Int64)) * (32 : Int64)) + (114 : Int32).toInt64) - (96 : Int64)) = (498 : Int64) by decide) ?_
            refine mx_callV 8 (y' := mi_X8_isWord) (vs := [jv (498 : Int64)]) (st := []) (al' := [some (rv a0), some (jv (498 : Int64)), none]) cl_8 V_X8_isWord (Or.inl q2196) dX8_isOr_12 rfl rfl (Nat.le_of_ble_eq_true rfl) (Nat.le_of_ble_eq_true rfl) (ly8_k La0_h) ?_
            refine mx_aload_n dX8_isWord_0 rfl rfl ?_
            refine mx_get 8 50 (ref := "PrairiePoolModel") cl_8 (Nat.le_of_ble_eq_true rfl) (Or.inl q1677) (Or.inl rfl) dX8_isWord_1 (fv_8_50 _ _) (ly8_k La0_h) ?_
            refine mx_iconst dX8_isWord_4 ic_1 ?_
            refine mx_icmp_ne (tgt := 21) dX8_isWord_5 rfl (fun q_ => absurd c1 q_) (fun _ => ?_)
            refine mx_aload_n dX8_isWord_8 rfl rfl ?_
            refine mx_get 8 55 (ref := "PrairiePoolModel") cl_8 (Nat.le_of_ble_eq_true rfl) (Or.inl q1682) (Or.inl rfl) dX8_isWord_9 (fv_8_55 _ _) (ly8_k La0_h) ?_
            refine mx_lload_n dX8_isWord_12 rfl rfl ?_
            refine mx_lif_ne (tgt := 21) dX8_isWord_13 dX8_isWord_14 rfl (fun c6 => ?_) (fun c6 => ?_)
            · have H := H.1 c6
              refine mx_iconst dX8_isWord_21 ic_0 ?_
              refine mx_zretK rfl dX8_isWord_22 (Or.inl rfl) ?_
              refine mx_zretK rfl dX8_isOr_15 (Or.inl rfl) ?_
              refine mx_if_ne (tgt := 56) dX8_isKept_32 rfl (fun _ => absurd ‹_› (by decide)) (fun _ => ?_)
              refine mx_aload_n dX8_isKept_35 rfl rfl ?_
              refine mx_callV 8 (y' := mi_X8_isNot) (vs := []) (st := []) (al' := [some (rv a0)]) cl_8 V_X8_isNot (Or.inl q2227) dX8_isKept_36 rfl rfl (Nat.le_of_ble_eq_true rfl) (Nat.le_of_ble_eq_true rfl) (ly8_k La0_h) ?_
              refine mx_aload_n dX8_isNot_0 rfl rfl ?_
              refine mx_bipush dX8_isNot_1 ib_110 ?_
              refine mx_bipush dX8_isNot_3 ib_111 ?_
              refine mx_bipush dX8_isNot_5 ib_116 ?_
              refine mx_iconst dX8_isNot_7 ic_0 ?_
              refine mx_iconst dX8_isNot_8 ic_0 ?_
              refine mx_iconst dX8_isNot_9 ic_0 ?_
              refine mx_callS (y' := mi_X8_spelled) (vs := [iv (110 : Int32), iv (111 : Int32), iv (116 : Int32), iv (0 : Int32), iv (0 : Int32), iv (0 : Int32)]) (st := [rv a0]) (al' := [some (iv (110 : Int32)), some (iv (111 : Int32)), some (iv (116 : Int32)), some (iv (0 : Int32)), some (iv (0 : Int32)), some (iv (0 : Int32)), none, none]) S_X8_spelled q2075 dX8_isNot_10 rfl rfl (Nat.le_of_ble_eq_true rfl) (Nat.le_of_ble_eq_true rfl) ?_
              refine mx_iload_n dX8_spelled_0 rfl rfl ?_
              refine mx_i2l dX8_spelled_1 ?_
              refine mx_ldc2 q2078 dX8_spelled_2 ?_
              refine mx_lsub dX8_spelled_5 ?_
              refine mx_lstore (al' := [some (iv (110 : Int32)), some (iv (111 : Int32)), some (iv (116 : Int32)), some (iv (0 : Int32)), some (iv (0 : Int32)), some (iv (0 : Int32)), some (jv ((110 : Int32).toInt64 - (96 : Int64))), none]) dX8_spelled_6 (Nat.le_of_ble_eq_true rfl) rfl ?_
              refine mx_lload dX8_spelled_8 rfl ?_
              refine mx_ldc2 q2079 dX8_spelled_10 ?_
              refine mx_lmul dX8_spelled_13 ?_
              refine mx_iload_n dX8_spelled_14 rfl rfl ?_
              refine mx_i2l dX8_spelled_15 ?_
              refine mx_ladd dX8_spelled_16 ?_
              refine mx_ldc2 q2078 dX8_spelled_17 ?_
              refine mx_lsub dX8_spelled_20 ?_
              refine mx_lstore (al' := [some (iv (110 : Int32)), some (iv (111 : Int32)), some (iv (116 : Int32)), some (iv (0 : Int32)), some (iv (0 : Int32)), some (iv (0 : Int32)), some (jv (((((110 : Int32).toInt64 - (96 : Int64)) * (32 : Int64)) + (111 : Int32).toInt64) - (96 : Int64))), none]) dX8_spelled_21 (Nat.le_of_ble_eq_true rfl) rfl ?_
              refine mx_iload_n dX8_spelled_23 rfl rfl ?_
              refine mx_if_le (tgt := 43) dX8_spelled_24 rfl (fun _ => absurd ‹_› (by decide)) (fun _ => ?_)
              refine mx_lload dX8_spelled_27 rfl ?_
              refine mx_ldc2 q2079 dX8_spelled_29 ?_
              refine mx_lmul dX8_spelled_32 ?_
              refine mx_iload_n dX8_spelled_33 rfl rfl ?_
              refine mx_i2l dX8_spelled_34 ?_
              refine mx_ladd dX8_spelled_35 ?_
              refine mx_ldc2 q2078 dX8_spelled_36 ?_
              refine mx_lsub dX8_spelled_39 ?_
              refine mx_goto (tgt := 45) dX8_spelled_40 rfl ?_
              refine mx_lstore (al' := [some (iv (110 : Int32)), some (iv (111 : Int32)), some (iv (116 : Int32)), some (iv (0 : Int32)), some (iv (0 : Int32)), some (iv (0 : Int32)), some (jv ((((((((110 : Int32).toInt64 - (96 : Int64)) * (32 : Int64)) + (111 : Int32).toInt64) - (96 : Int64)) * (32 : Int64)) + (116 : Int32).toInt64) - (96 : Int64))), none]) dX8_spelled_45 (Nat.le_of_ble_eq_true rfl) rfl ?_
              refine mx_iload_n dX8_spelled_47 rfl rfl ?_
              refine mx_if_le (tgt := 67) dX8_spelled_48 rfl (fun _ => ?_) (fun _ => absurd ‹_› (by decide))
              refine mx_lload dX8_spelled_67 rfl ?_
              refine mx_lstore (al' := [some (iv (110 : Int32)), some (iv (111 : Int32)), some (iv (116 : Int32)), some (iv (0 : Int32)), some (iv (0 : Int32)), some (iv (0 : Int32)), some (jv ((((((((110 : Int32).toInt64 - (96 : Int64)) * (32 : Int64)) + (111 : Int32).toInt64) - (96 : Int64)) * (32 : Int64)) + (116 : Int32).toInt64) - (96 : Int64))), none]) dX8_spelled_69 (Nat.le_of_ble_eq_true rfl) rfl ?_
              refine mx_iload dX8_spelled_71 rfl ?_
              refine mx_if_le (tgt := 93) dX8_spelled_73 rfl (fun _ => ?_) (fun _ => absurd ‹_› (by decide))
              refine mx_lload dX8_spelled_93 rfl ?_
              refine mx_lstore (al' := [some (iv (110 : Int32)), some (iv (111 : Int32)), some (iv (116 : Int32)), some (iv (0 : Int32)), some (iv (0 : Int32)), some (iv (0 : Int32)), some (jv ((((((((110 : Int32).toInt64 - (96 : Int64)) * (32 : Int64)) + (111 : Int32).toInt64) - (96 : Int64)) * (32 : Int64)) + (116 : Int32).toInt64) - (96 : Int64))), none]) dX8_spelled_95 (Nat.le_of_ble_eq_true rfl) rfl ?_
              refine mx_iload dX8_spelled_97 rfl ?_
              refine mx_if_le (tgt := 119) dX8_spelled_99 rfl (fun _ => ?_) (fun _ => absurd ‹_› (by decide))
              refine mx_lload dX8_spelled_119 rfl ?_
              refine mx_lretK rfl dX8_spelled_121 ?_
              refine mx_tj (show ((((((((110 : Int32).toInt64 - (96 : Int64)) * (32 : Int64)) + (111 : Int32).toInt64) - (96 : Int64)) * (32 : Int64)) + (116 : Int32).toInt64) - (96 : Int64)) = (14836 : Int64) by decide) ?_
              refine mx_callV 8 (y' := mi_X8_isWord) (vs := [jv (14836 : Int64)]) (st := []) (al' := [some (rv a0), some (jv (14836 : Int64)), none]) cl_8 V_X8_isWord (Or.inl q2196) dX8_isNot_13 rfl rfl (Nat.le_of_ble_eq_true rfl) (Nat.le_of_ble_eq_true rfl) (ly8_k La0_h) ?_
              refine mx_aload_n dX8_isWord_0 rfl rfl ?_
              refine mx_get 8 50 (ref := "PrairiePoolModel") cl_8 (Nat.le_of_ble_eq_true rfl) (Or.inl q1677) (Or.inl rfl) dX8_isWord_1 (fv_8_50 _ _) (ly8_k La0_h) ?_
              refine mx_iconst dX8_isWord_4 ic_1 ?_
              refine mx_icmp_ne (tgt := 21) dX8_isWord_5 rfl (fun q_ => absurd c1 q_) (fun _ => ?_)
              refine mx_aload_n dX8_isWord_8 rfl rfl ?_
              refine mx_get 8 55 (ref := "PrairiePoolModel") cl_8 (Nat.le_of_ble_eq_true rfl) (Or.inl q1682) (Or.inl rfl) dX8_isWord_9 (fv_8_55 _ _) (ly8_k La0_h) ?_
              refine mx_lload_n dX8_isWord_12 rfl rfl ?_
              refine mx_lif_ne (tgt := 21) dX8_isWord_13 dX8_isWord_14 rfl (fun c7 => ?_) (fun c7 => ?_)
              · have H := H.1 c7
                refine mx_iconst dX8_isWord_21 ic_0 ?_
                refine mx_zretK rfl dX8_isWord_22 (Or.inl rfl) ?_
                refine mx_zretK rfl dX8_isNot_16 (Or.inl rfl) ?_
                refine mx_if_ne (tgt := 56) dX8_isKept_39 rfl (fun _ => absurd ‹_› (by decide)) (fun _ => ?_)
                refine mx_aload_n dX8_isKept_42 rfl rfl ?_
                refine mx_callV 8 (y' := mi_X8_isLeast) (vs := []) (st := []) (al' := [some (rv a0)]) cl_8 V_X8_isLeast (Or.inl q2231) dX8_isKept_43 rfl rfl (Nat.le_of_ble_eq_true rfl) (Nat.le_of_ble_eq_true rfl) (ly8_k La0_h) ?_
                refine mx_aload_n dX8_isLeast_0 rfl rfl ?_
                refine mx_bipush dX8_isLeast_1 ib_108 ?_
                refine mx_bipush dX8_isLeast_3 ib_101 ?_
                refine mx_bipush dX8_isLeast_5 ib_97 ?_
                refine mx_bipush dX8_isLeast_7 ib_115 ?_
                refine mx_bipush dX8_isLeast_9 ib_116 ?_
                refine mx_iconst dX8_isLeast_11 ic_0 ?_
                refine mx_callS (y' := mi_X8_spelled) (vs := [iv (108 : Int32), iv (101 : Int32), iv (97 : Int32), iv (115 : Int32), iv (116 : Int32), iv (0 : Int32)]) (st := [rv a0]) (al' := [some (iv (108 : Int32)), some (iv (101 : Int32)), some (iv (97 : Int32)), some (iv (115 : Int32)), some (iv (116 : Int32)), some (iv (0 : Int32)), none, none]) S_X8_spelled q2075 dX8_isLeast_12 rfl rfl (Nat.le_of_ble_eq_true rfl) (Nat.le_of_ble_eq_true rfl) ?_
                refine mx_iload_n dX8_spelled_0 rfl rfl ?_
                refine mx_i2l dX8_spelled_1 ?_
                refine mx_ldc2 q2078 dX8_spelled_2 ?_
                refine mx_lsub dX8_spelled_5 ?_
                refine mx_lstore (al' := [some (iv (108 : Int32)), some (iv (101 : Int32)), some (iv (97 : Int32)), some (iv (115 : Int32)), some (iv (116 : Int32)), some (iv (0 : Int32)), some (jv ((108 : Int32).toInt64 - (96 : Int64))), none]) dX8_spelled_6 (Nat.le_of_ble_eq_true rfl) rfl ?_
                refine mx_lload dX8_spelled_8 rfl ?_
                refine mx_ldc2 q2079 dX8_spelled_10 ?_
                refine mx_lmul dX8_spelled_13 ?_
                refine mx_iload_n dX8_spelled_14 rfl rfl ?_
                refine mx_i2l dX8_spelled_15 ?_
                refine mx_ladd dX8_spelled_16 ?_
                refine mx_ldc2 q2078 dX8_spelled_17 ?_
                refine mx_lsub dX8_spelled_20 ?_
                refine mx_lstore (al' := [some (iv (108 : Int32)), some (iv (101 : Int32)), some (iv (97 : Int32)), some (iv (115 : Int32)), some (iv (116 : Int32)), some (iv (0 : Int32)), some (jv (((((108 : Int32).toInt64 - (96 : Int64)) * (32 : Int64)) + (101 : Int32).toInt64) - (96 : Int64))), none]) dX8_spelled_21 (Nat.le_of_ble_eq_true rfl) rfl ?_
                refine mx_iload_n dX8_spelled_23 rfl rfl ?_
                refine mx_if_le (tgt := 43) dX8_spelled_24 rfl (fun _ => absurd ‹_› (by decide)) (fun _ => ?_)
                refine mx_lload dX8_spelled_27 rfl ?_
                refine mx_ldc2 q2079 dX8_spelled_29 ?_
                refine mx_lmul dX8_spelled_32 ?_
                refine mx_iload_n dX8_spelled_33 rfl rfl ?_
                refine mx_i2l dX8_spelled_34 ?_
                refine mx_ladd dX8_spelled_35 ?_
                refine mx_ldc2 q2078 dX8_spelled_36 ?_
                refine mx_lsub dX8_spelled_39 ?_
                refine mx_goto (tgt := 45) dX8_spelled_40 rfl ?_
                refine mx_lstore (al' := [some (iv (108 : Int32)), some (iv (101 : Int32)), some (iv (97 : Int32)), some (iv (115 : Int32)), some (iv (116 : Int32)), some (iv (0 : Int32)), some (jv ((((((((108 : Int32).toInt64 - (96 : Int64)) * (32 : Int64)) + (101 : Int32).toInt64) - (96 : Int64)) * (32 : Int64)) + (97 : Int32).toInt64) - (96 : Int64))), none]) dX8_spelled_45 (Nat.le_of_ble_eq_true rfl) rfl ?_
                refine mx_iload_n dX8_spelled_47 rfl rfl ?_
                refine mx_if_le (tgt := 67) dX8_spelled_48 rfl (fun _ => absurd ‹_› (by decide)) (fun _ => ?_)
                refine mx_lload dX8_spelled_51 rfl ?_
                refine mx_ldc2 q2079 dX8_spelled_53 ?_
                refine mx_lmul dX8_spelled_56 ?_
                refine mx_iload_n dX8_spelled_57 rfl rfl ?_
                refine mx_i2l dX8_spelled_58 ?_
                refine mx_ladd dX8_spelled_59 ?_
                refine mx_ldc2 q2078 dX8_spelled_60 ?_
                refine mx_lsub dX8_spelled_63 ?_
                refine mx_goto (tgt := 69) dX8_spelled_64 rfl ?_
                refine mx_lstore (al' := [some (iv (108 : Int32)), some (iv (101 : Int32)), some (iv (97 : Int32)), some (iv (115 : Int32)), some (iv (116 : Int32)), some (iv (0 : Int32)), some (jv (((((((((((108 : Int32).toInt64 - (96 : Int64)) * (32 : Int64)) + (101 : Int32).toInt64) - (96 : Int64)) * (32 : Int64)) + (97 : Int32).toInt64) - (96 : Int64)) * (32 : Int64)) + (115 : Int32).toInt64) - (96 : Int64))), none]) dX8_spelled_69 (Nat.le_of_ble_eq_true rfl) rfl ?_
                refine mx_iload dX8_spelled_71 rfl ?_
                refine mx_if_le (tgt := 93) dX8_spelled_73 rfl (fun _ => absurd ‹_› (by decide)) (fun _ => ?_)
                refine mx_lload dX8_spelled_76 rfl ?_
                refine mx_ldc2 q2079 dX8_spelled_78 ?_
                refine mx_lmul dX8_spelled_81 ?_
                refine mx_iload dX8_spelled_82 rfl ?_
                refine mx_i2l dX8_spelled_84 ?_
                refine mx_ladd dX8_spelled_85 ?_
                refine mx_ldc2 q2078 dX8_spelled_86 ?_
                refine mx_lsub dX8_spelled_89 ?_
                refine mx_goto (tgt := 95) dX8_spelled_90 rfl ?_
                refine mx_lstore (al' := [some (iv (108 : Int32)), some (iv (101 : Int32)), some (iv (97 : Int32)), some (iv (115 : Int32)), some (iv (116 : Int32)), some (iv (0 : Int32)), some (jv ((((((((((((((108 : Int32).toInt64 - (96 : Int64)) * (32 : Int64)) + (101 : Int32).toInt64) - (96 : Int64)) * (32 : Int64)) + (97 : Int32).toInt64) - (96 : Int64)) * (32 : Int64)) + (115 : Int32).toInt64) - (96 : Int64)) * (32 : Int64)) + (116 : Int32).toInt64) - (96 : Int64))), none]) dX8_spelled_95 (Nat.le_of_ble_eq_true rfl) rfl ?_
                refine mx_iload dX8_spelled_97 rfl ?_
                refine mx_if_le (tgt := 119) dX8_spelled_99 rfl (fun _ => ?_) (fun _ => absurd ‹_› (by decide))
                refine mx_lload dX8_spelled_119 rfl ?_
                refine mx_lretK rfl dX8_spelled_121 ?_
                refine mx_tj (show ((((((((((((((108 : Int32).toInt64 - (96 : Int64)) * (32 : Int64)) + (101 : Int32).toInt64) - (96 : Int64)) * (32 : Int64)) + (97 : Int32).toInt64) - (96 : Int64)) * (32 : Int64)) + (115 : Int32).toInt64) - (96 : Int64)) * (32 : Int64)) + (116 : Int32).toInt64) - (96 : Int64)) = (12748404 : Int64) by decide) ?_
                refine mx_callV 8 (y' := mi_X8_isWord) (vs := [jv (12748404 : Int64)]) (st := []) (al' := [some (rv a0), some (jv (12748404 : Int64)), none]) cl_8 V_X8_isWord (Or.inl q2196) dX8_isLeast_15 rfl rfl (Nat.le_of_ble_eq_true rfl) (Nat.le_of_ble_eq_true rfl) (ly8_k La0_h) ?_
                refine mx_aload_n dX8_isWord_0 rfl rfl ?_
                refine mx_get 8 50 (ref := "PrairiePoolModel") cl_8 (Nat.le_of_ble_eq_true rfl) (Or.inl q1677) (Or.inl rfl) dX8_isWord_1 (fv_8_50 _ _) (ly8_k La0_h) ?_
                refine mx_iconst dX8_isWord_4 ic_1 ?_
                refine mx_icmp_ne (tgt := 21) dX8_isWord_5 rfl (fun q_ => absurd c1 q_) (fun _ => ?_)
                refine mx_aload_n dX8_isWord_8 rfl rfl ?_
                refine mx_get 8 55 (ref := "PrairiePoolModel") cl_8 (Nat.le_of_ble_eq_true rfl) (Or.inl q1682) (Or.inl rfl) dX8_isWord_9 (fv_8_55 _ _) (ly8_k La0_h) ?_
                refine mx_lload_n dX8_isWord_12 rfl rfl ?_
                refine mx_lif_ne (tgt := 21) dX8_isWord_13 dX8_isWord_14 rfl (fun c8 => ?_) (fun c8 => ?_)
                · have H := H.1 c8
                  refine mx_iconst dX8_isWord_21 ic_0 ?_
                  refine mx_zretK rfl dX8_isWord_22 (Or.inl rfl) ?_
                  refine mx_zretK rfl dX8_isLeast_18 (Or.inl rfl) ?_
                  refine mx_if_ne (tgt := 56) dX8_isKept_46 rfl (fun _ => absurd ‹_› (by decide)) (fun _ => ?_)
                  refine mx_aload_n dX8_isKept_49 rfl rfl ?_
                  refine mx_callV 8 (y' := mi_X8_isMost) (vs := []) (st := []) (al' := [some (rv a0)]) cl_8 V_X8_isMost (Or.inl q2235) dX8_isKept_50 rfl rfl (Nat.le_of_ble_eq_true rfl) (Nat.le_of_ble_eq_true rfl) (ly8_k La0_h) ?_
                  refine mx_aload_n dX8_isMost_0 rfl rfl ?_
                  refine mx_bipush dX8_isMost_1 ib_109 ?_
                  refine mx_bipush dX8_isMost_3 ib_111 ?_
                  refine mx_bipush dX8_isMost_5 ib_115 ?_
                  refine mx_bipush dX8_isMost_7 ib_116 ?_
                  refine mx_iconst dX8_isMost_9 ic_0 ?_
                  refine mx_iconst dX8_isMost_10 ic_0 ?_
                  refine mx_callS (y' := mi_X8_spelled) (vs := [iv (109 : Int32), iv (111 : Int32), iv (115 : Int32), iv (116 : Int32), iv (0 : Int32), iv (0 : Int32)]) (st := [rv a0]) (al' := [some (iv (109 : Int32)), some (iv (111 : Int32)), some (iv (115 : Int32)), some (iv (116 : Int32)), some (iv (0 : Int32)), some (iv (0 : Int32)), none, none]) S_X8_spelled q2075 dX8_isMost_11 rfl rfl (Nat.le_of_ble_eq_true rfl) (Nat.le_of_ble_eq_true rfl) ?_
                  refine mx_iload_n dX8_spelled_0 rfl rfl ?_
                  refine mx_i2l dX8_spelled_1 ?_
                  refine mx_ldc2 q2078 dX8_spelled_2 ?_
                  refine mx_lsub dX8_spelled_5 ?_
                  refine mx_lstore (al' := [some (iv (109 : Int32)), some (iv (111 : Int32)), some (iv (115 : Int32)), some (iv (116 : Int32)), some (iv (0 : Int32)), some (iv (0 : Int32)), some (jv ((109 : Int32).toInt64 - (96 : Int64))), none]) dX8_spelled_6 (Nat.le_of_ble_eq_true rfl) rfl ?_
                  refine mx_lload dX8_spelled_8 rfl ?_
                  refine mx_ldc2 q2079 dX8_spelled_10 ?_
                  refine mx_lmul dX8_spelled_13 ?_
                  refine mx_iload_n dX8_spelled_14 rfl rfl ?_
                  refine mx_i2l dX8_spelled_15 ?_
                  refine mx_ladd dX8_spelled_16 ?_
                  refine mx_ldc2 q2078 dX8_spelled_17 ?_
                  refine mx_lsub dX8_spelled_20 ?_
                  refine mx_lstore (al' := [some (iv (109 : Int32)), some (iv (111 : Int32)), some (iv (115 : Int32)), some (iv (116 : Int32)), some (iv (0 : Int32)), some (iv (0 : Int32)), some (jv (((((109 : Int32).toInt64 - (96 : Int64)) * (32 : Int64)) + (111 : Int32).toInt64) - (96 : Int64))), none]) dX8_spelled_21 (Nat.le_of_ble_eq_true rfl) rfl ?_
                  refine mx_iload_n dX8_spelled_23 rfl rfl ?_
                  refine mx_if_le (tgt := 43) dX8_spelled_24 rfl (fun _ => absurd ‹_› (by decide)) (fun _ => ?_)
                  refine mx_lload dX8_spelled_27 rfl ?_
                  refine mx_ldc2 q2079 dX8_spelled_29 ?_
                  refine mx_lmul dX8_spelled_32 ?_
                  refine mx_iload_n dX8_spelled_33 rfl rfl ?_
                  refine mx_i2l dX8_spelled_34 ?_
                  refine mx_ladd dX8_spelled_35 ?_
                  refine mx_ldc2 q2078 dX8_spelled_36 ?_
                  refine mx_lsub dX8_spelled_39 ?_
                  refine mx_goto (tgt := 45) dX8_spelled_40 rfl ?_
                  refine mx_lstore (al' := [some (iv (109 : Int32)), some (iv (111 : Int32)), some (iv (115 : Int32)), some (iv (116 : Int32)), some (iv (0 : Int32)), some (iv (0 : Int32)), some (jv ((((((((109 : Int32).toInt64 - (96 : Int64)) * (32 : Int64)) + (111 : Int32).toInt64) - (96 : Int64)) * (32 : Int64)) + (115 : Int32).toInt64) - (96 : Int64))), none]) dX8_spelled_45 (Nat.le_of_ble_eq_true rfl) rfl ?_
                  refine mx_iload_n dX8_spelled_47 rfl rfl ?_
                  refine mx_if_le (tgt := 67) dX8_spelled_48 rfl (fun _ => absurd ‹_› (by decide)) (fun _ => ?_)
                  refine mx_lload dX8_spelled_51 rfl ?_
                  refine mx_ldc2 q2079 dX8_spelled_53 ?_
                  refine mx_lmul dX8_spelled_56 ?_
                  refine mx_iload_n dX8_spelled_57 rfl rfl ?_
                  refine mx_i2l dX8_spelled_58 ?_
                  refine mx_ladd dX8_spelled_59 ?_
                  refine mx_ldc2 q2078 dX8_spelled_60 ?_
                  refine mx_lsub dX8_spelled_63 ?_
                  refine mx_goto (tgt := 69) dX8_spelled_64 rfl ?_
                  refine mx_lstore (al' := [some (iv (109 : Int32)), some (iv (111 : Int32)), some (iv (115 : Int32)), some (iv (116 : Int32)), some (iv (0 : Int32)), some (iv (0 : Int32)), some (jv (((((((((((109 : Int32).toInt64 - (96 : Int64)) * (32 : Int64)) + (111 : Int32).toInt64) - (96 : Int64)) * (32 : Int64)) + (115 : Int32).toInt64) - (96 : Int64)) * (32 : Int64)) + (116 : Int32).toInt64) - (96 : Int64))), none]) dX8_spelled_69 (Nat.le_of_ble_eq_true rfl) rfl ?_
                  refine mx_iload dX8_spelled_71 rfl ?_
                  refine mx_if_le (tgt := 93) dX8_spelled_73 rfl (fun _ => ?_) (fun _ => absurd ‹_› (by decide))
                  refine mx_lload dX8_spelled_93 rfl ?_
                  refine mx_lstore (al' := [some (iv (109 : Int32)), some (iv (111 : Int32)), some (iv (115 : Int32)), some (iv (116 : Int32)), some (iv (0 : Int32)), some (iv (0 : Int32)), some (jv (((((((((((109 : Int32).toInt64 - (96 : Int64)) * (32 : Int64)) + (111 : Int32).toInt64) - (96 : Int64)) * (32 : Int64)) + (115 : Int32).toInt64) - (96 : Int64)) * (32 : Int64)) + (116 : Int32).toInt64) - (96 : Int64))), none]) dX8_spelled_95 (Nat.le_of_ble_eq_true rfl) rfl ?_
                  refine mx_iload dX8_spelled_97 rfl ?_
                  refine mx_if_le (tgt := 119) dX8_spelled_99 rfl (fun _ => ?_) (fun _ => absurd ‹_› (by decide))
                  refine mx_lload dX8_spelled_119 rfl ?_
                  refine mx_lretK rfl dX8_spelled_121 ?_
                  refine mx_tj (show (((((((((((109 : Int32).toInt64 - (96 : Int64)) * (32 : Int64)) + (111 : Int32).toInt64) - (96 : Int64)) * (32 : Int64)) + (115 : Int32).toInt64) - (96 : Int64)) * (32 : Int64)) + (116 : Int32).toInt64) - (96 : Int64)) = (441972 : Int64) by decide) ?_
                  refine mx_callV 8 (y' := mi_X8_isWord) (vs := [jv (441972 : Int64)]) (st := []) (al' := [some (rv a0), some (jv (441972 : Int64)), none]) cl_8 V_X8_isWord (Or.inl q2196) dX8_isMost_14 rfl rfl (Nat.le_of_ble_eq_true rfl) (Nat.le_of_ble_eq_true rfl) (ly8_k La0_h) ?_
                  refine mx_aload_n dX8_isWord_0 rfl rfl ?_
                  refine mx_get 8 50 (ref := "PrairiePoolModel") cl_8 (Nat.le_of_ble_eq_true rfl) (Or.inl q1677) (Or.inl rfl) dX8_isWord_1 (fv_8_50 _ _) (ly8_k La0_h) ?_
                  refine mx_iconst dX8_isWord_4 ic_1 ?_
                  refine mx_icmp_ne (tgt := 21) dX8_isWord_5 rfl (fun q_ => absurd c1 q_) (fun _ => ?_)
                  refine mx_aload_n dX8_isWord_8 rfl rfl ?_
                  refine mx_get 8 55 (ref := "PrairiePoolModel") cl_8 (Nat.le_of_ble_eq_true rfl) (Or.inl q1682) (Or.inl rfl) dX8_isWord_9 (fv_8_55 _ _) (ly8_k La0_h) ?_
                  refine mx_lload_n dX8_isWord_12 rfl rfl ?_
                  refine mx_lif_ne (tgt := 21) dX8_isWord_13 dX8_isWord_14 rfl (fun c9 => ?_) (fun c9 => ?_)
                  · have H := H.1 c9
                    refine mx_iconst dX8_isWord_21 ic_0 ?_
                    refine mx_zretK rfl dX8_isWord_22 (Or.inl rfl) ?_
                    refine mx_zretK rfl dX8_isMost_17 (Or.inl rfl) ?_
                    refine mx_if_eq (tgt := 60) dX8_isKept_53 rfl (fun _ => ?_) (fun _ => absurd ‹_› (by decide))
                    refine mx_iconst dX8_isKept_60 ic_0 ?_
                    exact mx_zret rfl dX8_isKept_61 (Or.inl rfl) H
                  · have H := H.2 c9
                    refine mx_iconst dX8_isWord_17 ic_1 ?_
                    refine mx_goto (tgt := 22) dX8_isWord_18 rfl ?_
                    refine mx_zretK rfl dX8_isWord_22 (Or.inr rfl) ?_
                    refine mx_zretK rfl dX8_isMost_17 (Or.inr rfl) ?_
                    refine mx_if_eq (tgt := 60) dX8_isKept_53 rfl (fun _ => absurd ‹_› (by decide)) (fun _ => ?_)
                    refine mx_iconst dX8_isKept_56 ic_1 ?_
                    refine mx_goto (tgt := 61) dX8_isKept_57 rfl ?_
                    exact mx_zret rfl dX8_isKept_61 (Or.inr rfl) H
                · have H := H.2 c8
                  refine mx_iconst dX8_isWord_17 ic_1 ?_
                  refine mx_goto (tgt := 22) dX8_isWord_18 rfl ?_
                  refine mx_zretK rfl dX8_isWord_22 (Or.inr rfl) ?_
                  refine mx_zretK rfl dX8_isLeast_18 (Or.inr rfl) ?_
                  refine mx_if_ne (tgt := 56) dX8_isKept_46 rfl (fun _ => ?_) (fun _ => absurd ‹_› (by decide))
                  refine mx_iconst dX8_isKept_56 ic_1 ?_
                  refine mx_goto (tgt := 61) dX8_isKept_57 rfl ?_
                  exact mx_zret rfl dX8_isKept_61 (Or.inr rfl) H
              · have H := H.2 c7
                refine mx_iconst dX8_isWord_17 ic_1 ?_
                refine mx_goto (tgt := 22) dX8_isWord_18 rfl ?_
                refine mx_zretK rfl dX8_isWord_22 (Or.inr rfl) ?_
                refine mx_zretK rfl dX8_isNot_16 (Or.inr rfl) ?_
                refine mx_if_ne (tgt := 56) dX8_isKept_39 rfl (fun _ => ?_) (fun _ => absurd ‹_› (by decide))
                refine mx_iconst dX8_isKept_56 ic_1 ?_
                refine mx_goto (tgt := 61) dX8_isKept_57 rfl ?_
                exact mx_zret rfl dX8_isKept_61 (Or.inr rfl) H
            · have H := H.2 c6
              refine mx_iconst dX8_isWord_17 ic_1 ?_
              refine mx_goto (tgt := 22) dX8_isWord_18 rfl ?_
              refine mx_zretK rfl dX8_isWord_22 (Or.inr rfl) ?_
              refine mx_zretK rfl dX8_isOr_15 (Or.inr rfl) ?_
              refine mx_if_ne (tgt := 56) dX8_isKept_32 rfl (fun _ => ?_) (fun _ => absurd ‹_› (by decide))
              refine mx_iconst dX8_isKept_56 ic_1 ?_
              refine mx_goto (tgt := 61) dX8_isKept_57 rfl ?_
              exact mx_zret rfl dX8_isKept_61 (Or.inr rfl) H
          · have H := H.2 c5
            refine mx_iconst dX8_isWord_17 ic_1 ?_
            refine mx_goto (tgt := 22) dX8_isWord_18 rfl ?_
            refine mx_zretK rfl dX8_isWord_22 (Or.inr rfl) ?_
            refine mx_zretK rfl dX8_isAnd_16 (Or.inr rfl) ?_
            refine mx_if_ne (tgt := 56) dX8_isKept_25 rfl (fun _ => ?_) (fun _ => absurd ‹_› (by decide))
            refine mx_iconst dX8_isKept_56 ic_1 ?_
            refine mx_goto (tgt := 61) dX8_isKept_57 rfl ?_
            exact mx_zret rfl dX8_isKept_61 (Or.inr rfl) H
        · have H := H.2 c4
          refine mx_iconst dX8_isWord_17 ic_1 ?_
          refine mx_goto (tgt := 22) dX8_isWord_18 rfl ?_
          refine mx_zretK rfl dX8_isWord_22 (Or.inr rfl) ?_
          refine mx_zretK rfl dX8_isElse_17 (Or.inr rfl) ?_
          refine mx_if_ne (tgt := 56) dX8_isKept_18 rfl (fun _ => ?_) (fun _ => absurd ‹_› (by decide))
          refine mx_iconst dX8_isKept_56 ic_1 ?_
          refine mx_goto (tgt := 61) dX8_isKept_57 rfl ?_
          exact mx_zret rfl dX8_isKept_61 (Or.inr rfl) H
      · have H := H.2 c3
        refine mx_iconst dX8_isWord_17 ic_1 ?_
        refine mx_goto (tgt := 22) dX8_isWord_18 rfl ?_
        refine mx_zretK rfl dX8_isWord_22 (Or.inr rfl) ?_
        refine mx_zretK rfl dX8_isThen_17 (Or.inr rfl) ?_
        refine mx_if_ne (tgt := 56) dX8_isKept_11 rfl (fun _ => ?_) (fun _ => absurd ‹_› (by decide))
        refine mx_iconst dX8_isKept_56 ic_1 ?_
        refine mx_goto (tgt := 61) dX8_isKept_57 rfl ?_
        exact mx_zret rfl dX8_isKept_61 (Or.inr rfl) H
    · have H := H.2 c2
      refine mx_iconst dX8_isWord_17 ic_1 ?_
      refine mx_goto (tgt := 22) dX8_isWord_18 rfl ?_
      refine mx_zretK rfl dX8_isWord_22 (Or.inr rfl) ?_
      refine mx_zretK rfl dX8_isIf_15 (Or.inr rfl) ?_
      refine mx_if_ne (tgt := 56) dX8_isKept_4 rfl (fun _ => ?_) (fun _ => absurd ‹_› (by decide))
      refine mx_iconst dX8_isKept_56 ic_1 ?_
      refine mx_goto (tgt := 61) dX8_isKept_57 rfl ?_
      exact mx_zret rfl dX8_isKept_61 (Or.inr rfl) H

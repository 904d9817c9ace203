/-! what only computes -/
set_option maxRecDepth 100000
theorem dJ8_max_0 : decode mi_J8_max.2.1 0 = .ok (.lload_n 0, 1) := by decide +kernel
theorem dJ8_max_1 : decode mi_J8_max.2.1 1 = .ok (.lload_n 2, 1) := by decide +kernel
theorem dJ8_max_2 : decode mi_J8_max.2.1 2 = .ok (.lcmp, 1) := by decide +kernel
theorem dJ8_max_3 : decode mi_J8_max.2.1 3 = .ok (.ifCond .lt 7, 3) := by decide +kernel
theorem dJ8_max_6 : decode mi_J8_max.2.1 6 = .ok (.lload_n 0, 1) := by decide +kernel
theorem dJ8_max_7 : decode mi_J8_max.2.1 7 = .ok (.goto 4, 3) := by decide +kernel
theorem dJ8_max_10 : decode mi_J8_max.2.1 10 = .ok (.lload_n 2, 1) := by decide +kernel
theorem dJ8_max_11 : decode mi_J8_max.2.1 11 = .ok (.lreturn, 1) := by decide +kernel
theorem v_J8_max {G : ma_G} {d : Nat} {x0 : Int64} {x2 : Int64} {h : ah_T} {Q : Option ma_V → ah_T → Prop} {E : Nat → ah_T → Prop}  (H : (x0 < x2 → Q (some (jv x2)) h) ∧ (¬ x0 < x2 → Q (some (jv x0)) h)) : MX G mi_J8_max d 0 [some (jv x0), none, some (jv x2), none] [] h Q E := by
  refine mx_lload_n dJ8_max_0 rfl rfl ?_
  refine mx_lload_n dJ8_max_1 rfl rfl ?_
  refine mx_lif_lt (tgt := 10) dJ8_max_2 dJ8_max_3 rfl (fun c1 => ?_) (fun c1 => ?_)
  · have H := H.1 c1
    refine mx_lload_n dJ8_max_10 rfl rfl ?_
    exact mx_lret rfl dJ8_max_11 H
  · have H := H.2 c1
    refine mx_lload_n dJ8_max_6 rfl rfl ?_
    refine mx_goto (tgt := 11) dJ8_max_7 rfl ?_
    exact mx_lret rfl dJ8_max_11 H
theorem dJ8_min_0 : decode mi_J8_min.2.1 0 = .ok (.lload_n 0, 1) := by decide +kernel
theorem dJ8_min_1 : decode mi_J8_min.2.1 1 = .ok (.lload_n 2, 1) := by decide +kernel
theorem dJ8_min_2 : decode mi_J8_min.2.1 2 = .ok (.lcmp, 1) := by decide +kernel
theorem dJ8_min_3 : decode mi_J8_min.2.1 3 = .ok (.ifCond .gt 7, 3) := by decide +kernel
theorem dJ8_min_6 : decode mi_J8_min.2.1 6 = .ok (.lload_n 0, 1) := by decide +kernel
theorem dJ8_min_7 : decode mi_J8_min.2.1 7 = .ok (.goto 4, 3) := by decide +kernel
theorem dJ8_min_10 : decode mi_J8_min.2.1 10 = .ok (.lload_n 2, 1) := by decide +kernel
theorem dJ8_min_11 : decode mi_J8_min.2.1 11 = .ok (.lreturn, 1) := by decide +kernel
theorem v_J8_min {G : ma_G} {d : Nat} {x0 : Int64} {x2 : Int64} {h : ah_T} {Q : Option ma_V → ah_T → Prop} {E : Nat → ah_T → Prop}  (H : (x2 < x0 → Q (some (jv x2)) h) ∧ (¬ x2 < x0 → Q (some (jv x0)) h)) : MX G mi_J8_min d 0 [some (jv x0), none, some (jv x2), none] [] h Q E := by
  refine mx_lload_n dJ8_min_0 rfl rfl ?_
  refine mx_lload_n dJ8_min_1 rfl rfl ?_
  refine mx_lif_gt (tgt := 10) dJ8_min_2 dJ8_min_3 rfl (fun c1 => ?_) (fun c1 => ?_)
  · have H := H.1 c1
    refine mx_lload_n dJ8_min_10 rfl rfl ?_
    exact mx_lret rfl dJ8_min_11 H
  · have H := H.2 c1
    refine mx_lload_n dJ8_min_6 rfl rfl ?_
    refine mx_goto (tgt := 11) dJ8_min_7 rfl ?_
    exact mx_lret rfl dJ8_min_11 H
theorem dJ8_max_2_0 : decode mi_J8_max_2.2.1 0 = .ok (.iload_n 0, 1) := by decide +kernel
theorem dJ8_max_2_1 : decode mi_J8_max_2.2.1 1 = .ok (.iload_n 1, 1) := by decide +kernel
theorem dJ8_max_2_2 : decode mi_J8_max_2.2.1 2 = .ok (.if_icmp .lt 7, 3) := by decide +kernel
theorem dJ8_max_2_5 : decode mi_J8_max_2.2.1 5 = .ok (.iload_n 0, 1) := by decide +kernel
theorem dJ8_max_2_6 : decode mi_J8_max_2.2.1 6 = .ok (.goto 4, 3) := by decide +kernel
theorem dJ8_max_2_9 : decode mi_J8_max_2.2.1 9 = .ok (.iload_n 1, 1) := by decide +kernel
theorem dJ8_max_2_10 : decode mi_J8_max_2.2.1 10 = .ok (.ireturn, 1) := by decide +kernel
theorem v_J8_max_2 {G : ma_G} {d : Nat} {x0 : Int32} {x1 : Int32} {h : ah_T} {Q : Option ma_V → ah_T → Prop} {E : Nat → ah_T → Prop}  (H : (x0 < x1 → Q (some (iv x1)) h) ∧ (¬ x0 < x1 → Q (some (iv x0)) h)) : MX G mi_J8_max_2 d 0 [some (iv x0), some (iv x1)] [] h Q E := by
  refine mx_iload_n dJ8_max_2_0 rfl rfl ?_
  refine mx_iload_n dJ8_max_2_1 rfl rfl ?_
  refine mx_icmp_lt (tgt := 9) dJ8_max_2_2 rfl (fun c1 => ?_) (fun c1 => ?_)
  · have H := H.1 c1
    refine mx_iload_n dJ8_max_2_9 rfl rfl ?_
    exact mx_iret rfl dJ8_max_2_10 H
  · have H := H.2 c1
    refine mx_iload_n dJ8_max_2_5 rfl rfl ?_
    refine mx_goto (tgt := 10) dJ8_max_2_6 rfl ?_
    exact mx_iret rfl dJ8_max_2_10 H
theorem dJ8_min_2_0 : decode mi_J8_min_2.2.1 0 = .ok (.iload_n 0, 1) := by decide +kernel
theorem dJ8_min_2_1 : decode mi_J8_min_2.2.1 1 = .ok (.iload_n 1, 1) := by decide +kernel
theorem dJ8_min_2_2 : decode mi_J8_min_2.2.1 2 = .ok (.if_icmp .gt 7, 3) := by decide +kernel
theorem dJ8_min_2_5 : decode mi_J8_min_2.2.1 5 = .ok (.iload_n 0, 1) := by decide +kernel
theorem dJ8_min_2_6 : decode mi_J8_min_2.2.1 6 = .ok (.goto 4, 3) := by decide +kernel
theorem dJ8_min_2_9 : decode mi_J8_min_2.2.1 9 = .ok (.iload_n 1, 1) := by decide +kernel
theorem dJ8_min_2_10 : decode mi_J8_min_2.2.1 10 = .ok (.ireturn, 1) := by decide +kernel
theorem v_J8_min_2 {G : ma_G} {d : Nat} {x0 : Int32} {x1 : Int32} {h : ah_T} {Q : Option ma_V → ah_T → Prop} {E : Nat → ah_T → Prop}  (H : (x1 < x0 → Q (some (iv x1)) h) ∧ (¬ x1 < x0 → Q (some (iv x0)) h)) : MX G mi_J8_min_2 d 0 [some (iv x0), some (iv x1)] [] h Q E := by
  refine mx_iload_n dJ8_min_2_0 rfl rfl ?_
  refine mx_iload_n dJ8_min_2_1 rfl rfl ?_
  refine mx_icmp_gt (tgt := 9) dJ8_min_2_2 rfl (fun c1 => ?_) (fun c1 => ?_)
  · have H := H.1 c1
    refine mx_iload_n dJ8_min_2_9 rfl rfl ?_
    exact mx_iret rfl dJ8_min_2_10 H
  · have H := H.2 c1
    refine mx_iload_n dJ8_min_2_5 rfl rfl ?_
    refine mx_goto (tgt := 10) dJ8_min_2_6 rfl ?_
    exact mx_iret rfl dJ8_min_2_10 H
theorem dJ12_bitCount_0 : decode mi_J12_bitCount.2.1 0 = .ok (.iload_n 0, 1) := by decide +kernel
theorem dJ12_bitCount_1 : decode mi_J12_bitCount.2.1 1 = .ok (.iload_n 0, 1) := by decide +kernel
theorem dJ12_bitCount_2 : decode mi_J12_bitCount.2.1 2 = .ok (.iconst 1, 1) := by decide +kernel
theorem dJ12_bitCount_3 : decode mi_J12_bitCount.2.1 3 = .ok (.iushr, 1) := by decide +kernel
theorem dJ12_bitCount_4 : decode mi_J12_bitCount.2.1 4 = .ok (.ldc_w 265, 3) := by decide +kernel
theorem dJ12_bitCount_7 : decode mi_J12_bitCount.2.1 7 = .ok (.iand, 1) := by decide +kernel
theorem dJ12_bitCount_8 : decode mi_J12_bitCount.2.1 8 = .ok (.isub, 1) := by decide +kernel
theorem dJ12_bitCount_9 : decode mi_J12_bitCount.2.1 9 = .ok (.istore_n 0, 1) := by decide +kernel
theorem dJ12_bitCount_10 : decode mi_J12_bitCount.2.1 10 = .ok (.iload_n 0, 1) := by decide +kernel
theorem dJ12_bitCount_11 : decode mi_J12_bitCount.2.1 11 = .ok (.ldc_w 266, 3) := by decide +kernel
theorem dJ12_bitCount_14 : decode mi_J12_bitCount.2.1 14 = .ok (.iand, 1) := by decide +kernel
theorem dJ12_bitCount_15 : decode mi_J12_bitCount.2.1 15 = .ok (.iload_n 0, 1) := by decide +kernel
theorem dJ12_bitCount_16 : decode mi_J12_bitCount.2.1 16 = .ok (.iconst 2, 1) := by decide +kernel
theorem dJ12_bitCount_17 : decode mi_J12_bitCount.2.1 17 = .ok (.iushr, 1) := by decide +kernel
theorem dJ12_bitCount_18 : decode mi_J12_bitCount.2.1 18 = .ok (.ldc_w 266, 3) := by decide +kernel
theorem dJ12_bitCount_21 : decode mi_J12_bitCount.2.1 21 = .ok (.iand, 1) := by decide +kernel
theorem dJ12_bitCount_22 : decode mi_J12_bitCount.2.1 22 = .ok (.iadd, 1) := by decide +kernel
theorem dJ12_bitCount_23 : decode mi_J12_bitCount.2.1 23 = .ok (.istore_n 0, 1) := by decide +kernel
theorem dJ12_bitCount_24 : decode mi_J12_bitCount.2.1 24 = .ok (.iload_n 0, 1) := by decide +kernel
theorem dJ12_bitCount_25 : decode mi_J12_bitCount.2.1 25 = .ok (.iload_n 0, 1) := by decide +kernel
theorem dJ12_bitCount_26 : decode mi_J12_bitCount.2.1 26 = .ok (.iconst 4, 1) := by decide +kernel
theorem dJ12_bitCount_27 : decode mi_J12_bitCount.2.1 27 = .ok (.iushr, 1) := by decide +kernel
theorem dJ12_bitCount_28 : decode mi_J12_bitCount.2.1 28 = .ok (.iadd, 1) := by decide +kernel
theorem dJ12_bitCount_29 : decode mi_J12_bitCount.2.1 29 = .ok (.ldc_w 267, 3) := by decide +kernel
theorem dJ12_bitCount_32 : decode mi_J12_bitCount.2.1 32 = .ok (.iand, 1) := by decide +kernel
theorem dJ12_bitCount_33 : decode mi_J12_bitCount.2.1 33 = .ok (.istore_n 0, 1) := by decide +kernel
theorem dJ12_bitCount_34 : decode mi_J12_bitCount.2.1 34 = .ok (.iload_n 0, 1) := by decide +kernel
theorem dJ12_bitCount_35 : decode mi_J12_bitCount.2.1 35 = .ok (.iload_n 0, 1) := by decide +kernel
theorem dJ12_bitCount_36 : decode mi_J12_bitCount.2.1 36 = .ok (.bipush 8, 2) := by decide +kernel
theorem dJ12_bitCount_38 : decode mi_J12_bitCount.2.1 38 = .ok (.iushr, 1) := by decide +kernel
theorem dJ12_bitCount_39 : decode mi_J12_bitCount.2.1 39 = .ok (.iadd, 1) := by decide +kernel
theorem dJ12_bitCount_40 : decode mi_J12_bitCount.2.1 40 = .ok (.istore_n 0, 1) := by decide +kernel
theorem dJ12_bitCount_41 : decode mi_J12_bitCount.2.1 41 = .ok (.iload_n 0, 1) := by decide +kernel
theorem dJ12_bitCount_42 : decode mi_J12_bitCount.2.1 42 = .ok (.iload_n 0, 1) := by decide +kernel
theorem dJ12_bitCount_43 : decode mi_J12_bitCount.2.1 43 = .ok (.bipush 16, 2) := by decide +kernel
theorem dJ12_bitCount_45 : decode mi_J12_bitCount.2.1 45 = .ok (.iushr, 1) := by decide +kernel
theorem dJ12_bitCount_46 : decode mi_J12_bitCount.2.1 46 = .ok (.iadd, 1) := by decide +kernel
theorem dJ12_bitCount_47 : decode mi_J12_bitCount.2.1 47 = .ok (.istore_n 0, 1) := by decide +kernel
theorem dJ12_bitCount_48 : decode mi_J12_bitCount.2.1 48 = .ok (.iload_n 0, 1) := by decide +kernel
theorem dJ12_bitCount_49 : decode mi_J12_bitCount.2.1 49 = .ok (.bipush 63, 2) := by decide +kernel
theorem dJ12_bitCount_51 : decode mi_J12_bitCount.2.1 51 = .ok (.iand, 1) := by decide +kernel
theorem dJ12_bitCount_52 : decode mi_J12_bitCount.2.1 52 = .ok (.ireturn, 1) := by decide +kernel
theorem v_J12_bitCount {G : ma_G} {d : Nat} {x0 : Int32} {h : ah_T} {Q : Option ma_V → ah_T → Prop} {E : Nat → ah_T → Prop}  (H : Q (some (iv ((((((((x0 - ((x0.toUInt32 >>> ((1 : Int32).toUInt32 &&& Int32.toUInt32 31)).toInt32 &&& (1431655765 : Int32))) &&& (858993459 : Int32)) + (((x0 - ((x0.toUInt32 >>> ((1 : Int32).toUInt32 &&& Int32.toUInt32 31)).toInt32 &&& (1431655765 : Int32))).toUInt32 >>> ((2 : Int32).toUInt32 &&& Int32.toUInt32 31)).toInt32 &&& (858993459 : Int32))) + ((((x0 - ((x0.toUInt32 >>> ((1 : Int32).toUInt32 &&& Int32.toUInt32 31)).toInt32 &&& (1431655765 : Int32))) &&& (858993459 : Int32)) + (((x0 - ((x0.toUInt32 >>> ((1 : Int32).toUInt32 &&& Int32.toUInt32 31)).toInt32 &&& (1431655765 : Int32))).toUInt32 >>> ((2 : Int32).toUInt32 &&& Int32.toUInt32 31)).toInt32 &&& (858993459 : Int32))).toUInt32 >>> ((4 : Int32).toUInt32 &&& Int32.toUInt32 31)).toInt32) &&& (252645135 : Int32)) + ((((((x0 - ((x0.toUInt32 >>> ((1 : Int32).toUInt32 &&& Int32.toUInt32 31)).toInt32 &&& (1431655765 : Int32))) &&& (858993459 : Int32)) + (((x0 - ((x0.toUInt32 >>> ((1 : Int32).toUInt32 &&& Int32.toUInt32 31)).toInt32 &&& (1431655765 : Int32))).toUInt32 >>> ((2 : Int32).toUInt32 &&& Int32.toUInt32 31)).toInt32 &&& (858993459 : Int32))) + ((((x0 - ((x0.toUInt32 >>> ((1 : Int32).toUInt32 &&& Int32.toUInt32 31)).toInt32 &&& (1431655765 : Int32))) &&& (858993459 : Int32)) + (((x0 - ((x0.toUInt32 >>> ((1 : Int32).toUInt32 &&& Int32.toUInt32 31)).toInt32 &&& (1431655765 : Int32))).toUInt32 >>> ((2 : Int32).toUInt32 &&& Int32.toUInt32 31)).toInt32 &&& (858993459 : Int32))).toUInt32 >>> ((4 : Int32).toUInt32 &&& Int32.toUInt32 31)).toInt32) &&& (252645135 : Int32)).toUInt32 >>> ((8 : Int32).toUInt32 &&& Int32.toUInt32 31)).toInt32) + (((((((x0 - ((x0.toUInt32 >>> ((1 : Int32).toUInt32 &&& Int32.toUInt32 31)).toInt32 &&& (1431655765 : Int32))) &&& (858993459 : Int32)) + (((x0 - ((x0.toUInt32 >>> ((1 : Int32).toUInt32 &&& Int32.toUInt32 31)).toInt32 &&& (1431655765 : Int32))).toUInt32 >>> ((2 : Int32).toUInt32 &&& Int32.toUInt32 31)).toInt32 &&& (858993459 : Int32))) + ((((x0 - ((x0.toUInt32 >>> ((1 : Int32).toUInt32 &&& Int32.toUInt32 31)).toInt32 &&& (1431655765 : Int32))) &&& (858993459 : Int32)) + (((x0 - ((x0.toUInt32 >>> ((1 : Int32).toUInt32 &&& Int32.toUInt32 31)).toInt32 &&& (1431655765 : Int32))).toUInt32 >>> ((2 : Int32).toUInt32 &&& Int32.toUInt32 31)).toInt32 &&& (858993459 : Int32))).toUInt32 >>> ((4 : Int32).toUInt32 &&& Int32.toUInt32 31)).toInt32) &&& (252645135 : Int32)) + ((((((x0 - ((x0.toUInt32 >>> ((1 : Int32).toUInt32 &&& Int32.toUInt32 31)).toInt32 &&& (1431655765 : Int32))) &&& (858993459 : Int32)) + (((x0 - ((x0.toUInt32 >>> ((1 : Int32).toUInt32 &&& Int32.toUInt32 31)).toInt32 &&& (1431655765 : Int32))).toUInt32 >>> ((2 : Int32).toUInt32 &&& Int32.toUInt32 31)).toInt32 &&& (858993459 : Int32))) + ((((x0 - ((x0.toUInt32 >>> ((1 : Int32).toUInt32 &&& Int32.toUInt32 31)).toInt32 &&& (1431655765 : Int32))) &&& (858993459 : Int32)) + (((x0 - ((x0.toUInt32 >>> ((1 : Int32).toUInt32 &&& Int32.toUInt32 31)).toInt32 &&& (1431655765 : Int32))).toUInt32 >>> ((2 : Int32).toUInt32 &&& Int32.toUInt32 31)).toInt32 &&& (858993459 : Int32))).toUInt32 >>> ((4 : Int32).toUInt32 &&& Int32.toUInt32 31)).toInt32) &&& (252645135 : Int32)).toUInt32 >>> ((8 : Int32).toUInt32 &&& Int32.toUInt32 31)).toInt32).toUInt32 >>> ((16 : Int32).toUInt32 &&& Int32.toUInt32 31)).toInt32) &&& (63 : Int32)))) h) : MX G mi_J12_bitCount d 0 [some (iv x0)] [] h Q E := by
  refine mx_iload_n dJ12_bitCount_0 rfl rfl ?_
  refine mx_iload_n dJ12_bitCount_1 rfl rfl ?_
  refine mx_iconst dJ12_bitCount_2 ic_1 ?_
  refine mx_iushr dJ12_bitCount_3 ?_
  refine mx_ldcw q1590 dJ12_bitCount_4 ?_
  refine mx_iand dJ12_bitCount_7 ?_
  refine mx_isub dJ12_bitCount_8 ?_
  refine mx_istore_n (al' := [some (iv (x0 - ((x0.toUInt32 >>> ((1 : Int32).toUInt32 &&& Int32.toUInt32 31)).toInt32 &&& (1431655765 : Int32))))]) dJ12_bitCount_9 rfl (Nat.le_of_ble_eq_true rfl) rfl ?_
  refine mx_iload_n dJ12_bitCount_10 rfl rfl ?_
  refine mx_ldcw q1591 dJ12_bitCount_11 ?_
  refine mx_iand dJ12_bitCount_14 ?_
  refine mx_iload_n dJ12_bitCount_15 rfl rfl ?_
  refine mx_iconst dJ12_bitCount_16 ic_2 ?_
  refine mx_iushr dJ12_bitCount_17 ?_
  refine mx_ldcw q1591 dJ12_bitCount_18 ?_
  refine mx_iand dJ12_bitCount_21 ?_
  refine mx_iadd dJ12_bitCount_22 ?_
  refine mx_istore_n (al' := [some (iv (((x0 - ((x0.toUInt32 >>> ((1 : Int32).toUInt32 &&& Int32.toUInt32 31)).toInt32 &&& (1431655765 : Int32))) &&& (858993459 : Int32)) + (((x0 - ((x0.toUInt32 >>> ((1 : Int32).toUInt32 &&& Int32.toUInt32 31)).toInt32 &&& (1431655765 : Int32))).toUInt32 >>> ((2 : Int32).toUInt32 &&& Int32.toUInt32 31)).toInt32 &&& (858993459 : Int32))))]) dJ12_bitCount_23 rfl (Nat.le_of_ble_eq_true rfl) rfl ?_
  refine mx_iload_n dJ12_bitCount_24 rfl rfl ?_
  refine mx_iload_n dJ12_bitCount_25 rfl rfl ?_
  refine mx_iconst dJ12_bitCount_26 ic_4 ?_
  refine mx_iushr dJ12_bitCount_27 ?_
  refine mx_iadd dJ12_bitCount_28 ?_
  refine mx_ldcw q1592 dJ12_bitCount_29 ?_
  refine mx_iand dJ12_bitCount_32 ?_
  refine mx_istore_n (al' := [some (iv (((((x0 - ((x0.toUInt32 >>> ((1 : Int32).toUInt32 &&& Int32.toUInt32 31)).toInt32 &&& (1431655765 : Int32))) &&& (858993459 : Int32)) + (((x0 - ((x0.toUInt32 >>> ((1 : Int32).toUInt32 &&& Int32.toUInt32 31)).toInt32 &&& (1431655765 : Int32))).toUInt32 >>> ((2 : Int32).toUInt32 &&& Int32.toUInt32 31)).toInt32 &&& (858993459 : Int32))) + ((((x0 - ((x0.toUInt32 >>> ((1 : Int32).toUInt32 &&& Int32.toUInt32 31)).toInt32 &&& (1431655765 : Int32))) &&& (858993459 : Int32)) + (((x0 - ((x0.toUInt32 >>> ((1 : Int32).toUInt32 &&& Int32.toUInt32 31)).toInt32 &&& (1431655765 : Int32))).toUInt32 >>> ((2 : Int32).toUInt32 &&& Int32.toUInt32 31)).toInt32 &&& (858993459 : Int32))).toUInt32 >>> ((4 : Int32).toUInt32 &&& Int32.toUInt32 31)).toInt32) &&& (252645135 : Int32)))]) dJ12_bitCount_33 rfl (Nat.le_of_ble_eq_true rfl) rfl ?_
  refine mx_iload_n dJ12_bitCount_34 rfl rfl ?_
  refine mx_iload_n dJ12_bitCount_35 rfl rfl ?_
  refine mx_bipush dJ12_bitCount_36 ib_8 ?_
  refine mx_iushr dJ12_bitCount_38 ?_
  refine mx_iadd dJ12_bitCount_39 ?_
  refine mx_istore_n (al' := [some (iv ((((((x0 - ((x0.toUInt32 >>> ((1 : Int32).toUInt32 &&& Int32.toUInt32 31)).toInt32 &&& (1431655765 : Int32))) &&& (858993459 : Int32)) + (((x0 - ((x0.toUInt32 >>> ((1 : Int32).toUInt32 &&& Int32.toUInt32 31)).toInt32 &&& (1431655765 : Int32))).toUInt32 >>> ((2 : Int32).toUInt32 &&& Int32.toUInt32 31)).toInt32 &&& (858993459 : Int32))) + ((((x0 - ((x0.toUInt32 >>> ((1 : Int32).toUInt32 &&& Int32.toUInt32 31)).toInt32 &&& (1431655765 : Int32))) &&& (858993459 : Int32)) + (((x0 - ((x0.toUInt32 >>> ((1 : Int32).toUInt32 &&& Int32.toUInt32 31)).toInt32 &&& (1431655765 : Int32))).toUInt32 >>> ((2 : Int32).toUInt32 &&& Int32.toUInt32 31)).toInt32 &&& (858993459 : Int32))).toUInt32 >>> ((4 : Int32).toUInt32 &&& Int32.toUInt32 31)).toInt32) &&& (252645135 : Int32)) + ((((((x0 - ((x0.toUInt32 >>> ((1 : Int32).toUInt32 &&& Int32.toUInt32 31)).toInt32 &&& (1431655765 : Int32))) &&& (858993459 : Int32)) + (((x0 - ((x0.toUInt32 >>> ((1 : Int32).toUInt32 &&& Int32.toUInt32 31)).toInt32 &&& (1431655765 : Int32))).toUInt32 >>> ((2 : Int32).toUInt32 &&& Int32.toUInt32 31)).toInt32 &&& (858993459 : Int32))) + ((((x0 - ((x0.toUInt32 >>> ((1 : Int32).toUInt32 &&& Int32.toUInt32 31)).toInt32 &&& (1431655765 : Int32))) &&& (858993459 : Int32)) + (((x0 - ((x0.toUInt32 >>> ((1 : Int32).toUInt32 &&& Int32.toUInt32 31)).toInt32 &&& (1431655765 : Int32))).toUInt32 >>> ((2 : Int32).toUInt32 &&& Int32.toUInt32 31)).toInt32 &&& (858993459 : Int32))).toUInt32 >>> ((4 : Int32).toUInt32 &&& Int32.toUInt32 31)).toInt32) &&& (252645135 : Int32)).toUInt32 >>> ((8 : Int32).toUInt32 &&& Int32.toUInt32 31)).toInt32))]) dJ12_bitCount_40 rfl (Nat.le_of_ble_eq_true rfl) rfl ?_
  refine mx_iload_n dJ12_bitCount_41 rfl rfl ?_
  refine mx_iload_n dJ12_bitCount_42 rfl rfl ?_
  refine mx_bipush dJ12_bitCount_43 ib_16 ?_
  refine mx_iushr dJ12_bitCount_45 ?_
  refine mx_iadd dJ12_bitCount_46 ?_
  refine mx_istore_n (al' := [some (iv (((((((x0 - ((x0.toUInt32 >>> ((1 : Int32).toUInt32 &&& Int32.toUInt32 31)).toInt32 &&& (1431655765 : Int32))) &&& (858993459 : Int32)) + (((x0 - ((x0.toUInt32 >>> ((1 : Int32).toUInt32 &&& Int32.toUInt32 31)).toInt32 &&& (1431655765 : Int32))).toUInt32 >>> ((2 : Int32).toUInt32 &&& Int32.toUInt32 31)).toInt32 &&& (858993459 : Int32))) + ((((x0 - ((x0.toUInt32 >>> ((1 : Int32).toUInt32 &&& Int32.toUInt32 31)).toInt32 &&& (1431655765 : Int32))) &&& (858993459 : Int32)) + (((x0 - ((x0.toUInt32 >>> ((1 : Int32).toUInt32 &&& Int32.toUInt32 31)).toInt32 &&& (1431655765 : Int32))).toUInt32 >>> ((2 : Int32).toUInt32 &&& Int32.toUInt32 31)).toInt32 &&& (858993459 : Int32))).toUInt32 >>> ((4 : Int32).toUInt32 &&& Int32.toUInt32 31)).toInt32) &&& (252645135 : Int32)) + ((((((x0 - ((x0.toUInt32 >>> ((1 : Int32).toUInt32 &&& Int32.toUInt32 31)).toInt32 &&& (1431655765 : Int32))) &&& (858993459 : Int32)) + (((x0 - ((x0.toUInt32 >>> ((1 : Int32).toUInt32 &&& Int32.toUInt32 31)).toInt32 &&& (1431655765 : Int32))).toUInt32 >>> ((2 : Int32).toUInt32 &&& Int32.toUInt32 31)).toInt32 &&& (858993459 : Int32))) + ((((x0 - ((x0.toUInt32 >>> ((1 : Int32).toUInt32 &&& Int32.toUInt32 31)).toInt32 &&& (1431655765 : Int32))) &&& (858993459 : Int32)) + (((x0 - ((x0.toUInt32 >>> ((1 : Int32).toUInt32 &&& Int32.toUInt32 31)).toInt32 &&& (1431655765 : Int32))).toUInt32 >>> ((2 : Int32).toUInt32 &&& Int32.toUInt32 31)).toInt32 &&& (858993459 : Int32))).toUInt32 >>> ((4 : Int32).toUInt32 &&& Int32.toUInt32 31)).toInt32) &&& (252645135 : Int32)).toUInt32 >>> ((8 : Int32).toUInt32 &&& Int32.toUInt32 31)).toInt32) + (((((((x0 - ((x0.toUInt32 >>> ((1 : Int32).toUInt32 &&& Int32.toUInt32 31)).toInt32 &&& (1431655765 : Int32))) &&& (858993459 : Int32)) + (((x0 - ((x0.toUInt32 >>> ((1 : Int32).toUInt32 &&& Int32.toUInt32 31)).toInt32 &&& (1431655765 : Int32))).toUInt32 >>> ((2 : Int32).toUInt32 &&& Int32.toUInt32 31)).toInt32 &&& (858993459 : Int32))) + ((((x0 - ((x0.toUInt32 >>> ((1 : Int32).toUInt32 &&& Int32.toUInt32 31)).toInt32 &&& (1431655765 : Int32))) &&& (858993459 : Int32)) + (((x0 - ((x0.toUInt32 >>> ((1 : Int32).toUInt32 &&& Int32.toUInt32 31)).toInt32 &&& (1431655765 : Int32))).toUInt32 >>> ((2 : Int32).toUInt32 &&& Int32.toUInt32 31)).toInt32 &&& (858993459 : Int32))).toUInt32 >>> ((4 : Int32).toUInt32 &&& Int32.toUInt32 31)).toInt32) &&& (252645135 : Int32)) + ((((((x0 - ((x0.toUInt32 >>> ((1 : Int32).toUInt32 &&& Int32.toUInt32 31)).toInt32 &&& (1431655765 : Int32))) &&& (858993459 : Int32)) + (((x0 - ((x0.toUInt32 >>> ((1 : Int32).toUInt32 &&& Int32.toUInt32 31)).toInt32 &&& (1431655765 : Int32))).toUInt32 >>> ((2 : Int32).toUInt32 &&& Int32.toUInt32 31)).toInt32 &&& (858993459 : Int32))) + ((((x0 - ((x0.toUInt32 >>> ((1 : Int32).toUInt32 &&& Int32.toUInt32 31)).toInt32 &&& (1431655765 : Int32))) &&& (858993459 : Int32)) + (((x0 - ((x0.toUInt32 >>> ((1 : Int32).toUInt32 &&& Int32.toUInt32 31)).toInt32 &&& (1431655765 : Int32))).toUInt32 >>> ((2 : Int32).toUInt32 &&& Int32.toUInt32 31)).toInt32 &&& (858993459 : Int32))).toUInt32 >>> ((4 : Int32).toUInt32 &&& Int32.toUInt32 31)).toInt32) &&& (252645135 : Int32)).toUInt32 >>> ((8 : Int32).toUInt32 &&& Int32.toUInt32 31)).toInt32).toUInt32 >>> ((16 : Int32).toUInt32 &&& Int32.toUInt32 31)).toInt32))]) dJ12_bitCount_47 rfl (Nat.le_of_ble_eq_true rfl) rfl ?_
  refine mx_iload_n dJ12_bitCount_48 rfl rfl ?_
  refine mx_bipush dJ12_bitCount_49 ib_63 ?_
  refine mx_iand dJ12_bitCount_51 ?_
  exact mx_iret rfl dJ12_bitCount_52 H
theorem dX8_cut_0 : decode mi_X8_cut.2.1 0 = .ok (.iload_n 0, 1) := by decide +kernel
theorem dX8_cut_1 : decode mi_X8_cut.2.1 1 = .ok (.ifCond .ne 10, 3) := by decide +kernel
theorem dX8_cut_4 : decode mi_X8_cut.2.1 4 = .ok (.lload_n 1, 1) := by decide +kernel
theorem dX8_cut_5 : decode mi_X8_cut.2.1 5 = .ok (.l2i, 1) := by decide +kernel
theorem dX8_cut_6 : decode mi_X8_cut.2.1 6 = .ok (.i2b, 1) := by decide +kernel
theorem dX8_cut_7 : decode mi_X8_cut.2.1 7 = .ok (.i2l, 1) := by decide +kernel
theorem dX8_cut_8 : decode mi_X8_cut.2.1 8 = .ok (.goto 27, 3) := by decide +kernel
theorem dX8_cut_11 : decode mi_X8_cut.2.1 11 = .ok (.iload_n 0, 1) := by decide +kernel
theorem dX8_cut_12 : decode mi_X8_cut.2.1 12 = .ok (.iconst 1, 1) := by decide +kernel
theorem dX8_cut_13 : decode mi_X8_cut.2.1 13 = .ok (.if_icmp .ne 10, 3) := by decide +kernel
theorem dX8_cut_16 : decode mi_X8_cut.2.1 16 = .ok (.lload_n 1, 1) := by decide +kernel
theorem dX8_cut_17 : decode mi_X8_cut.2.1 17 = .ok (.l2i, 1) := by decide +kernel
theorem dX8_cut_18 : decode mi_X8_cut.2.1 18 = .ok (.i2s, 1) := by decide +kernel
theorem dX8_cut_19 : decode mi_X8_cut.2.1 19 = .ok (.i2l, 1) := by decide +kernel
theorem dX8_cut_20 : decode mi_X8_cut.2.1 20 = .ok (.goto 15, 3) := by decide +kernel
theorem dX8_cut_23 : decode mi_X8_cut.2.1 23 = .ok (.iload_n 0, 1) := by decide +kernel
theorem dX8_cut_24 : decode mi_X8_cut.2.1 24 = .ok (.iconst 2, 1) := by decide +kernel
theorem dX8_cut_25 : decode mi_X8_cut.2.1 25 = .ok (.if_icmp .ne 9, 3) := by decide +kernel
theorem dX8_cut_28 : decode mi_X8_cut.2.1 28 = .ok (.lload_n 1, 1) := by decide +kernel
theorem dX8_cut_29 : decode mi_X8_cut.2.1 29 = .ok (.l2i, 1) := by decide +kernel
theorem dX8_cut_30 : decode mi_X8_cut.2.1 30 = .ok (.i2l, 1) := by decide +kernel
theorem dX8_cut_31 : decode mi_X8_cut.2.1 31 = .ok (.goto 4, 3) := by decide +kernel
theorem dX8_cut_34 : decode mi_X8_cut.2.1 34 = .ok (.lload_n 1, 1) := by decide +kernel
theorem dX8_cut_35 : decode mi_X8_cut.2.1 35 = .ok (.lreturn, 1) := by decide +kernel
theorem v_X8_cut {G : ma_G} {d : Nat} {x0 : Int32} {x1 : Int64} {h : ah_T} {Q : Option ma_V → ah_T → Prop} {E : Nat → ah_T → Prop}  (H : (¬ x0 = 0 → (¬ x0 = (1 : Int32) → (¬ x0 = (2 : Int32) → Q (some (jv x1)) h) ∧ (x0 = (2 : Int32) → Q (some (jv x1.toInt32.toInt64)) h)) ∧ (x0 = (1 : Int32) → Q (some (jv x1.toInt32.toInt16.toInt32.toInt64)) h)) ∧ (x0 = 0 → Q (some (jv x1.toInt32.toInt8.toInt32.toInt64)) h)) : MX G mi_X8_cut d 0 [some (iv x0), some (jv x1), none] [] h Q E := by
  refine mx_iload_n dX8_cut_0 rfl rfl ?_
  refine mx_if_ne (tgt := 11) dX8_cut_1 rfl (fun c1 => ?_) (fun c1 => ?_)
  · have H := H.1 c1
    refine mx_iload_n dX8_cut_11 rfl rfl ?_
    refine mx_iconst dX8_cut_12 ic_1 ?_
    refine mx_icmp_ne (tgt := 23) dX8_cut_13 rfl (fun c2 => ?_) (fun c2 => ?_)
    · have H := H.1 c2
      refine mx_iload_n dX8_cut_23 rfl rfl ?_
      refine mx_iconst dX8_cut_24 ic_2 ?_
      refine mx_icmp_ne (tgt := 34) dX8_cut_25 rfl (fun c3 => ?_) (fun c3 => ?_)
      · have H := H.1 c3
        refine mx_lload_n dX8_cut_34 rfl rfl ?_
        exact mx_lret rfl dX8_cut_35 H
      · have H := H.2 c3
        refine mx_lload_n dX8_cut_28 rfl rfl ?_
        refine mx_l2i dX8_cut_29 ?_
        refine mx_i2l dX8_cut_30 ?_
        refine mx_goto (tgt := 35) dX8_cut_31 rfl ?_
        exact mx_lret rfl dX8_cut_35 H
    · have H := H.2 c2
      refine mx_lload_n dX8_cut_16 rfl rfl ?_
      refine mx_l2i dX8_cut_17 ?_
      refine mx_i2s dX8_cut_18 ?_
      refine mx_i2l dX8_cut_19 ?_
      refine mx_goto (tgt := 35) dX8_cut_20 rfl ?_
      exact mx_lret rfl dX8_cut_35 H
  · have H := H.2 c1
    refine mx_lload_n dX8_cut_4 rfl rfl ?_
    refine mx_l2i dX8_cut_5 ?_
    refine mx_i2b dX8_cut_6 ?_
    refine mx_i2l dX8_cut_7 ?_
    refine mx_goto (tgt := 35) dX8_cut_8 rfl ?_
    exact mx_lret rfl dX8_cut_35 H
theorem dX8_cut_2_0 : decode mi_X8_cut_2.2.1 0 = .ok (.lload_n 0, 1) := by decide +kernel
theorem dX8_cut_2_1 : decode mi_X8_cut_2.2.1 1 = .ok (.lload_n 2, 1) := by decide +kernel
theorem dX8_cut_2_2 : decode mi_X8_cut_2.2.1 2 = .ok (.lcmp, 1) := by decide +kernel
theorem dX8_cut_2_3 : decode mi_X8_cut_2.2.1 3 = .ok (.ifCond .ge 7, 3) := by decide +kernel
theorem dX8_cut_2_6 : decode mi_X8_cut_2.2.1 6 = .ok (.lload_n 2, 1) := by decide +kernel
theorem dX8_cut_2_7 : decode mi_X8_cut_2.2.1 7 = .ok (.goto 16, 3) := by decide +kernel
theorem dX8_cut_2_10 : decode mi_X8_cut_2.2.1 10 = .ok (.lload_n 0, 1) := by decide +kernel
theorem dX8_cut_2_11 : decode mi_X8_cut_2.2.1 11 = .ok (.lload 4, 2) := by decide +kernel
theorem dX8_cut_2_13 : decode mi_X8_cut_2.2.1 13 = .ok (.lcmp, 1) := by decide +kernel
theorem dX8_cut_2_14 : decode mi_X8_cut_2.2.1 14 = .ok (.ifCond .le 8, 3) := by decide +kernel
theorem dX8_cut_2_17 : decode mi_X8_cut_2.2.1 17 = .ok (.lload 4, 2) := by decide +kernel
theorem dX8_cut_2_19 : decode mi_X8_cut_2.2.1 19 = .ok (.goto 4, 3) := by decide +kernel
theorem dX8_cut_2_22 : decode mi_X8_cut_2.2.1 22 = .ok (.lload_n 0, 1) := by decide +kernel
theorem dX8_cut_2_23 : decode mi_X8_cut_2.2.1 23 = .ok (.lreturn, 1) := by decide +kernel
theorem v_X8_cut_2 {G : ma_G} {d : Nat} {x0 : Int64} {x2 : Int64} {x4 : Int64} {h : ah_T} {Q : Option ma_V → ah_T → Prop} {E : Nat → ah_T → Prop}  (H : (x2 ≤ x0 → (x0 ≤ x4 → Q (some (jv x0)) h) ∧ (¬ x0 ≤ x4 → Q (some (jv x4)) h)) ∧ (¬ x2 ≤ x0 → Q (some (jv x2)) h)) : MX G mi_X8_cut_2 d 0 [some (jv x0), none, some (jv x2), none, some (jv x4), none] [] h Q E := by
  refine mx_lload_n dX8_cut_2_0 rfl rfl ?_
  refine mx_lload_n dX8_cut_2_1 rfl rfl ?_
  refine mx_lif_ge (tgt := 10) dX8_cut_2_2 dX8_cut_2_3 rfl (fun c1 => ?_) (fun c1 => ?_)
  · have H := H.1 c1
    refine mx_lload_n dX8_cut_2_10 rfl rfl ?_
    refine mx_lload dX8_cut_2_11 rfl ?_
    refine mx_lif_le (tgt := 22) dX8_cut_2_13 dX8_cut_2_14 rfl (fun c2 => ?_) (fun c2 => ?_)
    · have H := H.1 c2
      refine mx_lload_n dX8_cut_2_22 rfl rfl ?_
      exact mx_lret rfl dX8_cut_2_23 H
    · have H := H.2 c2
      refine mx_lload dX8_cut_2_17 rfl ?_
      refine mx_goto (tgt := 23) dX8_cut_2_19 rfl ?_
      exact mx_lret rfl dX8_cut_2_23 H
  · have H := H.2 c1
    refine mx_lload_n dX8_cut_2_6 rfl rfl ?_
    refine mx_goto (tgt := 23) dX8_cut_2_7 rfl ?_
    exact mx_lret rfl dX8_cut_2_23 H
def jMax (x y : Int64) : Int64 := if x < y then y else x
def jMin (x y : Int64) : Int64 := if y < x then y else x
def iMax (x y : Int32) : Int32 := if x < y then y else x
def iMin (x y : Int32) : Int32 := if y < x then y else x
def iBits (x0 : Int32) : Int32 := ((((((((x0 - ((x0.toUInt32 >>> ((1 : Int32).toUInt32 &&& Int32.toUInt32 31)).toInt32 &&& (1431655765 : Int32))) &&& (858993459 : Int32)) + (((x0 - ((x0.toUInt32 >>> ((1 : Int32).toUInt32 &&& Int32.toUInt32 31)).toInt32 &&& (1431655765 : Int32))).toUInt32 >>> ((2 : Int32).toUInt32 &&& Int32.toUInt32 31)).toInt32 &&& (858993459 : Int32))) + ((((x0 - ((x0.toUInt32 >>> ((1 : Int32).toUInt32 &&& Int32.toUInt32 31)).toInt32 &&& (1431655765 : Int32))) &&& (858993459 : Int32)) + (((x0 - ((x0.toUInt32 >>> ((1 : Int32).toUInt32 &&& Int32.toUInt32 31)).toInt32 &&& (1431655765 : Int32))).toUInt32 >>> ((2 : Int32).toUInt32 &&& Int32.toUInt32 31)).toInt32 &&& (858993459 : Int32))).toUInt32 >>> ((4 : Int32).toUInt32 &&& Int32.toUInt32 31)).toInt32) &&& (252645135 : Int32)) + ((((((x0 - ((x0.toUInt32 >>> ((1 : Int32).toUInt32 &&& Int32.toUInt32 31)).toInt32 &&& (1431655765 : Int32))) &&& (858993459 : Int32)) + (((x0 - ((x0.toUInt32 >>> ((1 : Int32).toUInt32 &&& Int32.toUInt32 31)).toInt32 &&& (1431655765 : Int32))).toUInt32 >>> ((2 : Int32).toUInt32 &&& Int32.toUInt32 31)).toInt32 &&& (858993459 : Int32))) + ((((x0 - ((x0.toUInt32 >>> ((1 : Int32).toUInt32 &&& Int32.toUInt32 31)).toInt32 &&& (1431655765 : Int32))) &&& (858993459 : Int32)) + (((x0 - ((x0.toUInt32 >>> ((1 : Int32).toUInt32 &&& Int32.toUInt32 31)).toInt32 &&& (1431655765 : Int32))).toUInt32 >>> ((2 : Int32).toUInt32 &&& Int32.toUInt32 31)).toInt32 &&& (858993459 : Int32))).toUInt32 >>> ((4 : Int32).toUInt32 &&& Int32.toUInt32 31)).toInt32) &&& (252645135 : Int32)).toUInt32 >>> ((8 : Int32).toUInt32 &&& Int32.toUInt32 31)).toInt32) + (((((((x0 - ((x0.toUInt32 >>> ((1 : Int32).toUInt32 &&& Int32.toUInt32 31)).toInt32 &&& (1431655765 : Int32))) &&& (858993459 : Int32)) + (((x0 - ((x0.toUInt32 >>> ((1 : Int32).toUInt32 &&& Int32.toUInt32 31)).toInt32 &&& (1431655765 : Int32))).toUInt32 >>> ((2 : Int32).toUInt32 &&& Int32.toUInt32 31)).toInt32 &&& (858993459 : Int32))) + ((((x0 - ((x0.toUInt32 >>> ((1 : Int32).toUInt32 &&& Int32.toUInt32 31)).toInt32 &&& (1431655765 : Int32))) &&& (858993459 : Int32)) + (((x0 - ((x0.toUInt32 >>> ((1 : Int32).toUInt32 &&& Int32.toUInt32 31)).toInt32 &&& (1431655765 : Int32))).toUInt32 >>> ((2 : Int32).toUInt32 &&& Int32.toUInt32 31)).toInt32 &&& (858993459 : Int32))).toUInt32 >>> ((4 : Int32).toUInt32 &&& Int32.toUInt32 31)).toInt32) &&& (252645135 : Int32)) + ((((((x0 - ((x0.toUInt32 >>> ((1 : Int32).toUInt32 &&& Int32.toUInt32 31)).toInt32 &&& (1431655765 : Int32))) &&& (858993459 : Int32)) + (((x0 - ((x0.toUInt32 >>> ((1 : Int32).toUInt32 &&& Int32.toUInt32 31)).toInt32 &&& (1431655765 : Int32))).toUInt32 >>> ((2 : Int32).toUInt32 &&& Int32.toUInt32 31)).toInt32 &&& (858993459 : Int32))) + ((((x0 - ((x0.toUInt32 >>> ((1 : Int32).toUInt32 &&& Int32.toUInt32 31)).toInt32 &&& (1431655765 : Int32))) &&& (858993459 : Int32)) + (((x0 - ((x0.toUInt32 >>> ((1 : Int32).toUInt32 &&& Int32.toUInt32 31)).toInt32 &&& (1431655765 : Int32))).toUInt32 >>> ((2 : Int32).toUInt32 &&& Int32.toUInt32 31)).toInt32 &&& (858993459 : Int32))).toUInt32 >>> ((4 : Int32).toUInt32 &&& Int32.toUInt32 31)).toInt32) &&& (252645135 : Int32)).toUInt32 >>> ((8 : Int32).toUInt32 &&& Int32.toUInt32 31)).toInt32).toUInt32 >>> ((16 : Int32).toUInt32 &&& Int32.toUInt32 31)).toInt32) &&& (63 : Int32))
def sCut (s : Int32) (v : Int64) : Int64 := if s = 0 then v.toInt32.toInt8.toInt32.toInt64 else if s = 1 then v.toInt32.toInt16.toInt32.toInt64 else if s = 2 then v.toInt32.toInt64 else v
def jCut (v lo hi : Int64) : Int64 := if lo ≤ v then (if v ≤ hi then v else hi) else lo
section
variable {G : ma_G} {y1 : ma_M} {d d1 pc1 : Nat} {al1 : List (Option ma_V)} {st1 : List ma_V} {h h0 : ah_T} {Q1 : Option ma_V → ah_T → Prop} {E E1 : Nat → ah_T → Prop}
theorem pv_J8_max {x0 x2 : Int64} (K : MX G y1 d1 pc1 al1 (jv (jMax x0 x2) :: st1) h Q1 E1) : MX G mi_J8_max d 0 [some (jv x0), none, some (jv x2), none] [] h (fun v h' => ah_ext h0 h' → MX G y1 d1 pc1 al1 (v.toList ++ st1) h' Q1 E1) E := v_J8_max ⟨fun c _ => by rw [jMax, if_pos c] at K; exact K, fun c _ => by rw [jMax, if_neg c] at K; exact K⟩
theorem pv_J8_min {x0 x2 : Int64} (K : MX G y1 d1 pc1 al1 (jv (jMin x0 x2) :: st1) h Q1 E1) : MX G mi_J8_min d 0 [some (jv x0), none, some (jv x2), none] [] h (fun v h' => ah_ext h0 h' → MX G y1 d1 pc1 al1 (v.toList ++ st1) h' Q1 E1) E := v_J8_min ⟨fun c _ => by rw [jMin, if_pos c] at K; exact K, fun c _ => by rw [jMin, if_neg c] at K; exact K⟩
theorem pv_J8_max_2 {x0 x1 : Int32} (K : MX G y1 d1 pc1 al1 (iv (iMax x0 x1) :: st1) h Q1 E1) : MX G mi_J8_max_2 d 0 [some (iv x0), some (iv x1)] [] h (fun v h' => ah_ext h0 h' → MX G y1 d1 pc1 al1 (v.toList ++ st1) h' Q1 E1) E := v_J8_max_2 ⟨fun c _ => by rw [iMax, if_pos c] at K; exact K, fun c _ => by rw [iMax, if_neg c] at K; exact K⟩
theorem pv_J8_min_2 {x0 x1 : Int32} (K : MX G y1 d1 pc1 al1 (iv (iMin x0 x1) :: st1) h Q1 E1) : MX G mi_J8_min_2 d 0 [some (iv x0), some (iv x1)] [] h (fun v h' => ah_ext h0 h' → MX G y1 d1 pc1 al1 (v.toList ++ st1) h' Q1 E1) E := v_J8_min_2 ⟨fun c _ => by rw [iMin, if_pos c] at K; exact K, fun c _ => by rw [iMin, if_neg c] at K; exact K⟩
theorem pv_J12_bitCount {x0 : Int32} (K : MX G y1 d1 pc1 al1 (iv (iBits x0) :: st1) h Q1 E1) : MX G mi_J12_bitCount d 0 [some (iv x0)] [] h (fun v h' => ah_ext h0 h' → MX G y1 d1 pc1 al1 (v.toList ++ st1) h' Q1 E1) E := v_J12_bitCount (fun _ => K)
theorem pv_X8_cut {x0 : Int32} {x1 : Int64} (K : MX G y1 d1 pc1 al1 (jv (sCut x0 x1) :: st1) h Q1 E1) : MX G mi_X8_cut d 0 [some (iv x0), some (jv x1), none] [] h (fun v h' => ah_ext h0 h' → MX G y1 d1 pc1 al1 (v.toList ++ st1) h' Q1 E1) E := v_X8_cut ⟨fun c => ⟨fun c1 => ⟨fun c2 _ => by rw [sCut, if_neg c, if_neg c1, if_neg c2] at K; exact K, fun c2 _ => by rw [sCut, if_neg c, if_neg c1, if_pos c2] at K; exact K⟩, fun c1 _ => by rw [sCut, if_neg c, if_pos c1] at K; exact K⟩, fun c _ => by rw [sCut, if_pos c] at K; exact K⟩
theorem pv_X8_cut_2 {x0 x2 x4 : Int64} (K : MX G y1 d1 pc1 al1 (jv (jCut x0 x2 x4) :: st1) h Q1 E1) : MX G mi_X8_cut_2 d 0 [some (jv x0), none, some (jv x2), none, some (jv x4), none] [] h (fun v h' => ah_ext h0 h' → MX G y1 d1 pc1 al1 (v.toList ++ st1) h' Q1 E1) E := v_X8_cut_2 ⟨fun c => ⟨fun c1 _ => by rw [jCut, if_pos c, if_pos c1] at K; exact K, fun c1 _ => by rw [jCut, if_pos c, if_neg c1] at K; exact K⟩, fun c _ => by rw [jCut, if_neg c] at K; exact K⟩
end

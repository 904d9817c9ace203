/-! walks -/
set_option maxRecDepth 100000
theorem dX0_acts_0 : decode mi_X0_acts.2.1 0 = .ok (.iload_n 1, 1) := by decide +kernel
theorem dX0_acts_1 : decode mi_X0_acts.2.1 1 = .ok (.ifCond .lt 21, 3) := by decide +kernel
theorem dX0_acts_4 : decode mi_X0_acts.2.1 4 = .ok (.iload_n 1, 1) := by decide +kernel
theorem dX0_acts_5 : decode mi_X0_acts.2.1 5 = .ok (.aload_n 0, 1) := by decide +kernel
theorem dX0_acts_6 : decode mi_X0_acts.2.1 6 = .ok (.getfield 72, 3) := by decide +kernel
theorem dX0_acts_9 : decode mi_X0_acts.2.1 9 = .ok (.getfield 446, 3) := by decide +kernel
theorem dX0_acts_12 : decode mi_X0_acts.2.1 12 = .ok (.if_icmp .gt 10, 3) := by decide +kernel
theorem dX0_acts_15 : decode mi_X0_acts.2.1 15 = .ok (.iload_n 2, 1) := by decide +kernel
theorem dX0_acts_16 : decode mi_X0_acts.2.1 16 = .ok (.invokestatic 260, 3) := by decide +kernel
theorem dX0_acts_19 : decode mi_X0_acts.2.1 19 = .ok (.ifCond .ne 9, 3) := by decide +kernel
theorem dX0_acts_22 : decode mi_X0_acts.2.1 22 = .ok (.aload_n 0, 1) := by decide +kernel
theorem dX0_acts_23 : decode mi_X0_acts.2.1 23 = .ok (.iconst 5, 1) := by decide +kernel
theorem dX0_acts_24 : decode mi_X0_acts.2.1 24 = .ok (.invokevirtual 205, 3) := by decide +kernel
theorem dX0_acts_27 : decode mi_X0_acts.2.1 27 = .ok (.ireturn, 1) := by decide +kernel
theorem dX0_acts_28 : decode mi_X0_acts.2.1 28 = .ok (.aload_n 0, 1) := by decide +kernel
theorem dX0_acts_29 : decode mi_X0_acts.2.1 29 = .ok (.getfield 417, 3) := by decide +kernel
theorem dX0_acts_32 : decode mi_X0_acts.2.1 32 = .ok (.iconst 4, 1) := by decide +kernel
theorem dX0_acts_33 : decode mi_X0_acts.2.1 33 = .ok (.if_icmp .ne 10, 3) := by decide +kernel
theorem dX0_acts_36 : decode mi_X0_acts.2.1 36 = .ok (.aload_n 0, 1) := by decide +kernel
theorem dX0_acts_37 : decode mi_X0_acts.2.1 37 = .ok (.bipush 7, 2) := by decide +kernel
theorem dX0_acts_39 : decode mi_X0_acts.2.1 39 = .ok (.invokevirtual 205, 3) := by decide +kernel
theorem dX0_acts_42 : decode mi_X0_acts.2.1 42 = .ok (.ireturn, 1) := by decide +kernel
theorem dX0_acts_43 : decode mi_X0_acts.2.1 43 = .ok (.aload_n 0, 1) := by decide +kernel
theorem dX0_acts_44 : decode mi_X0_acts.2.1 44 = .ok (.getfield 72, 3) := by decide +kernel
theorem dX0_acts_47 : decode mi_X0_acts.2.1 47 = .ok (.iconst 0, 1) := by decide +kernel
theorem dX0_acts_48 : decode mi_X0_acts.2.1 48 = .ok (.putfield 446, 3) := by decide +kernel
theorem dX0_acts_51 : decode mi_X0_acts.2.1 51 = .ok (.aload_n 0, 1) := by decide +kernel
theorem dX0_acts_52 : decode mi_X0_acts.2.1 52 = .ok (.iconst 0, 1) := by decide +kernel
theorem dX0_acts_53 : decode mi_X0_acts.2.1 53 = .ok (.putfield 89, 3) := by decide +kernel
theorem dX0_acts_56 : decode mi_X0_acts.2.1 56 = .ok (.aload_n 0, 1) := by decide +kernel
theorem dX0_acts_57 : decode mi_X0_acts.2.1 57 = .ok (.iconst (-1), 1) := by decide +kernel
theorem dX0_acts_58 : decode mi_X0_acts.2.1 58 = .ok (.putfield 93, 3) := by decide +kernel
theorem dX0_acts_61 : decode mi_X0_acts.2.1 61 = .ok (.aload_n 0, 1) := by decide +kernel
theorem dX0_acts_62 : decode mi_X0_acts.2.1 62 = .ok (.getfield 72, 3) := by decide +kernel
theorem dX0_acts_65 : decode mi_X0_acts.2.1 65 = .ok (.iload_n 1, 1) := by decide +kernel
theorem dX0_acts_66 : decode mi_X0_acts.2.1 66 = .ok (.invokevirtual 456, 3) := by decide +kernel
theorem dX0_acts_69 : decode mi_X0_acts.2.1 69 = .ok (.astore_n 3, 1) := by decide +kernel
theorem dX0_acts_70 : decode mi_X0_acts.2.1 70 = .ok (.goto 30, 3) := by decide +kernel
theorem dX0_acts_73 : decode mi_X0_acts.2.1 73 = .ok (.astore 4, 2) := by decide +kernel
theorem dX0_acts_75 : decode mi_X0_acts.2.1 75 = .ok (.aload_n 0, 1) := by decide +kernel
theorem dX0_acts_76 : decode mi_X0_acts.2.1 76 = .ok (.aload 4, 2) := by decide +kernel
theorem dX0_acts_78 : decode mi_X0_acts.2.1 78 = .ok (.getfield 459, 3) := by decide +kernel
theorem dX0_acts_81 : decode mi_X0_acts.2.1 81 = .ok (.putfield 89, 3) := by decide +kernel
theorem dX0_acts_84 : decode mi_X0_acts.2.1 84 = .ok (.aload_n 0, 1) := by decide +kernel
theorem dX0_acts_85 : decode mi_X0_acts.2.1 85 = .ok (.aload 4, 2) := by decide +kernel
theorem dX0_acts_87 : decode mi_X0_acts.2.1 87 = .ok (.getfield 462, 3) := by decide +kernel
theorem dX0_acts_90 : decode mi_X0_acts.2.1 90 = .ok (.putfield 93, 3) := by decide +kernel
theorem dX0_acts_93 : decode mi_X0_acts.2.1 93 = .ok (.aload_n 0, 1) := by decide +kernel
theorem dX0_acts_94 : decode mi_X0_acts.2.1 94 = .ok (.bipush 10, 2) := by decide +kernel
theorem dX0_acts_96 : decode mi_X0_acts.2.1 96 = .ok (.invokevirtual 205, 3) := by decide +kernel
theorem dX0_acts_99 : decode mi_X0_acts.2.1 99 = .ok (.ireturn, 1) := by decide +kernel
theorem dX0_acts_100 : decode mi_X0_acts.2.1 100 = .ok (.aload_n 3, 1) := by decide +kernel
theorem dX0_acts_101 : decode mi_X0_acts.2.1 101 = .ok (.iload_n 2, 1) := by decide +kernel
theorem dX0_acts_102 : decode mi_X0_acts.2.1 102 = .ok (.putfield 420, 3) := by decide +kernel
theorem dX0_acts_105 : decode mi_X0_acts.2.1 105 = .ok (.aload_n 0, 1) := by decide +kernel
theorem dX0_acts_106 : decode mi_X0_acts.2.1 106 = .ok (.getfield 85, 3) := by decide +kernel
theorem dX0_acts_109 : decode mi_X0_acts.2.1 109 = .ok (.aload_n 0, 1) := by decide +kernel
theorem dX0_acts_110 : decode mi_X0_acts.2.1 110 = .ok (.getfield 417, 3) := by decide +kernel
theorem dX0_acts_113 : decode mi_X0_acts.2.1 113 = .ok (.aload_n 3, 1) := by decide +kernel
theorem dX0_acts_114 : decode mi_X0_acts.2.1 114 = .ok (.aastore, 1) := by decide +kernel
theorem dX0_acts_115 : decode mi_X0_acts.2.1 115 = .ok (.aload_n 0, 1) := by decide +kernel
theorem dX0_acts_116 : decode mi_X0_acts.2.1 116 = .ok (.dup, 1) := by decide +kernel
theorem dX0_acts_117 : decode mi_X0_acts.2.1 117 = .ok (.getfield 417, 3) := by decide +kernel
theorem dX0_acts_120 : decode mi_X0_acts.2.1 120 = .ok (.iconst 1, 1) := by decide +kernel
theorem dX0_acts_121 : decode mi_X0_acts.2.1 121 = .ok (.iadd, 1) := by decide +kernel
theorem dX0_acts_122 : decode mi_X0_acts.2.1 122 = .ok (.putfield 417, 3) := by decide +kernel
theorem dX0_acts_125 : decode mi_X0_acts.2.1 125 = .ok (.aload_n 0, 1) := by decide +kernel
theorem dX0_acts_126 : decode mi_X0_acts.2.1 126 = .ok (.aload_n 3, 1) := by decide +kernel
theorem dX0_acts_127 : decode mi_X0_acts.2.1 127 = .ok (.getfield 465, 3) := by decide +kernel
theorem dX0_acts_130 : decode mi_X0_acts.2.1 130 = .ok (.invokevirtual 250, 3) := by decide +kernel
theorem dX0_acts_133 : decode mi_X0_acts.2.1 133 = .ok (.ireturn, 1) := by decide +kernel
theorem v_X0_acts {G : ma_G} {d : Nat} {a0 : Nat} {x1 : Int32} {x2 : Int32} {h : ah_T} {Q : Option ma_V → ah_T → Prop} {E : Nat → ah_T → Prop} (La0_h : LY0 h a0) (H : (x1 < 0 → ∀ h2 : ah_T, h2 = ah_wI h a0 20 (5 : Int32) → ah_ext h h2 → Q (some (iv (-1 : Int32))) h2) ∧ (¬ x1 < 0 → ((ah_I h (a0 + 1431) 1) < x1 → ∀ h4 : ah_T, h4 = ah_wI h a0 20 (5 : Int32) → ah_ext h h4 → Q (some (iv (-1 : Int32))) h4) ∧ (¬ (ah_I h (a0 + 1431) 1) < x1 → (x2 < 0 → ∀ h6 : ah_T, h6 = ah_wI h a0 20 (5 : Int32) → ah_ext h h6 → Q (some (iv (-1 : Int32))) h6) ∧ (¬ x2 < 0 → ((520 : Int32) ≤ x2 → ∀ h8 : ah_T, h8 = ah_wI h a0 20 (5 : Int32) → ah_ext h h8 → Q (some (iv (-1 : Int32))) h8) ∧ (¬ (520 : Int32) ≤ x2 → (¬ (ah_I h a0 18) = (4 : Int32) → ∀ h10 : ah_T, h10 = ah_wI h (a0 + 1431) 1 (0 : Int32) → ah_ext h h10 → ∀ h11 : ah_T, h11 = ah_wI h10 a0 21 (0 : Int32) → ah_ext h10 h11 → ∀ h12 : ah_T, h12 = ah_wI h11 a0 22 (-1 : Int32) → ah_ext h11 h12 → MX G mi_X5_read d 0 [some (rv (a0 + 1431)), some (iv x1)] [] h12 (Qr fun r14 h13 => ah_ext h12 h13 → ah_kd h13 r14 = 16 ∧ ∀ h16 : ah_T, h16 = ah_wI h13 r14 3 x2 → ah_ext h13 h16 → vp_in (ah_I h13 a0 18) 4 ∧ ah_R h16 (a0 + 1437) (ah_I h13 a0 18).toNatClampNeg = 0 ∧ ∀ h19 : ah_T, h19 = ah_wR h16 (a0 + 1437) (ah_I h13 a0 18).toNatClampNeg r14 → ah_ext h16 h19 → ∀ h20 : ah_T, h20 = ah_wI h19 a0 18 ((ah_I h13 a0 18) + (1 : Int32)) → ah_ext h19 h20 → ∀ h21 : ah_T, h21 = ah_wI h20 a0 20 (0 : Int32) → ah_ext h20 h21 → Q (some (iv (ah_I h13 r14 2))) h21) (fun x h' => ah_ext h12 h' → ah_kd h' x = 5 ∧ MX G mi_X0_acts (d + 1) 73 [some (rv a0), none, none, none, none] [rv x] h' Q E)) ∧ ((ah_I h a0 18) = (4 : Int32) → ∀ h22 : ah_T, h22 = ah_wI h a0 20 (7 : Int32) → ah_ext h h22 → Q (some (iv (-1 : Int32))) h22)))))) : MX G mi_X0_acts (d + 1) 0 [some (rv a0), some (iv x1), some (iv x2), none, none] [] h Q E := by
  refine mx_iload_n dX0_acts_0 rfl rfl ?_
  refine mx_if_lt (tgt := 22) dX0_acts_1 rfl (fun c1 => ?_) (fun c1 => ?_)
  · have H := H.1 c1
    refine mx_aload_n dX0_acts_22 rfl rfl ?_
    refine mx_iconst dX0_acts_23 ic_5 ?_
    refine mx_callV 0 (y' := mi_X0_none) (vs := [iv (5 : Int32)]) (st := []) (al' := [some (rv a0), some (iv (5 : Int32))]) cl_0 V_X0_none (Or.inl q733) dX0_acts_24 rfl rfl (Nat.le_of_ble_eq_true rfl) (Nat.le_of_ble_eq_true rfl) (ly0_k La0_h) ?_
    refine mx_aload_n dX0_none_0 rfl rfl ?_
    refine mx_iload_n dX0_none_1 rfl rfl ?_
    refine mx_putI 0 20 (ref := "PrairiePool") cl_0 (Nat.le_of_ble_eq_true rfl) (Or.inl q480) (Or.inl rfl) dX0_none_2 (Or.inl rfl) rfl (ly0_k La0_h) ?_
    refine mx_nmI  (fun h2 eh2 Xh2 Kh2 Lh2 => ?_)
    have H := H h2 eh2 Xh2
    have La0_h2 := La0_h.ext Xh2
    refine mx_iconst dX0_none_5 ic_m1 ?_
    refine mx_iretK rfl dX0_none_6 ?_
    exact mx_iret rfl dX0_acts_27 H
  · have H := H.2 c1
    refine mx_iload_n dX0_acts_4 rfl rfl ?_
    refine mx_aload_n dX0_acts_5 rfl rfl ?_
    refine mx_get 0 11 (ref := "PrairiePool") cl_0 (Nat.le_of_ble_eq_true rfl) (Or.inl q471) (Or.inl rfl) dX0_acts_6 (fv_0_11 _ _) (ly0_k La0_h) ?_
    refine mx_tr (ly0_R_0_11 La0_h) ?_
    refine mx_get 5 1 (ref := "PrairiePool$Reader") cl_5 (Nat.le_of_ble_eq_true rfl) (Or.inr ⟨_, q385⟩) (Or.inl rfl) dX0_acts_9 (fv_5_1 _ _) (ly0_K_1431 La0_h) ?_
    refine mx_icmp_gt (tgt := 22) dX0_acts_12 rfl (fun c3 => ?_) (fun c3 => ?_)
    · have H := H.1 c3
      refine mx_aload_n dX0_acts_22 rfl rfl ?_
      refine mx_iconst dX0_acts_23 ic_5 ?_
      refine mx_callV 0 (y' := mi_X0_none) (vs := [iv (5 : Int32)]) (st := []) (al' := [some (rv a0), some (iv (5 : Int32))]) cl_0 V_X0_none (Or.inl q733) dX0_acts_24 rfl rfl (Nat.le_of_ble_eq_true rfl) (Nat.le_of_ble_eq_true rfl) (ly0_k La0_h) ?_
      refine mx_aload_n dX0_none_0 rfl rfl ?_
      refine mx_iload_n dX0_none_1 rfl rfl ?_
      refine mx_putI 0 20 (ref := "PrairiePool") cl_0 (Nat.le_of_ble_eq_true rfl) (Or.inl q480) (Or.inl rfl) dX0_none_2 (Or.inl rfl) rfl (ly0_k La0_h) ?_
      refine mx_nmI  (fun h4 eh4 Xh4 Kh4 Lh4 => ?_)
      have H := H h4 eh4 Xh4
      have La0_h4 := La0_h.ext Xh4
      refine mx_iconst dX0_none_5 ic_m1 ?_
      refine mx_iretK rfl dX0_none_6 ?_
      exact mx_iret rfl dX0_acts_27 H
    · have H := H.2 c3
      refine mx_iload_n dX0_acts_15 rfl rfl ?_
      refine mx_callS (y' := mi_X0_isWeek) (vs := [iv x2]) (st := []) (al' := [some (iv x2)]) S_X0_isWeek q841 dX0_acts_16 rfl rfl (Nat.le_of_ble_eq_true rfl) (Nat.le_of_ble_eq_true rfl) ?_
      refine mx_iload_n dX0_isWeek_0 rfl rfl ?_
      refine mx_if_lt (tgt := 15) dX0_isWeek_1 rfl (fun c5 => ?_) (fun c5 => ?_)
      · have H := H.1 c5
        refine mx_iconst dX0_isWeek_15 ic_0 ?_
        refine mx_zretK rfl dX0_isWeek_16 (Or.inl rfl) ?_
        refine mx_if_ne (tgt := 28) dX0_acts_19 rfl (fun _ => absurd ‹_› (by decide)) (fun _ => ?_)
        refine mx_aload_n dX0_acts_22 rfl rfl ?_
        refine mx_iconst dX0_acts_23 ic_5 ?_
        refine mx_callV 0 (y' := mi_X0_none) (vs := [iv (5 : Int32)]) (st := []) (al' := [some (rv a0), some (iv (5 : Int32))]) cl_0 V_X0_none (Or.inl q733) dX0_acts_24 rfl rfl (Nat.le_of_ble_eq_true rfl) (Nat.le_of_ble_eq_true rfl) (ly0_k La0_h) ?_
        refine mx_aload_n dX0_none_0 rfl rfl ?_
        refine mx_iload_n dX0_none_1 rfl rfl ?_
        refine mx_putI 0 20 (ref := "PrairiePool") cl_0 (Nat.le_of_ble_eq_true rfl) (Or.inl q480) (Or.inl rfl) dX0_none_2 (Or.inl rfl) rfl (ly0_k La0_h) ?_
        refine mx_nmI  (fun h6 eh6 Xh6 Kh6 Lh6 => ?_)
        have H := H h6 eh6 Xh6
        have La0_h6 := La0_h.ext Xh6
        refine mx_iconst dX0_none_5 ic_m1 ?_
        refine mx_iretK rfl dX0_none_6 ?_
        exact mx_iret rfl dX0_acts_27 H
      · have H := H.2 c5
        refine mx_iload_n dX0_isWeek_4 rfl rfl ?_
        refine mx_sipush dX0_isWeek_5 is_520 ?_
        refine mx_icmp_ge (tgt := 15) dX0_isWeek_8 rfl (fun c7 => ?_) (fun c7 => ?_)
        · have H := H.1 c7
          refine mx_iconst dX0_isWeek_15 ic_0 ?_
          refine mx_zretK rfl dX0_isWeek_16 (Or.inl rfl) ?_
          refine mx_if_ne (tgt := 28) dX0_acts_19 rfl (fun _ => absurd ‹_› (by decide)) (fun _ => ?_)
          refine mx_aload_n dX0_acts_22 rfl rfl ?_
          refine mx_iconst dX0_acts_23 ic_5 ?_
          refine mx_callV 0 (y' := mi_X0_none) (vs := [iv (5 : Int32)]) (st := []) (al' := [some (rv a0), some (iv (5 : Int32))]) cl_0 V_X0_none (Or.inl q733) dX0_acts_24 rfl rfl (Nat.le_of_ble_eq_true rfl) (Nat.le_of_ble_eq_true rfl) (ly0_k La0_h) ?_
          refine mx_aload_n dX0_none_0 rfl rfl ?_
          refine mx_iload_n dX0_none_1 rfl rfl ?_
          refine mx_putI 0 20 (ref := "PrairiePool") cl_0 (Nat.le_of_ble_eq_true rfl) (Or.inl q480) (Or.inl rfl) dX0_none_2 (Or.inl rfl) rfl (ly0_k La0_h) ?_
          refine mx_nmI  (fun h8 eh8 Xh8 Kh8 Lh8 => ?_)
          have H := H h8 eh8 Xh8
          have La0_h8 := La0_h.ext Xh8
          refine mx_iconst dX0_none_5 ic_m1 ?_
          refine mx_iretK rfl dX0_none_6 ?_
          exact mx_iret rfl dX0_acts_27 H
        · have H := H.2 c7
          refine mx_iconst dX0_isWeek_11 ic_1 ?_
          refine mx_goto (tgt := 16) dX0_isWeek_12 rfl ?_
          refine mx_zretK rfl dX0_isWeek_16 (Or.inr rfl) ?_
          refine mx_if_ne (tgt := 28) dX0_acts_19 rfl (fun _ => ?_) (fun _ => absurd ‹_› (by decide))
          refine mx_aload_n dX0_acts_28 rfl rfl ?_
          refine mx_get 0 18 (ref := "PrairiePool") cl_0 (Nat.le_of_ble_eq_true rfl) (Or.inl q478) (Or.inl rfl) dX0_acts_29 (fv_0_18 _ _) (ly0_k La0_h) ?_
          refine mx_iconst dX0_acts_32 ic_4 ?_
          refine mx_icmp_ne (tgt := 43) dX0_acts_33 rfl (fun c9 => ?_) (fun c9 => ?_)
          · have H := H.1 c9
            refine mx_aload_n dX0_acts_43 rfl rfl ?_
            refine mx_get 0 11 (ref := "PrairiePool") cl_0 (Nat.le_of_ble_eq_true rfl) (Or.inl q471) (Or.inl rfl) dX0_acts_44 (fv_0_11 _ _) (ly0_k La0_h) ?_
            refine mx_tr (ly0_R_0_11 La0_h) ?_
            refine mx_iconst dX0_acts_47 ic_0 ?_
            refine mx_putI 5 1 (ref := "PrairiePool$Reader") cl_5 (Nat.le_of_ble_eq_true rfl) (Or.inr ⟨_, q385⟩) (Or.inl rfl) dX0_acts_48 (Or.inl rfl) rfl (ly0_K_1431 La0_h) ?_
            refine mx_nmI  (fun h10 eh10 Xh10 Kh10 Lh10 => ?_)
            have H := H h10 eh10 Xh10
            have La0_h10 := La0_h.ext Xh10
            refine mx_aload_n dX0_acts_51 rfl rfl ?_
            refine mx_iconst dX0_acts_52 ic_0 ?_
            refine mx_putI 0 21 (ref := "PrairiePool") cl_0 (Nat.le_of_ble_eq_true rfl) (Or.inl q481) (Or.inl rfl) dX0_acts_53 (Or.inl rfl) rfl (ly0_k La0_h10) ?_
            refine mx_nmI  (fun h11 eh11 Xh11 Kh11 Lh11 => ?_)
            have H := H h11 eh11 Xh11
            have Kh11 := Kh11.trans Kh10
            have Lh11 := Lh11.trans Lh10
            have La0_h11 := La0_h10.ext Xh11
            refine mx_aload_n dX0_acts_56 rfl rfl ?_
            refine mx_iconst dX0_acts_57 ic_m1 ?_
            refine mx_putI 0 22 (ref := "PrairiePool") cl_0 (Nat.le_of_ble_eq_true rfl) (Or.inl q482) (Or.inl rfl) dX0_acts_58 (Or.inl rfl) rfl (ly0_k La0_h11) ?_
            refine mx_nmI  (fun h12 eh12 Xh12 Kh12 Lh12 => ?_)
            have H := H h12 eh12 Xh12
            have Kh12 := Kh12.trans Kh11
            have Lh12 := Lh12.trans Lh11
            have La0_h12 := La0_h11.ext Xh12
            refine mx_aload_n dX0_acts_61 rfl rfl ?_
            refine mx_get 0 11 (ref := "PrairiePool") cl_0 (Nat.le_of_ble_eq_true rfl) (Or.inl q471) (Or.inl rfl) dX0_acts_62 (fv_0_11 _ _) (ly0_k La0_h12) ?_
            refine mx_tr (ly0_R_0_11 La0_h12) ?_
            refine mx_iload_n dX0_acts_65 rfl rfl ?_
            refine mx_callV 5 (y' := mi_X5_read) (vs := [iv x1]) (st := []) (al' := [some (rv (a0 + 1431)), some (iv x1)]) cl_5 V_X5_read (Or.inl q1177) dX0_acts_66 rfl rfl (Nat.le_of_ble_eq_true rfl) (Nat.le_of_ble_eq_true rfl) (ly0_K_1431 La0_h12) ?_
            refine ma_kr H (fun r14 h13 Xh13 H => ?_) (fun x1 h1 X1 H => mt_catch rfl (Nat.le_of_ble_eq_true rfl) (Nat.le_of_ble_eq_true rfl) (by decide) q289 (Or.inl ⟨4, _, _, cl_4, (H X1).1⟩) (Or.inl ⟨rfl, _, q376⟩) (mx_weak (al' := [some (rv a0), none, none, none, none]) ⟨rfl, trivial⟩ (H X1).2))
            have H := H Xh13
            have La0_h13 := La0_h12.ext Xh13
            refine mx_astore_n (al' := [some (rv a0), some (iv x1), some (iv x2), some (rv r14), none]) dX0_acts_69 rfl (Nat.le_of_ble_eq_true rfl) rfl ?_
            refine mx_goto (tgt := 100) dX0_acts_70 rfl ?_
            refine mx_aload_n dX0_acts_100 rfl rfl ?_
            refine mx_iload_n dX0_acts_101 rfl rfl ?_
            obtain ⟨k15, H⟩ := H
            refine mx_putI 15 3 (ref := "PrairiePool$Law") cl_15 (Nat.le_of_ble_eq_true rfl) (Or.inr ⟨_, q1196⟩) (Or.inl rfl) dX0_acts_102 (Or.inl rfl) rfl k15 ?_
            refine mx_nmI  (fun h16 eh16 Xh16 Kh16 Lh16 => ?_)
            have H := H h16 eh16 Xh16
            have La0_h16 := La0_h13.ext Xh16
            refine mx_aload_n dX0_acts_105 rfl rfl ?_
            refine mx_get 0 13 (ref := "PrairiePool") cl_0 (Nat.le_of_ble_eq_true rfl) (Or.inl q473) (Or.inl rfl) dX0_acts_106 (fv_0_13 _ _) (ly0_k La0_h16) ?_
            refine mx_tr (ly0_R_0_13 La0_h16) ?_
            refine mx_aload_n dX0_acts_109 rfl rfl ?_
            refine mx_get 0 18 (ref := "PrairiePool") cl_0 (Nat.le_of_ble_eq_true rfl) (Or.inl q478) (Or.inl rfl) dX0_acts_110 (fv_0_18 _ _) (ly0_k La0_h16) ?_
            refine mx_ti (ah_skIK eh16 (by decide)) ?_
            refine mx_aload_n dX0_acts_113 rfl rfl ?_
            obtain ⟨k17, H⟩ := H
            obtain ⟨k18, H⟩ := H
            refine mx_astq 9 15 (by decide) rfl cl_15 (Or.inl rfl) dX0_acts_114 rfl (ly0_A_1437 La0_h16 k17) (ma_kde Kh16 (k15)) k18 ?_
            refine mx_nmR (ah_ext.wR (Or.inr (Or.inl k18))) (fun h19 eh19 Xh19 Kh19 Lh19 => ?_)
            have H := H h19 eh19 Xh19
            have Kh19 := Kh19.trans Kh16
            have Lh19 := Lh19.trans Lh16
            have La0_h19 := La0_h16.ext Xh19
            refine mx_aload_n dX0_acts_115 rfl rfl ?_
            refine mx_dup_r dX0_acts_116 ?_
            refine mx_get 0 18 (ref := "PrairiePool") cl_0 (Nat.le_of_ble_eq_true rfl) (Or.inl q478) (Or.inl rfl) dX0_acts_117 (fv_0_18 _ _) (ly0_k La0_h19) ?_
            refine mx_ti ((ah_IR eh19).trans (ah_skIK eh16 (by decide))) ?_
            refine mx_iconst dX0_acts_120 ic_1 ?_
            refine mx_iadd dX0_acts_121 ?_
            refine mx_putI 0 18 (ref := "PrairiePool") cl_0 (Nat.le_of_ble_eq_true rfl) (Or.inl q478) (Or.inl rfl) dX0_acts_122 (Or.inl rfl) rfl (ly0_k La0_h19) ?_
            refine mx_nmI  (fun h20 eh20 Xh20 Kh20 Lh20 => ?_)
            have H := H h20 eh20 Xh20
            have Kh20 := Kh20.trans Kh19
            have Lh20 := Lh20.trans Lh19
            have La0_h20 := La0_h19.ext Xh20
            refine mx_aload_n dX0_acts_125 rfl rfl ?_
            refine mx_aload_n dX0_acts_126 rfl rfl ?_
            refine mx_get 15 2 (ref := "PrairiePool$Law") cl_15 (Nat.le_of_ble_eq_true rfl) (Or.inr ⟨_, q1195⟩) (Or.inl rfl) dX0_acts_127 (fv_15_2 _ _) (ma_kde Kh20 (k15)) ?_
            refine mx_ti (((ah_skIK eh20 (by decide)).trans (ah_IR eh19)).trans (ah_skIK eh16 (by decide))) ?_
            refine mx_callV 0 (y' := mi_X0_gives) (vs := [iv (ah_I h13 r14 2)]) (st := []) (al' := [some (rv a0), some (iv (ah_I h13 r14 2))]) cl_0 V_X0_gives (Or.inl q801) dX0_acts_130 rfl rfl (Nat.le_of_ble_eq_true rfl) (Nat.le_of_ble_eq_true rfl) (ly0_k La0_h20) ?_
            refine mx_aload_n dX0_gives_0 rfl rfl ?_
            refine mx_iconst dX0_gives_1 ic_0 ?_
            refine mx_putI 0 20 (ref := "PrairiePool") cl_0 (Nat.le_of_ble_eq_true rfl) (Or.inl q480) (Or.inl rfl) dX0_gives_2 (Or.inl rfl) rfl (ly0_k La0_h20) ?_
            refine mx_nmI  (fun h21 eh21 Xh21 Kh21 Lh21 => ?_)
            have H := H h21 eh21 Xh21
            have Kh21 := Kh21.trans Kh20
            have Lh21 := Lh21.trans Lh20
            have La0_h21 := La0_h20.ext Xh21
            refine mx_iload_n dX0_gives_5 rfl rfl ?_
            refine mx_iretK rfl dX0_gives_6 ?_
            exact mx_iret rfl dX0_acts_133 H
          · have H := H.2 c9
            refine mx_aload_n dX0_acts_36 rfl rfl ?_
            refine mx_bipush dX0_acts_37 ib_7 ?_
            refine mx_callV 0 (y' := mi_X0_none) (vs := [iv (7 : Int32)]) (st := []) (al' := [some (rv a0), some (iv (7 : Int32))]) cl_0 V_X0_none (Or.inl q733) dX0_acts_39 rfl rfl (Nat.le_of_ble_eq_true rfl) (Nat.le_of_ble_eq_true rfl) (ly0_k La0_h) ?_
            refine mx_aload_n dX0_none_0 rfl rfl ?_
            refine mx_iload_n dX0_none_1 rfl rfl ?_
            refine mx_putI 0 20 (ref := "PrairiePool") cl_0 (Nat.le_of_ble_eq_true rfl) (Or.inl q480) (Or.inl rfl) dX0_none_2 (Or.inl rfl) rfl (ly0_k La0_h) ?_
            refine mx_nmI  (fun h22 eh22 Xh22 Kh22 Lh22 => ?_)
            have H := H h22 eh22 Xh22
            have La0_h22 := La0_h.ext Xh22
            refine mx_iconst dX0_none_5 ic_m1 ?_
            refine mx_iretK rfl dX0_none_6 ?_
            exact mx_iret rfl dX0_acts_42 H
theorem v_X0_acts_73 {G : ma_G} {d : Nat} {a0 : Nat} {b0 : Nat} {h : ah_T} {Q : Option ma_V → ah_T → Prop} {E : Nat → ah_T → Prop} (La0_h : LY0 h a0) (H : ah_kd h b0 = 5 ∧ ∀ h2 : ah_T, h2 = ah_wI h a0 21 (ah_I h b0 6) → ah_ext h h2 → ∀ h3 : ah_T, h3 = ah_wI h2 a0 22 (ah_I h b0 7) → ah_ext h2 h3 → ∀ h4 : ah_T, h4 = ah_wI h3 a0 20 (10 : Int32) → ah_ext h3 h4 → Q (some (iv (-1 : Int32))) h4) : MX G mi_X0_acts (d + 1) 73 [some (rv a0), none, none, none, none] [rv b0] h Q E := by
  refine mx_astore (al' := [some (rv a0), none, none, none, some (rv b0)]) dX0_acts_73 (Nat.le_of_ble_eq_true rfl) rfl ?_
  refine mx_aload_n dX0_acts_75 rfl rfl ?_
  refine mx_aload dX0_acts_76 rfl ?_
  obtain ⟨k1, H⟩ := H
  refine mx_get 4 6 (ref := "PrairiePool$Wrong") cl_4 (Nat.le_of_ble_eq_true rfl) (Or.inr ⟨_, q357⟩) (Or.inl rfl) dX0_acts_78 (fv_4_6 _ _) k1 ?_
  refine mx_putI 0 21 (ref := "PrairiePool") cl_0 (Nat.le_of_ble_eq_true rfl) (Or.inl q481) (Or.inl rfl) dX0_acts_81 (Or.inl rfl) rfl (ly0_k La0_h) ?_
  refine mx_nmI  (fun h2 eh2 Xh2 Kh2 Lh2 => ?_)
  have H := H h2 eh2 Xh2
  have La0_h2 := La0_h.ext Xh2
  refine mx_aload_n dX0_acts_84 rfl rfl ?_
  refine mx_aload dX0_acts_85 rfl ?_
  refine mx_get 4 7 (ref := "PrairiePool$Wrong") cl_4 (Nat.le_of_ble_eq_true rfl) (Or.inr ⟨_, q359⟩) (Or.inl rfl) dX0_acts_87 (fv_4_7 _ _) (ma_kde Kh2 (k1)) ?_
  refine mx_ti (ah_skIK eh2 (by decide)) ?_
  refine mx_putI 0 22 (ref := "PrairiePool") cl_0 (Nat.le_of_ble_eq_true rfl) (Or.inl q482) (Or.inl rfl) dX0_acts_90 (Or.inl rfl) rfl (ly0_k La0_h2) ?_
  refine mx_nmI  (fun h3 eh3 Xh3 Kh3 Lh3 => ?_)
  have H := H h3 eh3 Xh3
  have Kh3 := Kh3.trans Kh2
  have Lh3 := Lh3.trans Lh2
  have La0_h3 := La0_h2.ext Xh3
  refine mx_aload_n dX0_acts_93 rfl rfl ?_
  refine mx_bipush dX0_acts_94 ib_10 ?_
  refine mx_callV 0 (y' := mi_X0_none) (vs := [iv (10 : Int32)]) (st := []) (al' := [some (rv a0), some (iv (10 : Int32))]) cl_0 V_X0_none (Or.inl q733) dX0_acts_96 rfl rfl (Nat.le_of_ble_eq_true rfl) (Nat.le_of_ble_eq_true rfl) (ly0_k La0_h3) ?_
  refine mx_aload_n dX0_none_0 rfl rfl ?_
  refine mx_iload_n dX0_none_1 rfl rfl ?_
  refine mx_putI 0 20 (ref := "PrairiePool") cl_0 (Nat.le_of_ble_eq_true rfl) (Or.inl q480) (Or.inl rfl) dX0_none_2 (Or.inl rfl) rfl (ly0_k La0_h3) ?_
  refine mx_nmI  (fun h4 eh4 Xh4 Kh4 Lh4 => ?_)
  have H := H h4 eh4 Xh4
  have Kh4 := Kh4.trans Kh3
  have Lh4 := Lh4.trans Lh3
  have La0_h4 := La0_h3.ext Xh4
  refine mx_iconst dX0_none_5 ic_m1 ?_
  refine mx_iretK rfl dX0_none_6 ?_
  exact mx_iret rfl dX0_acts_99 H
theorem dX0_fault_0 : decode mi_X0_fault.2.1 0 = .ok (.iload_n 1, 1) := by decide +kernel
theorem dX0_fault_1 : decode mi_X0_fault.2.1 1 = .ok (.ifCond .ne 10, 3) := by decide +kernel
theorem dX0_fault_4 : decode mi_X0_fault.2.1 4 = .ok (.aload_n 0, 1) := by decide +kernel
theorem dX0_fault_5 : decode mi_X0_fault.2.1 5 = .ok (.getfield 89, 3) := by decide +kernel
theorem dX0_fault_8 : decode mi_X0_fault.2.1 8 = .ok (.goto 16, 3) := by decide +kernel
theorem dX0_fault_11 : decode mi_X0_fault.2.1 11 = .ok (.iload_n 1, 1) := by decide +kernel
theorem dX0_fault_12 : decode mi_X0_fault.2.1 12 = .ok (.iconst 1, 1) := by decide +kernel
theorem dX0_fault_13 : decode mi_X0_fault.2.1 13 = .ok (.if_icmp .ne 10, 3) := by decide +kernel
theorem dX0_fault_16 : decode mi_X0_fault.2.1 16 = .ok (.aload_n 0, 1) := by decide +kernel
theorem dX0_fault_17 : decode mi_X0_fault.2.1 17 = .ok (.getfield 93, 3) := by decide +kernel
theorem dX0_fault_20 : decode mi_X0_fault.2.1 20 = .ok (.goto 4, 3) := by decide +kernel
theorem dX0_fault_23 : decode mi_X0_fault.2.1 23 = .ok (.iconst (-1), 1) := by decide +kernel
theorem dX0_fault_24 : decode mi_X0_fault.2.1 24 = .ok (.ireturn, 1) := by decide +kernel
theorem v_X0_fault {G : ma_G} {d : Nat} {a0 : Nat} {x1 : Int32} {h : ah_T} {Q : Option ma_V → ah_T → Prop} {E : Nat → ah_T → Prop} (La0_h : LY0 h a0) (H : (¬ x1 = 0 → (¬ x1 = (1 : Int32) → Q (some (iv (-1 : Int32))) h) ∧ (x1 = (1 : Int32) → Q (some (iv (ah_I h a0 22))) h)) ∧ (x1 = 0 → Q (some (iv (ah_I h a0 21))) h)) : MX G mi_X0_fault d 0 [some (rv a0), some (iv x1)] [] h Q E := by
  refine mx_iload_n dX0_fault_0 rfl rfl ?_
  refine mx_if_ne (tgt := 11) dX0_fault_1 rfl (fun c1 => ?_) (fun c1 => ?_)
  · have H := H.1 c1
    refine mx_iload_n dX0_fault_11 rfl rfl ?_
    refine mx_iconst dX0_fault_12 ic_1 ?_
    refine mx_icmp_ne (tgt := 23) dX0_fault_13 rfl (fun c2 => ?_) (fun c2 => ?_)
    · have H := H.1 c2
      refine mx_iconst dX0_fault_23 ic_m1 ?_
      exact mx_iret rfl dX0_fault_24 H
    · have H := H.2 c2
      refine mx_aload_n dX0_fault_16 rfl rfl ?_
      refine mx_get 0 22 (ref := "PrairiePool") cl_0 (Nat.le_of_ble_eq_true rfl) (Or.inl q482) (Or.inl rfl) dX0_fault_17 (fv_0_22 _ _) (ly0_k La0_h) ?_
      refine mx_goto (tgt := 24) dX0_fault_20 rfl ?_
      exact mx_iret rfl dX0_fault_24 H
  · have H := H.2 c1
    refine mx_aload_n dX0_fault_4 rfl rfl ?_
    refine mx_get 0 21 (ref := "PrairiePool") cl_0 (Nat.le_of_ble_eq_true rfl) (Or.inl q481) (Or.inl rfl) dX0_fault_5 (fv_0_21 _ _) (ly0_k La0_h) ?_
    refine mx_goto (tgt := 24) dX0_fault_8 rfl ?_
    exact mx_iret rfl dX0_fault_24 H
theorem dX0_paid_0 : decode mi_X0_paid.2.1 0 = .ok (.iload_n 2, 1) := by decide +kernel
theorem dX0_paid_1 : decode mi_X0_paid.2.1 1 = .ok (.invokestatic 301, 3) := by decide +kernel
theorem dX0_paid_4 : decode mi_X0_paid.2.1 4 = .ok (.ifCond .ne 10, 3) := by decide +kernel
theorem dX0_paid_7 : decode mi_X0_paid.2.1 7 = .ok (.aload_n 0, 1) := by decide +kernel
theorem dX0_paid_8 : decode mi_X0_paid.2.1 8 = .ok (.iconst 2, 1) := by decide +kernel
theorem dX0_paid_9 : decode mi_X0_paid.2.1 9 = .ok (.invokevirtual 205, 3) := by decide +kernel
theorem dX0_paid_12 : decode mi_X0_paid.2.1 12 = .ok (.i2l, 1) := by decide +kernel
theorem dX0_paid_13 : decode mi_X0_paid.2.1 13 = .ok (.lreturn, 1) := by decide +kernel
theorem dX0_paid_14 : decode mi_X0_paid.2.1 14 = .ok (.iload_n 1, 1) := by decide +kernel
theorem dX0_paid_15 : decode mi_X0_paid.2.1 15 = .ok (.invokestatic 304, 3) := by decide +kernel
theorem dX0_paid_18 : decode mi_X0_paid.2.1 18 = .ok (.ifCond .eq 20, 3) := by decide +kernel
theorem dX0_paid_21 : decode mi_X0_paid.2.1 21 = .ok (.iload_n 3, 1) := by decide +kernel
theorem dX0_paid_22 : decode mi_X0_paid.2.1 22 = .ok (.ifCond .lt 16, 3) := by decide +kernel
theorem dX0_paid_25 : decode mi_X0_paid.2.1 25 = .ok (.iload_n 3, 1) := by decide +kernel
theorem dX0_paid_26 : decode mi_X0_paid.2.1 26 = .ok (.iconst 2, 1) := by decide +kernel
theorem dX0_paid_27 : decode mi_X0_paid.2.1 27 = .ok (.if_icmp .gt 11, 3) := by decide +kernel
theorem dX0_paid_30 : decode mi_X0_paid.2.1 30 = .ok (.iload 4, 2) := by decide +kernel
theorem dX0_paid_32 : decode mi_X0_paid.2.1 32 = .ok (.invokestatic 260, 3) := by decide +kernel
theorem dX0_paid_35 : decode mi_X0_paid.2.1 35 = .ok (.ifCond .ne 10, 3) := by decide +kernel
theorem dX0_paid_38 : decode mi_X0_paid.2.1 38 = .ok (.aload_n 0, 1) := by decide +kernel
theorem dX0_paid_39 : decode mi_X0_paid.2.1 39 = .ok (.iconst 5, 1) := by decide +kernel
theorem dX0_paid_40 : decode mi_X0_paid.2.1 40 = .ok (.invokevirtual 205, 3) := by decide +kernel
theorem dX0_paid_43 : decode mi_X0_paid.2.1 43 = .ok (.i2l, 1) := by decide +kernel
theorem dX0_paid_44 : decode mi_X0_paid.2.1 44 = .ok (.lreturn, 1) := by decide +kernel
theorem dX0_paid_45 : decode mi_X0_paid.2.1 45 = .ok (.aload_n 0, 1) := by decide +kernel
theorem dX0_paid_46 : decode mi_X0_paid.2.1 46 = .ok (.iload 4, 2) := by decide +kernel
theorem dX0_paid_48 : decode mi_X0_paid.2.1 48 = .ok (.invokevirtual 387, 3) := by decide +kernel
theorem dX0_paid_51 : decode mi_X0_paid.2.1 51 = .ok (.aload_n 0, 1) := by decide +kernel
theorem dX0_paid_52 : decode mi_X0_paid.2.1 52 = .ok (.iload_n 3, 1) := by decide +kernel
theorem dX0_paid_53 : decode mi_X0_paid.2.1 53 = .ok (.ifCond .ne 17, 3) := by decide +kernel
theorem dX0_paid_56 : decode mi_X0_paid.2.1 56 = .ok (.aload_n 0, 1) := by decide +kernel
theorem dX0_paid_57 : decode mi_X0_paid.2.1 57 = .ok (.getfield 49, 3) := by decide +kernel
theorem dX0_paid_60 : decode mi_X0_paid.2.1 60 = .ok (.getfield 468, 3) := by decide +kernel
theorem dX0_paid_63 : decode mi_X0_paid.2.1 63 = .ok (.iload_n 2, 1) := by decide +kernel
theorem dX0_paid_64 : decode mi_X0_paid.2.1 64 = .ok (.aaload, 1) := by decide +kernel
theorem dX0_paid_65 : decode mi_X0_paid.2.1 65 = .ok (.iload_n 1, 1) := by decide +kernel
theorem dX0_paid_66 : decode mi_X0_paid.2.1 66 = .ok (.laload, 1) := by decide +kernel
theorem dX0_paid_67 : decode mi_X0_paid.2.1 67 = .ok (.goto 32, 3) := by decide +kernel
theorem dX0_paid_70 : decode mi_X0_paid.2.1 70 = .ok (.iload_n 3, 1) := by decide +kernel
theorem dX0_paid_71 : decode mi_X0_paid.2.1 71 = .ok (.iconst 1, 1) := by decide +kernel
theorem dX0_paid_72 : decode mi_X0_paid.2.1 72 = .ok (.if_icmp .ne 12, 3) := by decide +kernel
theorem dX0_paid_75 : decode mi_X0_paid.2.1 75 = .ok (.aload_n 0, 1) := by decide +kernel
theorem dX0_paid_76 : decode mi_X0_paid.2.1 76 = .ok (.iload_n 2, 1) := by decide +kernel
theorem dX0_paid_77 : decode mi_X0_paid.2.1 77 = .ok (.iload_n 1, 1) := by decide +kernel
theorem dX0_paid_78 : decode mi_X0_paid.2.1 78 = .ok (.invokevirtual 484, 3) := by decide +kernel
theorem dX0_paid_81 : decode mi_X0_paid.2.1 81 = .ok (.goto 18, 3) := by decide +kernel
theorem dX0_paid_84 : decode mi_X0_paid.2.1 84 = .ok (.aload_n 0, 1) := by decide +kernel
theorem dX0_paid_85 : decode mi_X0_paid.2.1 85 = .ok (.getfield 49, 3) := by decide +kernel
theorem dX0_paid_88 : decode mi_X0_paid.2.1 88 = .ok (.getfield 476, 3) := by decide +kernel
theorem dX0_paid_91 : decode mi_X0_paid.2.1 91 = .ok (.iload_n 2, 1) := by decide +kernel
theorem dX0_paid_92 : decode mi_X0_paid.2.1 92 = .ok (.aaload, 1) := by decide +kernel
theorem dX0_paid_93 : decode mi_X0_paid.2.1 93 = .ok (.iload_n 1, 1) := by decide +kernel
theorem dX0_paid_94 : decode mi_X0_paid.2.1 94 = .ok (.aaload, 1) := by decide +kernel
theorem dX0_paid_95 : decode mi_X0_paid.2.1 95 = .ok (.getfield 379, 3) := by decide +kernel
theorem dX0_paid_98 : decode mi_X0_paid.2.1 98 = .ok (.i2l, 1) := by decide +kernel
theorem dX0_paid_99 : decode mi_X0_paid.2.1 99 = .ok (.invokevirtual 508, 3) := by decide +kernel
theorem dX0_paid_102 : decode mi_X0_paid.2.1 102 = .ok (.lreturn, 1) := by decide +kernel
theorem v_X0_paid {G : ma_G} {d : Nat} {a0 : Nat} {x1 : Int32} {x2 : Int32} {x3 : Int32} {x4 : Int32} {h : ah_T} {Q : Option ma_V → ah_T → Prop} {E : Nat → ah_T → Prop} (La0_h : LY0 h a0) (H : (x2 < 0 → ∀ h2 : ah_T, h2 = ah_wI h a0 20 (2 : Int32) → ah_ext h h2 → Q (some (jv (-1 : Int32).toInt64)) h2) ∧ (¬ x2 < 0 → ((6 : Int32) ≤ x2 → ∀ h4 : ah_T, h4 = ah_wI h a0 20 (2 : Int32) → ah_ext h h4 → Q (some (jv (-1 : Int32).toInt64)) h4) ∧ (¬ (6 : Int32) ≤ x2 → (x1 < 0 → ∀ h6 : ah_T, h6 = ah_wI h a0 20 (5 : Int32) → ah_ext h h6 → Q (some (jv (-1 : Int32).toInt64)) h6) ∧ (¬ x1 < 0 → ((10 : Int32) ≤ x1 → ∀ h8 : ah_T, h8 = ah_wI h a0 20 (5 : Int32) → ah_ext h h8 → Q (some (jv (-1 : Int32).toInt64)) h8) ∧ (¬ (10 : Int32) ≤ x1 → (x3 < 0 → ∀ h10 : ah_T, h10 = ah_wI h a0 20 (5 : Int32) → ah_ext h h10 → Q (some (jv (-1 : Int32).toInt64)) h10) ∧ (¬ x3 < 0 → ((2 : Int32) < x3 → ∀ h12 : ah_T, h12 = ah_wI h a0 20 (5 : Int32) → ah_ext h h12 → Q (some (jv (-1 : Int32).toInt64)) h12) ∧ (¬ (2 : Int32) < x3 → (x4 < 0 → ∀ h14 : ah_T, h14 = ah_wI h a0 20 (5 : Int32) → ah_ext h h14 → Q (some (jv (-1 : Int32).toInt64)) h14) ∧ (¬ x4 < 0 → ((520 : Int32) ≤ x4 → ∀ h16 : ah_T, h16 = ah_wI h a0 20 (5 : Int32) → ah_ext h h16 → Q (some (jv (-1 : Int32).toInt64)) h16) ∧ (¬ (520 : Int32) ≤ x4 → MX G mi_X0_plays d 0 [some (rv a0), some (iv x4), none] [] h (Qv fun h17 => ah_ext h h17 → (¬ x3 = 0 → (¬ x3 = (1 : Int32) → vp_in x2 6 ∧ vp_in x1 10 ∧ ∀ h23 : ah_T, h23 = ah_wI h17 a0 20 (0 : Int32) → ah_ext h17 h23 → Q (some (jv (ah_I h17 (a0 + (126 + 22 * (10 * x2.toNatClampNeg + x1.toNatClampNeg))) 1).toInt64)) h23) ∧ (x3 = (1 : Int32) → MX G mi_X0_heldOf d 0 [some (rv a0), some (iv x2), some (iv x1), none] [] h17 (Ql fun r25 h24 => ah_ext h17 h24 → ∀ h26 : ah_T, h26 = ah_wI h24 a0 20 (0 : Int32) → ah_ext h24 h26 → Q (some (jv r25)) h26) E)) ∧ (x3 = 0 → vp_in x2 6 ∧ vp_in x1 10 ∧ ∀ h29 : ah_T, h29 = ah_wI h17 a0 20 (0 : Int32) → ah_ext h17 h29 → Q (some (jv (ah_J h17 (a0 + (90 + x2.toNatClampNeg)) x1.toNatClampNeg))) h29)) E))))))))) : MX G mi_X0_paid (d + 1) 0 [some (rv a0), some (iv x1), some (iv x2), some (iv x3), some (iv x4)] [] h Q E := by
  refine mx_iload_n dX0_paid_0 rfl rfl ?_
  refine mx_callS (y' := mi_X0_isGrade) (vs := [iv x2]) (st := []) (al' := [some (iv x2)]) S_X0_isGrade q893 dX0_paid_1 rfl rfl (Nat.le_of_ble_eq_true rfl) (Nat.le_of_ble_eq_true rfl) ?_
  refine mx_iload_n dX0_isGrade_0 rfl rfl ?_
  refine mx_if_lt (tgt := 14) dX0_isGrade_1 rfl (fun c1 => ?_) (fun c1 => ?_)
  · have H := H.1 c1
    refine mx_iconst dX0_isGrade_14 ic_0 ?_
    refine mx_zretK rfl dX0_isGrade_15 (Or.inl rfl) ?_
    refine mx_if_ne (tgt := 14) dX0_paid_4 rfl (fun _ => absurd ‹_› (by decide)) (fun _ => ?_)
    refine mx_aload_n dX0_paid_7 rfl rfl ?_
    refine mx_iconst dX0_paid_8 ic_2 ?_
    refine mx_callV 0 (y' := mi_X0_none) (vs := [iv (2 : Int32)]) (st := []) (al' := [some (rv a0), some (iv (2 : Int32))]) cl_0 V_X0_none (Or.inl q733) dX0_paid_9 rfl rfl (Nat.le_of_ble_eq_true rfl) (Nat.le_of_ble_eq_true rfl) (ly0_k La0_h) ?_
    refine mx_aload_n dX0_none_0 rfl rfl ?_
    refine mx_iload_n dX0_none_1 rfl rfl ?_
    refine mx_putI 0 20 (ref := "PrairiePool") cl_0 (Nat.le_of_ble_eq_true rfl) (Or.inl q480) (Or.inl rfl) dX0_none_2 (Or.inl rfl) rfl (ly0_k La0_h) ?_
    refine mx_nmI  (fun h2 eh2 Xh2 Kh2 Lh2 => ?_)
    have H := H h2 eh2 Xh2
    have La0_h2 := La0_h.ext Xh2
    refine mx_iconst dX0_none_5 ic_m1 ?_
    refine mx_iretK rfl dX0_none_6 ?_
    refine mx_i2l dX0_paid_12 ?_
    exact mx_lret rfl dX0_paid_13 H
  · have H := H.2 c1
    refine mx_iload_n dX0_isGrade_4 rfl rfl ?_
    refine mx_bipush dX0_isGrade_5 ib_6 ?_
    refine mx_icmp_ge (tgt := 14) dX0_isGrade_7 rfl (fun c3 => ?_) (fun c3 => ?_)
    · have H := H.1 c3
      refine mx_iconst dX0_isGrade_14 ic_0 ?_
      refine mx_zretK rfl dX0_isGrade_15 (Or.inl rfl) ?_
      refine mx_if_ne (tgt := 14) dX0_paid_4 rfl (fun _ => absurd ‹_› (by decide)) (fun _ => ?_)
      refine mx_aload_n dX0_paid_7 rfl rfl ?_
      refine mx_iconst dX0_paid_8 ic_2 ?_
      refine mx_callV 0 (y' := mi_X0_none) (vs := [iv (2 : Int32)]) (st := []) (al' := [some (rv a0), some (iv (2 : Int32))]) cl_0 V_X0_none (Or.inl q733) dX0_paid_9 rfl rfl (Nat.le_of_ble_eq_true rfl) (Nat.le_of_ble_eq_true rfl) (ly0_k La0_h) ?_
      refine mx_aload_n dX0_none_0 rfl rfl ?_
      refine mx_iload_n dX0_none_1 rfl rfl ?_
      refine mx_putI 0 20 (ref := "PrairiePool") cl_0 (Nat.le_of_ble_eq_true rfl) (Or.inl q480) (Or.inl rfl) dX0_none_2 (Or.inl rfl) rfl (ly0_k La0_h) ?_
      refine mx_nmI  (fun h4 eh4 Xh4 Kh4 Lh4 => ?_)
      have H := H h4 eh4 Xh4
      have La0_h4 := La0_h.ext Xh4
      refine mx_iconst dX0_none_5 ic_m1 ?_
      refine mx_iretK rfl dX0_none_6 ?_
      refine mx_i2l dX0_paid_12 ?_
      exact mx_lret rfl dX0_paid_13 H
    · have H := H.2 c3
      refine mx_iconst dX0_isGrade_10 ic_1 ?_
      refine mx_goto (tgt := 15) dX0_isGrade_11 rfl ?_
      refine mx_zretK rfl dX0_isGrade_15 (Or.inr rfl) ?_
      refine mx_if_ne (tgt := 14) dX0_paid_4 rfl (fun _ => ?_) (fun _ => absurd ‹_› (by decide))
      refine mx_iload_n dX0_paid_14 rfl rfl ?_
      refine mx_callS (y' := mi_X0_isYear) (vs := [iv x1]) (st := []) (al' := [some (iv x1)]) S_X0_isYear q896 dX0_paid_15 rfl rfl (Nat.le_of_ble_eq_true rfl) (Nat.le_of_ble_eq_true rfl) ?_
      refine mx_iload_n dX0_isYear_0 rfl rfl ?_
      refine mx_if_lt (tgt := 14) dX0_isYear_1 rfl (fun c5 => ?_) (fun c5 => ?_)
      · have H := H.1 c5
        refine mx_iconst dX0_isYear_14 ic_0 ?_
        refine mx_zretK rfl dX0_isYear_15 (Or.inl rfl) ?_
        refine mx_if_eq (tgt := 38) dX0_paid_18 rfl (fun _ => ?_) (fun _ => absurd ‹_› (by decide))
        refine mx_aload_n dX0_paid_38 rfl rfl ?_
        refine mx_iconst dX0_paid_39 ic_5 ?_
        refine mx_callV 0 (y' := mi_X0_none) (vs := [iv (5 : Int32)]) (st := []) (al' := [some (rv a0), some (iv (5 : Int32))]) cl_0 V_X0_none (Or.inl q733) dX0_paid_40 rfl rfl (Nat.le_of_ble_eq_true rfl) (Nat.le_of_ble_eq_true rfl) (ly0_k La0_h) ?_
        refine mx_aload_n dX0_none_0 rfl rfl ?_
        refine mx_iload_n dX0_none_1 rfl rfl ?_
        refine mx_putI 0 20 (ref := "PrairiePool") cl_0 (Nat.le_of_ble_eq_true rfl) (Or.inl q480) (Or.inl rfl) dX0_none_2 (Or.inl rfl) rfl (ly0_k La0_h) ?_
        refine mx_nmI  (fun h6 eh6 Xh6 Kh6 Lh6 => ?_)
        have H := H h6 eh6 Xh6
        have La0_h6 := La0_h.ext Xh6
        refine mx_iconst dX0_none_5 ic_m1 ?_
        refine mx_iretK rfl dX0_none_6 ?_
        refine mx_i2l dX0_paid_43 ?_
        exact mx_lret rfl dX0_paid_44 H
      · have H := H.2 c5
        refine mx_iload_n dX0_isYear_4 rfl rfl ?_
        refine mx_bipush dX0_isYear_5 ib_10 ?_
        refine mx_icmp_ge (tgt := 14) dX0_isYear_7 rfl (fun c7 => ?_) (fun c7 => ?_)
        · have H := H.1 c7
          refine mx_iconst dX0_isYear_14 ic_0 ?_
          refine mx_zretK rfl dX0_isYear_15 (Or.inl rfl) ?_
          refine mx_if_eq (tgt := 38) dX0_paid_18 rfl (fun _ => ?_) (fun _ => absurd ‹_› (by decide))
          refine mx_aload_n dX0_paid_38 rfl rfl ?_
          refine mx_iconst dX0_paid_39 ic_5 ?_
          refine mx_callV 0 (y' := mi_X0_none) (vs := [iv (5 : Int32)]) (st := []) (al' := [some (rv a0), some (iv (5 : Int32))]) cl_0 V_X0_none (Or.inl q733) dX0_paid_40 rfl rfl (Nat.le_of_ble_eq_true rfl) (Nat.le_of_ble_eq_true rfl) (ly0_k La0_h) ?_
          refine mx_aload_n dX0_none_0 rfl rfl ?_
          refine mx_iload_n dX0_none_1 rfl rfl ?_
          refine mx_putI 0 20 (ref := "PrairiePool") cl_0 (Nat.le_of_ble_eq_true rfl) (Or.inl q480) (Or.inl rfl) dX0_none_2 (Or.inl rfl) rfl (ly0_k La0_h) ?_
          refine mx_nmI  (fun h8 eh8 Xh8 Kh8 Lh8 => ?_)
          have H := H h8 eh8 Xh8
          have La0_h8 := La0_h.ext Xh8
          refine mx_iconst dX0_none_5 ic_m1 ?_
          refine mx_iretK rfl dX0_none_6 ?_
          refine mx_i2l dX0_paid_43 ?_
          exact mx_lret rfl dX0_paid_44 H
        · have H := H.2 c7
          refine mx_iconst dX0_isYear_10 ic_1 ?_
          refine mx_goto (tgt := 15) dX0_isYear_11 rfl ?_
          refine mx_zretK rfl dX0_isYear_15 (Or.inr rfl) ?_
          refine mx_if_eq (tgt := 38) dX0_paid_18 rfl (fun _ => absurd ‹_› (by decide)) (fun _ => ?_)
          refine mx_iload_n dX0_paid_21 rfl rfl ?_
          refine mx_if_lt (tgt := 38) dX0_paid_22 rfl (fun c9 => ?_) (fun c9 => ?_)
          · have H := H.1 c9
            refine mx_aload_n dX0_paid_38 rfl rfl ?_
            refine mx_iconst dX0_paid_39 ic_5 ?_
            refine mx_callV 0 (y' := mi_X0_none) (vs := [iv (5 : Int32)]) (st := []) (al' := [some (rv a0), some (iv (5 : Int32))]) cl_0 V_X0_none (Or.inl q733) dX0_paid_40 rfl rfl (Nat.le_of_ble_eq_true rfl) (Nat.le_of_ble_eq_true rfl) (ly0_k La0_h) ?_
            refine mx_aload_n dX0_none_0 rfl rfl ?_
            refine mx_iload_n dX0_none_1 rfl rfl ?_
            refine mx_putI 0 20 (ref := "PrairiePool") cl_0 (Nat.le_of_ble_eq_true rfl) (Or.inl q480) (Or.inl rfl) dX0_none_2 (Or.inl rfl) rfl (ly0_k La0_h) ?_
            refine mx_nmI  (fun h10 eh10 Xh10 Kh10 Lh10 => ?_)
            have H := H h10 eh10 Xh10
            have La0_h10 := La0_h.ext Xh10
            refine mx_iconst dX0_none_5 ic_m1 ?_
            refine mx_iretK rfl dX0_none_6 ?_
            refine mx_i2l dX0_paid_43 ?_
            exact mx_lret rfl dX0_paid_44 H
          · have H := H.2 c9
            refine mx_iload_n dX0_paid_25 rfl rfl ?_
            refine mx_iconst dX0_paid_26 ic_2 ?_
            refine mx_icmp_gt (tgt := 38) dX0_paid_27 rfl (fun c11 => ?_) (fun c11 => ?_)
            · have H := H.1 c11
              refine mx_aload_n dX0_paid_38 rfl rfl ?_
              refine mx_iconst dX0_paid_39 ic_5 ?_
              refine mx_callV 0 (y' := mi_X0_none) (vs := [iv (5 : Int32)]) (st := []) (al' := [some (rv a0), some (iv (5 : Int32))]) cl_0 V_X0_none (Or.inl q733) dX0_paid_40 rfl rfl (Nat.le_of_ble_eq_true rfl) (Nat.le_of_ble_eq_true rfl) (ly0_k La0_h) ?_
              refine mx_aload_n dX0_none_0 rfl rfl ?_
              refine mx_iload_n dX0_none_1 rfl rfl ?_
              refine mx_putI 0 20 (ref := "PrairiePool") cl_0 (Nat.le_of_ble_eq_true rfl) (Or.inl q480) (Or.inl rfl) dX0_none_2 (Or.inl rfl) rfl (ly0_k La0_h) ?_
              refine mx_nmI  (fun h12 eh12 Xh12 Kh12 Lh12 => ?_)
              have H := H h12 eh12 Xh12
              have La0_h12 := La0_h.ext Xh12
              refine mx_iconst dX0_none_5 ic_m1 ?_
              refine mx_iretK rfl dX0_none_6 ?_
              refine mx_i2l dX0_paid_43 ?_
              exact mx_lret rfl dX0_paid_44 H
            · have H := H.2 c11
              refine mx_iload dX0_paid_30 rfl ?_
              refine mx_callS (y' := mi_X0_isWeek) (vs := [iv x4]) (st := []) (al' := [some (iv x4)]) S_X0_isWeek q841 dX0_paid_32 rfl rfl (Nat.le_of_ble_eq_true rfl) (Nat.le_of_ble_eq_true rfl) ?_
              refine mx_iload_n dX0_isWeek_0 rfl rfl ?_
              refine mx_if_lt (tgt := 15) dX0_isWeek_1 rfl (fun c13 => ?_) (fun c13 => ?_)
              · have H := H.1 c13
                refine mx_iconst dX0_isWeek_15 ic_0 ?_
                refine mx_zretK rfl dX0_isWeek_16 (Or.inl rfl) ?_
                refine mx_if_ne (tgt := 45) dX0_paid_35 rfl (fun _ => absurd ‹_› (by decide)) (fun _ => ?_)
                refine mx_aload_n dX0_paid_38 rfl rfl ?_
                refine mx_iconst dX0_paid_39 ic_5 ?_
                refine mx_callV 0 (y' := mi_X0_none) (vs := [iv (5 : Int32)]) (st := []) (al' := [some (rv a0), some (iv (5 : Int32))]) cl_0 V_X0_none (Or.inl q733) dX0_paid_40 rfl rfl (Nat.le_of_ble_eq_true rfl) (Nat.le_of_ble_eq_true rfl) (ly0_k La0_h) ?_
                refine mx_aload_n dX0_none_0 rfl rfl ?_
                refine mx_iload_n dX0_none_1 rfl rfl ?_
                refine mx_putI 0 20 (ref := "PrairiePool") cl_0 (Nat.le_of_ble_eq_true rfl) (Or.inl q480) (Or.inl rfl) dX0_none_2 (Or.inl rfl) rfl (ly0_k La0_h) ?_
                refine mx_nmI  (fun h14 eh14 Xh14 Kh14 Lh14 => ?_)
                have H := H h14 eh14 Xh14
                have La0_h14 := La0_h.ext Xh14
                refine mx_iconst dX0_none_5 ic_m1 ?_
                refine mx_iretK rfl dX0_none_6 ?_
                refine mx_i2l dX0_paid_43 ?_
                exact mx_lret rfl dX0_paid_44 H
              · have H := H.2 c13
                refine mx_iload_n dX0_isWeek_4 rfl rfl ?_
                refine mx_sipush dX0_isWeek_5 is_520 ?_
                refine mx_icmp_ge (tgt := 15) dX0_isWeek_8 rfl (fun c15 => ?_) (fun c15 => ?_)
                · have H := H.1 c15
                  refine mx_iconst dX0_isWeek_15 ic_0 ?_
                  refine mx_zretK rfl dX0_isWeek_16 (Or.inl rfl) ?_
                  refine mx_if_ne (tgt := 45) dX0_paid_35 rfl (fun _ => absurd ‹_› (by decide)) (fun _ => ?_)
                  refine mx_aload_n dX0_paid_38 rfl rfl ?_
                  refine mx_iconst dX0_paid_39 ic_5 ?_
                  refine mx_callV 0 (y' := mi_X0_none) (vs := [iv (5 : Int32)]) (st := []) (al' := [some (rv a0), some (iv (5 : Int32))]) cl_0 V_X0_none (Or.inl q733) dX0_paid_40 rfl rfl (Nat.le_of_ble_eq_true rfl) (Nat.le_of_ble_eq_true rfl) (ly0_k La0_h) ?_
                  refine mx_aload_n dX0_none_0 rfl rfl ?_
                  refine mx_iload_n dX0_none_1 rfl rfl ?_
                  refine mx_putI 0 20 (ref := "PrairiePool") cl_0 (Nat.le_of_ble_eq_true rfl) (Or.inl q480) (Or.inl rfl) dX0_none_2 (Or.inl rfl) rfl (ly0_k La0_h) ?_
                  refine mx_nmI  (fun h16 eh16 Xh16 Kh16 Lh16 => ?_)
                  have H := H h16 eh16 Xh16
                  have La0_h16 := La0_h.ext Xh16
                  refine mx_iconst dX0_none_5 ic_m1 ?_
                  refine mx_iretK rfl dX0_none_6 ?_
                  refine mx_i2l dX0_paid_43 ?_
                  exact mx_lret rfl dX0_paid_44 H
                · have H := H.2 c15
                  refine mx_iconst dX0_isWeek_11 ic_1 ?_
                  refine mx_goto (tgt := 16) dX0_isWeek_12 rfl ?_
                  refine mx_zretK rfl dX0_isWeek_16 (Or.inr rfl) ?_
                  refine mx_if_ne (tgt := 45) dX0_paid_35 rfl (fun _ => ?_) (fun _ => absurd ‹_› (by decide))
                  refine mx_aload_n dX0_paid_45 rfl rfl ?_
                  refine mx_iload dX0_paid_46 rfl ?_
                  refine mx_callV 0 (y' := mi_X0_plays) (vs := [iv x4]) (st := []) (al' := [some (rv a0), some (iv x4), none]) cl_0 V_X0_plays (Or.inl q1069) dX0_paid_48 rfl rfl (Nat.le_of_ble_eq_true rfl) (Nat.le_of_ble_eq_true rfl) (ly0_k La0_h) ?_
                  refine ma_kv H (fun h17 Xh17 H => ?_) (fun x1 h1 X1 H => mt_out rfl H)
                  have H := H Xh17
                  have La0_h17 := La0_h.ext Xh17
                  refine mx_aload_n dX0_paid_51 rfl rfl ?_
                  refine mx_iload_n dX0_paid_52 rfl rfl ?_
                  refine mx_if_ne (tgt := 70) dX0_paid_53 rfl (fun c19 => ?_) (fun c19 => ?_)
                  · have H := H.1 c19
                    refine mx_iload_n dX0_paid_70 rfl rfl ?_
                    refine mx_iconst dX0_paid_71 ic_1 ?_
                    refine mx_icmp_ne (tgt := 84) dX0_paid_72 rfl (fun c20 => ?_) (fun c20 => ?_)
                    · have H := H.1 c20
                      refine mx_aload_n dX0_paid_84 rfl rfl ?_
                      refine mx_get 0 8 (ref := "PrairiePool") cl_0 (Nat.le_of_ble_eq_true rfl) (Or.inl q468) (Or.inl rfl) dX0_paid_85 (fv_0_8 _ _) (ly0_k La0_h17) ?_
                      refine mx_tr (ly0_R_0_8 La0_h17) ?_
                      refine mx_get 1 2 (ref := "PrairiePool$Play") cl_1 (Nat.le_of_ble_eq_true rfl) (Or.inr ⟨_, q233⟩) (Or.inl rfl) dX0_paid_88 (fv_1_2 _ _) (ly0_K_9 La0_h17) ?_
                      refine mx_tr (ly0_R_9_2 La0_h17) ?_
                      refine mx_iload_n dX0_paid_91 rfl rfl ?_
                      obtain ⟨k21, H⟩ := H
                      refine my_aald 12 dX0_paid_92 (by decide) rfl (ly0_A_82 La0_h17 k21) ?_
                      refine mx_tr (ly0_G1_82 La0_h17 (vp_lt k21)) ?_
                      refine mx_iload_n dX0_paid_93 rfl rfl ?_
                      obtain ⟨k22, H⟩ := H
                      refine my_aald 11 dX0_paid_94 (by decide) rfl ⟨(ly0_K1_82 La0_h17 (vp_lt k21)), by rw [ly0_N1_82 La0_h17 (vp_lt k21)]; exact k22⟩ ?_
                      refine mx_tr (ly0_G2_82 La0_h17 (vp_lt k21) (vp_lt k22)) ?_
                      refine mx_get 3 1 (ref := "PrairiePool$Heap") cl_3 (Nat.le_of_ble_eq_true rfl) (Or.inr ⟨_, q217⟩) (Or.inl rfl) dX0_paid_95 (fv_3_1 _ _) (ly3_k (ly0_H2_82 La0_h17 (vp_lt k21) (vp_lt k22))) ?_
                      refine mx_i2l dX0_paid_98 ?_
                      refine mx_callV 0 (y' := mi_X0_givesLong) (vs := [jv (ah_I h17 (a0 + (126 + 22 * (10 * x2.toNatClampNeg + x1.toNatClampNeg))) 1).toInt64]) (st := []) (al' := [some (rv a0), some (jv (ah_I h17 (a0 + (126 + 22 * (10 * x2.toNatClampNeg + x1.toNatClampNeg))) 1).toInt64), none]) cl_0 V_X0_givesLong (Or.inl q1471) dX0_paid_99 rfl rfl (Nat.le_of_ble_eq_true rfl) (Nat.le_of_ble_eq_true rfl) (ly0_k La0_h17) ?_
                      refine mx_aload_n dX0_givesLong_0 rfl rfl ?_
                      refine mx_iconst dX0_givesLong_1 ic_0 ?_
                      refine mx_putI 0 20 (ref := "PrairiePool") cl_0 (Nat.le_of_ble_eq_true rfl) (Or.inl q480) (Or.inl rfl) dX0_givesLong_2 (Or.inl rfl) rfl (ly0_k La0_h17) ?_
                      refine mx_nmI  (fun h23 eh23 Xh23 Kh23 Lh23 => ?_)
                      have H := H h23 eh23 Xh23
                      have La0_h23 := La0_h17.ext Xh23
                      refine mx_lload_n dX0_givesLong_5 rfl rfl ?_
                      refine mx_lretK rfl dX0_givesLong_6 ?_
                      exact mx_lret rfl dX0_paid_102 H
                    · have H := H.2 c20
                      refine mx_aload_n dX0_paid_75 rfl rfl ?_
                      refine mx_iload_n dX0_paid_76 rfl rfl ?_
                      refine mx_iload_n dX0_paid_77 rfl rfl ?_
                      refine mx_callV 0 (y' := mi_X0_heldOf) (vs := [iv x2, iv x1]) (st := [rv a0]) (al' := [some (rv a0), some (iv x2), some (iv x1), none]) cl_0 V_X0_heldOf (Or.inl q1466) dX0_paid_78 rfl rfl (Nat.le_of_ble_eq_true rfl) (Nat.le_of_ble_eq_true rfl) (ly0_k La0_h17) ?_
                      refine ma_kl H (fun r25 h24 Xh24 H => ?_) (fun x1 h1 X1 H => mt_out rfl H)
                      have H := H Xh24
                      have La0_h24 := La0_h17.ext Xh24
                      refine mx_goto (tgt := 99) dX0_paid_81 rfl ?_
                      refine mx_callV 0 (y' := mi_X0_givesLong) (vs := [jv r25]) (st := []) (al' := [some (rv a0), some (jv r25), none]) cl_0 V_X0_givesLong (Or.inl q1471) dX0_paid_99 rfl rfl (Nat.le_of_ble_eq_true rfl) (Nat.le_of_ble_eq_true rfl) (ly0_k La0_h24) ?_
                      refine mx_aload_n dX0_givesLong_0 rfl rfl ?_
                      refine mx_iconst dX0_givesLong_1 ic_0 ?_
                      refine mx_putI 0 20 (ref := "PrairiePool") cl_0 (Nat.le_of_ble_eq_true rfl) (Or.inl q480) (Or.inl rfl) dX0_givesLong_2 (Or.inl rfl) rfl (ly0_k La0_h24) ?_
                      refine mx_nmI  (fun h26 eh26 Xh26 Kh26 Lh26 => ?_)
                      have H := H h26 eh26 Xh26
                      have La0_h26 := La0_h24.ext Xh26
                      refine mx_lload_n dX0_givesLong_5 rfl rfl ?_
                      refine mx_lretK rfl dX0_givesLong_6 ?_
                      exact mx_lret rfl dX0_paid_102 H
                  · have H := H.2 c19
                    refine mx_aload_n dX0_paid_56 rfl rfl ?_
                    refine mx_get 0 8 (ref := "PrairiePool") cl_0 (Nat.le_of_ble_eq_true rfl) (Or.inl q468) (Or.inl rfl) dX0_paid_57 (fv_0_8 _ _) (ly0_k La0_h17) ?_
                    refine mx_tr (ly0_R_0_8 La0_h17) ?_
                    refine mx_get 1 3 (ref := "PrairiePool$Play") cl_1 (Nat.le_of_ble_eq_true rfl) (Or.inr ⟨_, q236⟩) (Or.inl rfl) dX0_paid_60 (fv_1_3 _ _) (ly0_K_9 La0_h17) ?_
                    refine mx_tr (ly0_R_9_3 La0_h17) ?_
                    refine mx_iload_n dX0_paid_63 rfl rfl ?_
                    obtain ⟨k27, H⟩ := H
                    refine my_aald 15 dX0_paid_64 (by decide) rfl (ly0_A_89 La0_h17 k27) ?_
                    refine mx_tr (ly0_G1_89 La0_h17 (vp_lt k27)) ?_
                    refine mx_iload_n dX0_paid_65 rfl rfl ?_
                    obtain ⟨k28, H⟩ := H
                    refine my_lald dX0_paid_66 rfl ⟨(ly0_K1_89 La0_h17 (vp_lt k27)), by rw [ly0_N1_89 La0_h17 (vp_lt k27)]; exact k28⟩ ?_
                    refine mx_goto (tgt := 99) dX0_paid_67 rfl ?_
                    refine mx_callV 0 (y' := mi_X0_givesLong) (vs := [jv (ah_J h17 (a0 + (90 + x2.toNatClampNeg)) x1.toNatClampNeg)]) (st := []) (al' := [some (rv a0), some (jv (ah_J h17 (a0 + (90 + x2.toNatClampNeg)) x1.toNatClampNeg)), none]) cl_0 V_X0_givesLong (Or.inl q1471) dX0_paid_99 rfl rfl (Nat.le_of_ble_eq_true rfl) (Nat.le_of_ble_eq_true rfl) (ly0_k La0_h17) ?_
                    refine mx_aload_n dX0_givesLong_0 rfl rfl ?_
                    refine mx_iconst dX0_givesLong_1 ic_0 ?_
                    refine mx_putI 0 20 (ref := "PrairiePool") cl_0 (Nat.le_of_ble_eq_true rfl) (Or.inl q480) (Or.inl rfl) dX0_givesLong_2 (Or.inl rfl) rfl (ly0_k La0_h17) ?_
                    refine mx_nmI  (fun h29 eh29 Xh29 Kh29 Lh29 => ?_)
                    have H := H h29 eh29 Xh29
                    have La0_h29 := La0_h17.ext Xh29
                    refine mx_lload_n dX0_givesLong_5 rfl rfl ?_
                    refine mx_lretK rfl dX0_givesLong_6 ?_
                    exact mx_lret rfl dX0_paid_102 H
theorem dX0_heldOf_0 : decode mi_X0_heldOf.2.1 0 = .ok (.aload_n 0, 1) := by decide +kernel
theorem dX0_heldOf_1 : decode mi_X0_heldOf.2.1 1 = .ok (.aload_n 0, 1) := by decide +kernel
theorem dX0_heldOf_2 : decode mi_X0_heldOf.2.1 2 = .ok (.bipush 52, 2) := by decide +kernel
theorem dX0_heldOf_4 : decode mi_X0_heldOf.2.1 4 = .ok (.iload_n 2, 1) := by decide +kernel
theorem dX0_heldOf_5 : decode mi_X0_heldOf.2.1 5 = .ok (.imul, 1) := by decide +kernel
theorem dX0_heldOf_6 : decode mi_X0_heldOf.2.1 6 = .ok (.bipush 51, 2) := by decide +kernel
theorem dX0_heldOf_8 : decode mi_X0_heldOf.2.1 8 = .ok (.iadd, 1) := by decide +kernel
theorem dX0_heldOf_9 : decode mi_X0_heldOf.2.1 9 = .ok (.invokevirtual 331, 3) := by decide +kernel
theorem dX0_heldOf_12 : decode mi_X0_heldOf.2.1 12 = .ok (.putfield 335, 3) := by decide +kernel
theorem dX0_heldOf_15 : decode mi_X0_heldOf.2.1 15 = .ok (.aload_n 0, 1) := by decide +kernel
theorem dX0_heldOf_16 : decode mi_X0_heldOf.2.1 16 = .ok (.invokevirtual 339, 3) := by decide +kernel
theorem dX0_heldOf_19 : decode mi_X0_heldOf.2.1 19 = .ok (.astore_n 3, 1) := by decide +kernel
theorem dX0_heldOf_20 : decode mi_X0_heldOf.2.1 20 = .ok (.aload_n 3, 1) := by decide +kernel
theorem dX0_heldOf_21 : decode mi_X0_heldOf.2.1 21 = .ok (.iconst 0, 1) := by decide +kernel
theorem dX0_heldOf_22 : decode mi_X0_heldOf.2.1 22 = .ok (.iload_n 1, 1) := by decide +kernel
theorem dX0_heldOf_23 : decode mi_X0_heldOf.2.1 23 = .ok (.i2l, 1) := by decide +kernel
theorem dX0_heldOf_24 : decode mi_X0_heldOf.2.1 24 = .ok (.lastore, 1) := by decide +kernel
theorem dX0_heldOf_25 : decode mi_X0_heldOf.2.1 25 = .ok (.aload_n 3, 1) := by decide +kernel
theorem dX0_heldOf_26 : decode mi_X0_heldOf.2.1 26 = .ok (.iconst 3, 1) := by decide +kernel
theorem dX0_heldOf_27 : decode mi_X0_heldOf.2.1 27 = .ok (.iload_n 2, 1) := by decide +kernel
theorem dX0_heldOf_28 : decode mi_X0_heldOf.2.1 28 = .ok (.i2l, 1) := by decide +kernel
theorem dX0_heldOf_29 : decode mi_X0_heldOf.2.1 29 = .ok (.lastore, 1) := by decide +kernel
theorem dX0_heldOf_30 : decode mi_X0_heldOf.2.1 30 = .ok (.aload_n 0, 1) := by decide +kernel
theorem dX0_heldOf_31 : decode mi_X0_heldOf.2.1 31 = .ok (.getfield 49, 3) := by decide +kernel
theorem dX0_heldOf_34 : decode mi_X0_heldOf.2.1 34 = .ok (.getfield 468, 3) := by decide +kernel
theorem dX0_heldOf_37 : decode mi_X0_heldOf.2.1 37 = .ok (.iload_n 1, 1) := by decide +kernel
theorem dX0_heldOf_38 : decode mi_X0_heldOf.2.1 38 = .ok (.aaload, 1) := by decide +kernel
theorem dX0_heldOf_39 : decode mi_X0_heldOf.2.1 39 = .ok (.iload_n 2, 1) := by decide +kernel
theorem dX0_heldOf_40 : decode mi_X0_heldOf.2.1 40 = .ok (.laload, 1) := by decide +kernel
theorem dX0_heldOf_41 : decode mi_X0_heldOf.2.1 41 = .ok (.aload_n 0, 1) := by decide +kernel
theorem dX0_heldOf_42 : decode mi_X0_heldOf.2.1 42 = .ok (.ldc2_w 472, 3) := by decide +kernel
theorem dX0_heldOf_45 : decode mi_X0_heldOf.2.1 45 = .ok (.lconst 0, 1) := by decide +kernel
theorem dX0_heldOf_46 : decode mi_X0_heldOf.2.1 46 = .ok (.lconst 0, 1) := by decide +kernel
theorem dX0_heldOf_47 : decode mi_X0_heldOf.2.1 47 = .ok (.ldc2_w 283, 3) := by decide +kernel
theorem dX0_heldOf_50 : decode mi_X0_heldOf.2.1 50 = .ok (.invokevirtual 361, 3) := by decide +kernel
theorem dX0_heldOf_53 : decode mi_X0_heldOf.2.1 53 = .ok (.lmul, 1) := by decide +kernel
theorem dX0_heldOf_54 : decode mi_X0_heldOf.2.1 54 = .ok (.ldc2_w 283, 3) := by decide +kernel
theorem dX0_heldOf_57 : decode mi_X0_heldOf.2.1 57 = .ok (.ldiv, 1) := by decide +kernel
theorem dX0_heldOf_58 : decode mi_X0_heldOf.2.1 58 = .ok (.lreturn, 1) := by decide +kernel
theorem v_X0_heldOf {G : ma_G} {d : Nat} {a0 : Nat} {x1 : Int32} {x2 : Int32} {h : ah_T} {Q : Option ma_V → ah_T → Prop} {E : Nat → ah_T → Prop} (La0_h : LY0 h a0) (H : MX G mi_X0_lawOf d 0 [some (rv a0), some (iv (((52 : Int32) * x2) + (51 : Int32))), none, none] [] h (Qr fun r2 h1 => ah_ext h h1 → ∀ h3 : ah_T, h3 = ah_wR h1 a0 23 r2 → ah_ext h1 h3 → MX G mi_X0_clear d 0 [some (rv a0), none] [] h3 (Qr fun r5 h4 => ah_ext h3 h4 → aok h4 41 r5 (0 : Int32) ∧ ∀ h7 : ah_T, h7 = ah_wJ h4 r5 0 x1.toInt64 → ah_ext h4 h7 → aok h4 41 r5 (3 : Int32) ∧ ∀ h9 : ah_T, h9 = ah_wJ h7 r5 3 x2.toInt64 → ah_ext h7 h9 → vp_in x1 6 ∧ vp_in x2 10 ∧ MX G mi_X0_asks d 0 [some (rv a0), some (jv (1751477348 : Int64)), none, some (jv (0 : Int64)), none, some (jv (0 : Int64)), none, some (jv (1000 : Int64)), none, none] [] h9 (Ql fun r13 h12 => ah_ext h9 h12 → Q (some (jv (((ah_J h9 (a0 + (90 + x1.toNatClampNeg)) x2.toNatClampNeg) * r13) / (1000 : Int64)))) h12) E) E) E) : MX G mi_X0_heldOf (d + 1) 0 [some (rv a0), some (iv x1), some (iv x2), none] [] h Q E := by
  refine mx_aload_n dX0_heldOf_0 rfl rfl ?_
  refine mx_aload_n dX0_heldOf_1 rfl rfl ?_
  refine mx_bipush dX0_heldOf_2 ib_52 ?_
  refine mx_iload_n dX0_heldOf_4 rfl rfl ?_
  refine mx_imul dX0_heldOf_5 ?_
  refine mx_bipush dX0_heldOf_6 ib_51 ?_
  refine mx_iadd dX0_heldOf_8 ?_
  refine mx_callV 0 (y' := mi_X0_lawOf) (vs := [iv (((52 : Int32) * x2) + (51 : Int32))]) (st := [rv a0]) (al' := [some (rv a0), some (iv (((52 : Int32) * x2) + (51 : Int32))), none, none]) cl_0 V_X0_lawOf (Or.inl q994) dX0_heldOf_9 rfl rfl (Nat.le_of_ble_eq_true rfl) (Nat.le_of_ble_eq_true rfl) (ly0_k La0_h) ?_
  refine ma_kr H (fun r2 h1 Xh1 H => ?_) (fun x1 h1 X1 H => mt_out rfl H)
  have H := H Xh1
  have La0_h1 := La0_h.ext Xh1
  refine mx_putO 0 23 (ref := "PrairiePool") cl_0 (Nat.le_of_ble_eq_true rfl) (Or.inl q483) (Or.inl rfl) dX0_heldOf_12 (Or.inl rfl) rfl (Or.inl rfl) (ly0_k La0_h1) ?_
  refine mx_nmR (ah_ext.wR (Or.inl (by rw [(ly0_k La0_h1)]; rfl))) (fun h3 eh3 Xh3 Kh3 Lh3 => ?_)
  have H := H h3 eh3 Xh3
  have La0_h3 := La0_h1.ext Xh3
  refine mx_aload_n dX0_heldOf_15 rfl rfl ?_
  refine mx_callV 0 (y' := mi_X0_clear) (vs := []) (st := []) (al' := [some (rv a0), none]) cl_0 V_X0_clear (Or.inl q998) dX0_heldOf_16 rfl rfl (Nat.le_of_ble_eq_true rfl) (Nat.le_of_ble_eq_true rfl) (ly0_k La0_h3) ?_
  refine ma_kr H (fun r5 h4 Xh4 H => ?_) (fun x1 h1 X1 H => mt_out rfl H)
  have H := H Xh4
  have La0_h4 := La0_h3.ext Xh4
  refine mx_astore_n (al' := [some (rv a0), some (iv x1), some (iv x2), some (rv r5)]) dX0_heldOf_19 rfl (Nat.le_of_ble_eq_true rfl) rfl ?_
  refine mx_aload_n dX0_heldOf_20 rfl rfl ?_
  refine mx_iconst dX0_heldOf_21 ic_0 ?_
  refine mx_iload_n dX0_heldOf_22 rfl rfl ?_
  refine mx_i2l dX0_heldOf_23 ?_
  obtain ⟨k6, H⟩ := H
  refine my_last dX0_heldOf_24 cn_0 k6 ?_
  refine mx_nmJ  (fun h7 eh7 Xh7 Kh7 Lh7 => ?_)
  have H := H h7 eh7 Xh7
  have La0_h7 := La0_h4.ext Xh7
  refine mx_aload_n dX0_heldOf_25 rfl rfl ?_
  refine mx_iconst dX0_heldOf_26 ic_3 ?_
  refine mx_iload_n dX0_heldOf_27 rfl rfl ?_
  refine mx_i2l dX0_heldOf_28 ?_
  obtain ⟨k8, H⟩ := H
  refine my_last dX0_heldOf_29 cn_3 (ma_aok Kh7 Lh7 (k8)) ?_
  refine mx_nmJ  (fun h9 eh9 Xh9 Kh9 Lh9 => ?_)
  have H := H h9 eh9 Xh9
  have Kh9 := Kh9.trans Kh7
  have Lh9 := Lh9.trans Lh7
  have La0_h9 := La0_h7.ext Xh9
  refine mx_aload_n dX0_heldOf_30 rfl rfl ?_
  refine mx_get 0 8 (ref := "PrairiePool") cl_0 (Nat.le_of_ble_eq_true rfl) (Or.inl q468) (Or.inl rfl) dX0_heldOf_31 (fv_0_8 _ _) (ly0_k La0_h9) ?_
  refine mx_tr (ly0_R_0_8 La0_h9) ?_
  refine mx_get 1 3 (ref := "PrairiePool$Play") cl_1 (Nat.le_of_ble_eq_true rfl) (Or.inr ⟨_, q236⟩) (Or.inl rfl) dX0_heldOf_34 (fv_1_3 _ _) (ly0_K_9 La0_h9) ?_
  refine mx_tr (ly0_R_9_3 La0_h9) ?_
  refine mx_iload_n dX0_heldOf_37 rfl rfl ?_
  obtain ⟨k10, H⟩ := H
  refine my_aald 15 dX0_heldOf_38 (by decide) rfl (ly0_A_89 La0_h9 k10) ?_
  refine mx_tr (ly0_G1_89 La0_h9 (vp_lt k10)) ?_
  refine mx_iload_n dX0_heldOf_39 rfl rfl ?_
  obtain ⟨k11, H⟩ := H
  refine my_lald dX0_heldOf_40 rfl ⟨(ly0_K1_89 La0_h9 (vp_lt k10)), by rw [ly0_N1_89 La0_h9 (vp_lt k10)]; exact k11⟩ ?_
  refine mx_aload_n dX0_heldOf_41 rfl rfl ?_
  refine mx_ldc2 q1470 dX0_heldOf_42 ?_
  refine mx_lconst dX0_heldOf_45 lc_0 ?_
  refine mx_lconst dX0_heldOf_46 lc_0 ?_
  refine mx_ldc2 q836 dX0_heldOf_47 ?_
  refine mx_callV 0 (y' := mi_X0_asks) (vs := [jv (1751477348 : Int64), jv (0 : Int64), jv (0 : Int64), jv (1000 : Int64)]) (st := [jv (ah_J h9 (a0 + (90 + x1.toNatClampNeg)) x2.toNatClampNeg)]) (al' := [some (rv a0), some (jv (1751477348 : Int64)), none, some (jv (0 : Int64)), none, some (jv (0 : Int64)), none, some (jv (1000 : Int64)), none, none]) cl_0 V_X0_asks (Or.inl q1015) dX0_heldOf_50 rfl rfl (Nat.le_of_ble_eq_true rfl) (Nat.le_of_ble_eq_true rfl) (ly0_k La0_h9) ?_
  refine ma_kl H (fun r13 h12 Xh12 H => ?_) (fun x1 h1 X1 H => mt_out rfl H)
  have H := H Xh12
  have k14 := ma_aokx Xh12 ((ma_aok Kh9 Lh9 (k6)))
  have k15 := Xh12.kd ((ma_kde Kh9 (k6.1)))
  have k16 := ma_aokx Xh12 ((ma_aok Kh9 Lh9 (k8)))
  have La0_h12 := La0_h9.ext Xh12
  refine mx_lmul dX0_heldOf_53 ?_
  refine mx_ldc2 q836 dX0_heldOf_54 ?_
  refine mx_ldiv dX0_heldOf_57 (by decide) ?_
  exact mx_lret rfl dX0_heldOf_58 H
theorem v_X0_givesLong {G : ma_G} {d : Nat} {a0 : Nat} {x1 : Int64} {h : ah_T} {Q : Option ma_V → ah_T → Prop} {E : Nat → ah_T → Prop} (La0_h : LY0 h a0) (H : ∀ h1 : ah_T, h1 = ah_wI h a0 20 (0 : Int32) → ah_ext h h1 → Q (some (jv x1)) h1) : MX G mi_X0_givesLong d 0 [some (rv a0), some (jv x1), none] [] h Q E := by
  refine mx_aload_n dX0_givesLong_0 rfl rfl ?_
  refine mx_iconst dX0_givesLong_1 ic_0 ?_
  refine mx_putI 0 20 (ref := "PrairiePool") cl_0 (Nat.le_of_ble_eq_true rfl) (Or.inl q480) (Or.inl rfl) dX0_givesLong_2 (Or.inl rfl) rfl (ly0_k La0_h) ?_
  refine mx_nmI  (fun h1 eh1 Xh1 Kh1 Lh1 => ?_)
  have H := H h1 eh1 Xh1
  have La0_h1 := La0_h.ext Xh1
  refine mx_lload_n dX0_givesLong_5 rfl rfl ?_
  exact mx_lret rfl dX0_givesLong_6 H
theorem dX0_last_0 : decode mi_X0_last.2.1 0 = .ok (.aload_n 0, 1) := by decide +kernel
theorem dX0_last_1 : decode mi_X0_last.2.1 1 = .ok (.iload_n 1, 1) := by decide +kernel
theorem dX0_last_2 : decode mi_X0_last.2.1 2 = .ok (.iload_n 2, 1) := by decide +kernel
theorem dX0_last_3 : decode mi_X0_last.2.1 3 = .ok (.iload_n 3, 1) := by decide +kernel
theorem dX0_last_4 : decode mi_X0_last.2.1 4 = .ok (.invokevirtual 512, 3) := by decide +kernel
theorem dX0_last_7 : decode mi_X0_last.2.1 7 = .ok (.istore 4, 2) := by decide +kernel
theorem dX0_last_9 : decode mi_X0_last.2.1 9 = .ok (.iload 4, 2) := by decide +kernel
theorem dX0_last_11 : decode mi_X0_last.2.1 11 = .ok (.ifCond .le 11, 3) := by decide +kernel
theorem dX0_last_14 : decode mi_X0_last.2.1 14 = .ok (.aload_n 0, 1) := by decide +kernel
theorem dX0_last_15 : decode mi_X0_last.2.1 15 = .ok (.iload 4, 2) := by decide +kernel
theorem dX0_last_17 : decode mi_X0_last.2.1 17 = .ok (.invokevirtual 205, 3) := by decide +kernel
theorem dX0_last_20 : decode mi_X0_last.2.1 20 = .ok (.i2l, 1) := by decide +kernel
theorem dX0_last_21 : decode mi_X0_last.2.1 21 = .ok (.lreturn, 1) := by decide +kernel
theorem dX0_last_22 : decode mi_X0_last.2.1 22 = .ok (.aload_n 0, 1) := by decide +kernel
theorem dX0_last_23 : decode mi_X0_last.2.1 23 = .ok (.iload_n 2, 1) := by decide +kernel
theorem dX0_last_24 : decode mi_X0_last.2.1 24 = .ok (.iload_n 3, 1) := by decide +kernel
theorem dX0_last_25 : decode mi_X0_last.2.1 25 = .ok (.invokevirtual 516, 3) := by decide +kernel
theorem dX0_last_28 : decode mi_X0_last.2.1 28 = .ok (.aload_n 0, 1) := by decide +kernel
theorem dX0_last_29 : decode mi_X0_last.2.1 29 = .ok (.aload_n 0, 1) := by decide +kernel
theorem dX0_last_30 : decode mi_X0_last.2.1 30 = .ok (.getfield 96, 3) := by decide +kernel
theorem dX0_last_33 : decode mi_X0_last.2.1 33 = .ok (.iload_n 1, 1) := by decide +kernel
theorem dX0_last_34 : decode mi_X0_last.2.1 34 = .ok (.laload, 1) := by decide +kernel
theorem dX0_last_35 : decode mi_X0_last.2.1 35 = .ok (.invokevirtual 508, 3) := by decide +kernel
theorem dX0_last_38 : decode mi_X0_last.2.1 38 = .ok (.lreturn, 1) := by decide +kernel
theorem v_X0_last {G : ma_G} {d : Nat} {a0 : Nat} {x1 : Int32} {x2 : Int32} {x3 : Int32} {h : ah_T} {Q : Option ma_V → ah_T → Prop} {E : Nat → ah_T → Prop} (La0_h : LY0 h a0) (H : (x1 < 0 → ∀ h2 : ah_T, h2 = ah_wI h a0 20 (2 : Int32) → ah_ext h h2 → Q (some (jv (-1 : Int32).toInt64)) h2) ∧ (¬ x1 < 0 → ((ah_I h a0 14) ≤ x1 → ∀ h4 : ah_T, h4 = ah_wI h a0 20 (2 : Int32) → ah_ext h h4 → Q (some (jv (-1 : Int32).toInt64)) h4) ∧ (¬ (ah_I h a0 14) ≤ x1 → (x2 < 0 → ∀ h6 : ah_T, h6 = ah_wI h a0 20 (5 : Int32) → ah_ext h h6 → Q (some (jv (-1 : Int32).toInt64)) h6) ∧ (¬ x2 < 0 → ((10 : Int32) ≤ x2 → ∀ h8 : ah_T, h8 = ah_wI h a0 20 (5 : Int32) → ah_ext h h8 → Q (some (jv (-1 : Int32).toInt64)) h8) ∧ (¬ (10 : Int32) ≤ x2 → (x3 < 0 → ∀ h10 : ah_T, h10 = ah_wI h a0 20 (5 : Int32) → ah_ext h h10 → Q (some (jv (-1 : Int32).toInt64)) h10) ∧ (¬ x3 < 0 → ((520 : Int32) ≤ x3 → ∀ h12 : ah_T, h12 = ah_wI h a0 20 (5 : Int32) → ah_ext h h12 → Q (some (jv (-1 : Int32).toInt64)) h12) ∧ (¬ (520 : Int32) ≤ x3 → MX G mi_X0_settle (d + 1) 0 [some (rv a0), some (iv x2), some (iv x3), none, none, none, none, none] [] h (Qv fun h13 => ah_ext h h13 → vp_in x1 20 ∧ ∀ h16 : ah_T, h16 = ah_wI h13 a0 20 (0 : Int32) → ah_ext h13 h16 → Q (some (jv (ah_J h13 (a0 + 1438) x1.toNatClampNeg))) h16) E))))))) : MX G mi_X0_last (d + 2) 0 [some (rv a0), some (iv x1), some (iv x2), some (iv x3), none] [] h Q E := by
  refine mx_aload_n dX0_last_0 rfl rfl ?_
  refine mx_iload_n dX0_last_1 rfl rfl ?_
  refine mx_iload_n dX0_last_2 rfl rfl ?_
  refine mx_iload_n dX0_last_3 rfl rfl ?_
  refine mx_callV 0 (y' := mi_X0_wrongYear) (vs := [iv x1, iv x2, iv x3]) (st := []) (al' := [some (rv a0), some (iv x1), some (iv x2), some (iv x3)]) cl_0 V_X0_wrongYear (Or.inl q1479) dX0_last_4 rfl rfl (Nat.le_of_ble_eq_true rfl) (Nat.le_of_ble_eq_true rfl) (ly0_k La0_h) ?_
  refine mx_aload_n dX0_wrongYear_0 rfl rfl ?_
  refine mx_iload_n dX0_wrongYear_1 rfl rfl ?_
  refine mx_callV 0 (y' := mi_X0_isFarm) (vs := [iv x1]) (st := []) (al' := [some (rv a0), some (iv x1)]) cl_0 V_X0_isFarm (Or.inl q827) dX0_wrongYear_2 rfl rfl (Nat.le_of_ble_eq_true rfl) (Nat.le_of_ble_eq_true rfl) (ly0_k La0_h) ?_
  refine mx_iload_n dX0_isFarm_0 rfl rfl ?_
  refine mx_if_lt (tgt := 16) dX0_isFarm_1 rfl (fun c1 => ?_) (fun c1 => ?_)
  · have H := H.1 c1
    refine mx_iconst dX0_isFarm_16 ic_0 ?_
    refine mx_zretK rfl dX0_isFarm_17 (Or.inl rfl) ?_
    refine mx_if_ne (tgt := 12) dX0_wrongYear_5 rfl (fun _ => absurd ‹_› (by decide)) (fun _ => ?_)
    refine mx_iconst dX0_wrongYear_8 ic_2 ?_
    refine mx_goto (tgt := 31) dX0_wrongYear_9 rfl ?_
    refine mx_iretK rfl dX0_wrongYear_31 ?_
    refine mx_istore (al' := [some (rv a0), some (iv x1), some (iv x2), some (iv x3), some (iv (2 : Int32))]) dX0_last_7 (Nat.le_of_ble_eq_true rfl) rfl ?_
    refine mx_iload dX0_last_9 rfl ?_
    refine mx_if_le (tgt := 22) dX0_last_11 rfl (fun _ => absurd ‹_› (by decide)) (fun _ => ?_)
    refine mx_aload_n dX0_last_14 rfl rfl ?_
    refine mx_iload dX0_last_15 rfl ?_
    refine mx_callV 0 (y' := mi_X0_none) (vs := [iv (2 : Int32)]) (st := []) (al' := [some (rv a0), some (iv (2 : Int32))]) cl_0 V_X0_none (Or.inl q733) dX0_last_17 rfl rfl (Nat.le_of_ble_eq_true rfl) (Nat.le_of_ble_eq_true rfl) (ly0_k La0_h) ?_
    refine mx_aload_n dX0_none_0 rfl rfl ?_
    refine mx_iload_n dX0_none_1 rfl rfl ?_
    refine mx_putI 0 20 (ref := "PrairiePool") cl_0 (Nat.le_of_ble_eq_true rfl) (Or.inl q480) (Or.inl rfl) dX0_none_2 (Or.inl rfl) rfl (ly0_k La0_h) ?_
    refine mx_nmI  (fun h2 eh2 Xh2 Kh2 Lh2 => ?_)
    have H := H h2 eh2 Xh2
    have La0_h2 := La0_h.ext Xh2
    refine mx_iconst dX0_none_5 ic_m1 ?_
    refine mx_iretK rfl dX0_none_6 ?_
    refine mx_i2l dX0_last_20 ?_
    exact mx_lret rfl dX0_last_21 H
  · have H := H.2 c1
    refine mx_iload_n dX0_isFarm_4 rfl rfl ?_
    refine mx_aload_n dX0_isFarm_5 rfl rfl ?_
    refine mx_get 0 14 (ref := "PrairiePool") cl_0 (Nat.le_of_ble_eq_true rfl) (Or.inl q474) (Or.inl rfl) dX0_isFarm_6 (fv_0_14 _ _) (ly0_k La0_h) ?_
    refine mx_icmp_ge (tgt := 16) dX0_isFarm_9 rfl (fun c3 => ?_) (fun c3 => ?_)
    · have H := H.1 c3
      refine mx_iconst dX0_isFarm_16 ic_0 ?_
      refine mx_zretK rfl dX0_isFarm_17 (Or.inl rfl) ?_
      refine mx_if_ne (tgt := 12) dX0_wrongYear_5 rfl (fun _ => absurd ‹_› (by decide)) (fun _ => ?_)
      refine mx_iconst dX0_wrongYear_8 ic_2 ?_
      refine mx_goto (tgt := 31) dX0_wrongYear_9 rfl ?_
      refine mx_iretK rfl dX0_wrongYear_31 ?_
      refine mx_istore (al' := [some (rv a0), some (iv x1), some (iv x2), some (iv x3), some (iv (2 : Int32))]) dX0_last_7 (Nat.le_of_ble_eq_true rfl) rfl ?_
      refine mx_iload dX0_last_9 rfl ?_
      refine mx_if_le (tgt := 22) dX0_last_11 rfl (fun _ => absurd ‹_› (by decide)) (fun _ => ?_)
      refine mx_aload_n dX0_last_14 rfl rfl ?_
      refine mx_iload dX0_last_15 rfl ?_
      refine mx_callV 0 (y' := mi_X0_none) (vs := [iv (2 : Int32)]) (st := []) (al' := [some (rv a0), some (iv (2 : Int32))]) cl_0 V_X0_none (Or.inl q733) dX0_last_17 rfl rfl (Nat.le_of_ble_eq_true rfl) (Nat.le_of_ble_eq_true rfl) (ly0_k La0_h) ?_
      refine mx_aload_n dX0_none_0 rfl rfl ?_
      refine mx_iload_n dX0_none_1 rfl rfl ?_
      refine mx_putI 0 20 (ref := "PrairiePool") cl_0 (Nat.le_of_ble_eq_true rfl) (Or.inl q480) (Or.inl rfl) dX0_none_2 (Or.inl rfl) rfl (ly0_k La0_h) ?_
      refine mx_nmI  (fun h4 eh4 Xh4 Kh4 Lh4 => ?_)
      have H := H h4 eh4 Xh4
      have La0_h4 := La0_h.ext Xh4
      refine mx_iconst dX0_none_5 ic_m1 ?_
      refine mx_iretK rfl dX0_none_6 ?_
      refine mx_i2l dX0_last_20 ?_
      exact mx_lret rfl dX0_last_21 H
    · have H := H.2 c3
      refine mx_iconst dX0_isFarm_12 ic_1 ?_
      refine mx_goto (tgt := 17) dX0_isFarm_13 rfl ?_
      refine mx_zretK rfl dX0_isFarm_17 (Or.inr rfl) ?_
      refine mx_if_ne (tgt := 12) dX0_wrongYear_5 rfl (fun _ => ?_) (fun _ => absurd ‹_› (by decide))
      refine mx_iload_n dX0_wrongYear_12 rfl rfl ?_
      refine mx_callS (y' := mi_X0_isYear) (vs := [iv x2]) (st := []) (al' := [some (iv x2)]) S_X0_isYear q896 dX0_wrongYear_13 rfl rfl (Nat.le_of_ble_eq_true rfl) (Nat.le_of_ble_eq_true rfl) ?_
      refine mx_iload_n dX0_isYear_0 rfl rfl ?_
      refine mx_if_lt (tgt := 14) dX0_isYear_1 rfl (fun c5 => ?_) (fun c5 => ?_)
      · have H := H.1 c5
        refine mx_iconst dX0_isYear_14 ic_0 ?_
        refine mx_zretK rfl dX0_isYear_15 (Or.inl rfl) ?_
        refine mx_if_eq (tgt := 26) dX0_wrongYear_16 rfl (fun _ => ?_) (fun _ => absurd ‹_› (by decide))
        refine mx_iconst dX0_wrongYear_26 ic_5 ?_
        refine mx_goto (tgt := 31) dX0_wrongYear_27 rfl ?_
        refine mx_iretK rfl dX0_wrongYear_31 ?_
        refine mx_istore (al' := [some (rv a0), some (iv x1), some (iv x2), some (iv x3), some (iv (5 : Int32))]) dX0_last_7 (Nat.le_of_ble_eq_true rfl) rfl ?_
        refine mx_iload dX0_last_9 rfl ?_
        refine mx_if_le (tgt := 22) dX0_last_11 rfl (fun _ => absurd ‹_› (by decide)) (fun _ => ?_)
        refine mx_aload_n dX0_last_14 rfl rfl ?_
        refine mx_iload dX0_last_15 rfl ?_
        refine mx_callV 0 (y' := mi_X0_none) (vs := [iv (5 : Int32)]) (st := []) (al' := [some (rv a0), some (iv (5 : Int32))]) cl_0 V_X0_none (Or.inl q733) dX0_last_17 rfl rfl (Nat.le_of_ble_eq_true rfl) (Nat.le_of_ble_eq_true rfl) (ly0_k La0_h) ?_
        refine mx_aload_n dX0_none_0 rfl rfl ?_
        refine mx_iload_n dX0_none_1 rfl rfl ?_
        refine mx_putI 0 20 (ref := "PrairiePool") cl_0 (Nat.le_of_ble_eq_true rfl) (Or.inl q480) (Or.inl rfl) dX0_none_2 (Or.inl rfl) rfl (ly0_k La0_h) ?_
        refine mx_nmI  (fun h6 eh6 Xh6 Kh6 Lh6 => ?_)
        have H := H h6 eh6 Xh6
        have La0_h6 := La0_h.ext Xh6
        refine mx_iconst dX0_none_5 ic_m1 ?_
        refine mx_iretK rfl dX0_none_6 ?_
        refine mx_i2l dX0_last_20 ?_
        exact mx_lret rfl dX0_last_21 H
      · have H := H.2 c5
        refine mx_iload_n dX0_isYear_4 rfl rfl ?_
        refine mx_bipush dX0_isYear_5 ib_10 ?_
        refine mx_icmp_ge (tgt := 14) dX0_isYear_7 rfl (fun c7 => ?_) (fun c7 => ?_)
        · have H := H.1 c7
          refine mx_iconst dX0_isYear_14 ic_0 ?_
          refine mx_zretK rfl dX0_isYear_15 (Or.inl rfl) ?_
          refine mx_if_eq (tgt := 26) dX0_wrongYear_16 rfl (fun _ => ?_) (fun _ => absurd ‹_› (by decide))
          refine mx_iconst dX0_wrongYear_26 ic_5 ?_
          refine mx_goto (tgt := 31) dX0_wrongYear_27 rfl ?_
          refine mx_iretK rfl dX0_wrongYear_31 ?_
          refine mx_istore (al' := [some (rv a0), some (iv x1), some (iv x2), some (iv x3), some (iv (5 : Int32))]) dX0_last_7 (Nat.le_of_ble_eq_true rfl) rfl ?_
          refine mx_iload dX0_last_9 rfl ?_
          refine mx_if_le (tgt := 22) dX0_last_11 rfl (fun _ => absurd ‹_› (by decide)) (fun _ => ?_)
          refine mx_aload_n dX0_last_14 rfl rfl ?_
          refine mx_iload dX0_last_15 rfl ?_
          refine mx_callV 0 (y' := mi_X0_none) (vs := [iv (5 : Int32)]) (st := []) (al' := [some (rv a0), some (iv (5 : Int32))]) cl_0 V_X0_none (Or.inl q733) dX0_last_17 rfl rfl (Nat.le_of_ble_eq_true rfl) (Nat.le_of_ble_eq_true rfl) (ly0_k La0_h) ?_
          refine mx_aload_n dX0_none_0 rfl rfl ?_
          refine mx_iload_n dX0_none_1 rfl rfl ?_
          refine mx_putI 0 20 (ref := "PrairiePool") cl_0 (Nat.le_of_ble_eq_true rfl) (Or.inl q480) (Or.inl rfl) dX0_none_2 (Or.inl rfl) rfl (ly0_k La0_h) ?_
          refine mx_nmI  (fun h8 eh8 Xh8 Kh8 Lh8 => ?_)
          have H := H h8 eh8 Xh8
          have La0_h8 := La0_h.ext Xh8
          refine mx_iconst dX0_none_5 ic_m1 ?_
          refine mx_iretK rfl dX0_none_6 ?_
          refine mx_i2l dX0_last_20 ?_
          exact mx_lret rfl dX0_last_21 H
        · have H := H.2 c7
          refine mx_iconst dX0_isYear_10 ic_1 ?_
          refine mx_goto (tgt := 15) dX0_isYear_11 rfl ?_
          refine mx_zretK rfl dX0_isYear_15 (Or.inr rfl) ?_
          refine mx_if_eq (tgt := 26) dX0_wrongYear_16 rfl (fun _ => absurd ‹_› (by decide)) (fun _ => ?_)
          refine mx_iload_n dX0_wrongYear_19 rfl rfl ?_
          refine mx_callS (y' := mi_X0_isWeek) (vs := [iv x3]) (st := []) (al' := [some (iv x3)]) S_X0_isWeek q841 dX0_wrongYear_20 rfl rfl (Nat.le_of_ble_eq_true rfl) (Nat.le_of_ble_eq_true rfl) ?_
          refine mx_iload_n dX0_isWeek_0 rfl rfl ?_
          refine mx_if_lt (tgt := 15) dX0_isWeek_1 rfl (fun c9 => ?_) (fun c9 => ?_)
          · have H := H.1 c9
            refine mx_iconst dX0_isWeek_15 ic_0 ?_
            refine mx_zretK rfl dX0_isWeek_16 (Or.inl rfl) ?_
            refine mx_if_ne (tgt := 30) dX0_wrongYear_23 rfl (fun _ => absurd ‹_› (by decide)) (fun _ => ?_)
            refine mx_iconst dX0_wrongYear_26 ic_5 ?_
            refine mx_goto (tgt := 31) dX0_wrongYear_27 rfl ?_
            refine mx_iretK rfl dX0_wrongYear_31 ?_
            refine mx_istore (al' := [some (rv a0), some (iv x1), some (iv x2), some (iv x3), some (iv (5 : Int32))]) dX0_last_7 (Nat.le_of_ble_eq_true rfl) rfl ?_
            refine mx_iload dX0_last_9 rfl ?_
            refine mx_if_le (tgt := 22) dX0_last_11 rfl (fun _ => absurd ‹_› (by decide)) (fun _ => ?_)
            refine mx_aload_n dX0_last_14 rfl rfl ?_
            refine mx_iload dX0_last_15 rfl ?_
            refine mx_callV 0 (y' := mi_X0_none) (vs := [iv (5 : Int32)]) (st := []) (al' := [some (rv a0), some (iv (5 : Int32))]) cl_0 V_X0_none (Or.inl q733) dX0_last_17 rfl rfl (Nat.le_of_ble_eq_true rfl) (Nat.le_of_ble_eq_true rfl) (ly0_k La0_h) ?_
            refine mx_aload_n dX0_none_0 rfl rfl ?_
            refine mx_iload_n dX0_none_1 rfl rfl ?_
            refine mx_putI 0 20 (ref := "PrairiePool") cl_0 (Nat.le_of_ble_eq_true rfl) (Or.inl q480) (Or.inl rfl) dX0_none_2 (Or.inl rfl) rfl (ly0_k La0_h) ?_
            refine mx_nmI  (fun h10 eh10 Xh10 Kh10 Lh10 => ?_)
            have H := H h10 eh10 Xh10
            have La0_h10 := La0_h.ext Xh10
            refine mx_iconst dX0_none_5 ic_m1 ?_
            refine mx_iretK rfl dX0_none_6 ?_
            refine mx_i2l dX0_last_20 ?_
            exact mx_lret rfl dX0_last_21 H
          · have H := H.2 c9
            refine mx_iload_n dX0_isWeek_4 rfl rfl ?_
            refine mx_sipush dX0_isWeek_5 is_520 ?_
            refine mx_icmp_ge (tgt := 15) dX0_isWeek_8 rfl (fun c11 => ?_) (fun c11 => ?_)
            · have H := H.1 c11
              refine mx_iconst dX0_isWeek_15 ic_0 ?_
              refine mx_zretK rfl dX0_isWeek_16 (Or.inl rfl) ?_
              refine mx_if_ne (tgt := 30) dX0_wrongYear_23 rfl (fun _ => absurd ‹_› (by decide)) (fun _ => ?_)
              refine mx_iconst dX0_wrongYear_26 ic_5 ?_
              refine mx_goto (tgt := 31) dX0_wrongYear_27 rfl ?_
              refine mx_iretK rfl dX0_wrongYear_31 ?_
              refine mx_istore (al' := [some (rv a0), some (iv x1), some (iv x2), some (iv x3), some (iv (5 : Int32))]) dX0_last_7 (Nat.le_of_ble_eq_true rfl) rfl ?_
              refine mx_iload dX0_last_9 rfl ?_
              refine mx_if_le (tgt := 22) dX0_last_11 rfl (fun _ => absurd ‹_› (by decide)) (fun _ => ?_)
              refine mx_aload_n dX0_last_14 rfl rfl ?_
              refine mx_iload dX0_last_15 rfl ?_
              refine mx_callV 0 (y' := mi_X0_none) (vs := [iv (5 : Int32)]) (st := []) (al' := [some (rv a0), some (iv (5 : Int32))]) cl_0 V_X0_none (Or.inl q733) dX0_last_17 rfl rfl (Nat.le_of_ble_eq_true rfl) (Nat.le_of_ble_eq_true rfl) (ly0_k La0_h) ?_
              refine mx_aload_n dX0_none_0 rfl rfl ?_
              refine mx_iload_n dX0_none_1 rfl rfl ?_
              refine mx_putI 0 20 (ref := "PrairiePool") cl_0 (Nat.le_of_ble_eq_true rfl) (Or.inl q480) (Or.inl rfl) dX0_none_2 (Or.inl rfl) rfl (ly0_k La0_h) ?_
              refine mx_nmI  (fun h12 eh12 Xh12 Kh12 Lh12 => ?_)
              have H := H h12 eh12 Xh12
              have La0_h12 := La0_h.ext Xh12
              refine mx_iconst dX0_none_5 ic_m1 ?_
              refine mx_iretK rfl dX0_none_6 ?_
              refine mx_i2l dX0_last_20 ?_
              exact mx_lret rfl dX0_last_21 H
            · have H := H.2 c11
              refine mx_iconst dX0_isWeek_11 ic_1 ?_
              refine mx_goto (tgt := 16) dX0_isWeek_12 rfl ?_
              refine mx_zretK rfl dX0_isWeek_16 (Or.inr rfl) ?_
              refine mx_if_ne (tgt := 30) dX0_wrongYear_23 rfl (fun _ => ?_) (fun _ => absurd ‹_› (by decide))
              refine mx_iconst dX0_wrongYear_30 ic_0 ?_
              refine mx_iretK rfl dX0_wrongYear_31 ?_
              refine mx_istore (al' := [some (rv a0), some (iv x1), some (iv x2), some (iv x3), some (iv (0 : Int32))]) dX0_last_7 (Nat.le_of_ble_eq_true rfl) rfl ?_
              refine mx_iload dX0_last_9 rfl ?_
              refine mx_if_le (tgt := 22) dX0_last_11 rfl (fun _ => ?_) (fun _ => absurd ‹_› (by decide))
              refine mx_aload_n dX0_last_22 rfl rfl ?_
              refine mx_iload_n dX0_last_23 rfl rfl ?_
              refine mx_iload_n dX0_last_24 rfl rfl ?_
              refine mx_callV 0 (y' := mi_X0_settle) (vs := [iv x2, iv x3]) (st := []) (al' := [some (rv a0), some (iv x2), some (iv x3), none, none, none, none, none]) cl_0 V_X0_settle (Or.inl q1483) dX0_last_25 rfl rfl (Nat.le_of_ble_eq_true rfl) (Nat.le_of_ble_eq_true rfl) (ly0_k La0_h) ?_
              refine ma_kv H (fun h13 Xh13 H => ?_) (fun x1 h1 X1 H => mt_out rfl H)
              have H := H Xh13
              have La0_h13 := La0_h.ext Xh13
              refine mx_aload_n dX0_last_28 rfl rfl ?_
              refine mx_aload_n dX0_last_29 rfl rfl ?_
              refine mx_get 0 24 (ref := "PrairiePool") cl_0 (Nat.le_of_ble_eq_true rfl) (Or.inl q484) (Or.inl rfl) dX0_last_30 (fv_0_24 _ _) (ly0_k La0_h13) ?_
              refine mx_tr (ly0_R_0_24 La0_h13) ?_
              refine mx_iload_n dX0_last_33 rfl rfl ?_
              obtain ⟨k15, H⟩ := H
              refine my_lald dX0_last_34 rfl (ly0_A_1438 La0_h13 k15) ?_
              refine mx_callV 0 (y' := mi_X0_givesLong) (vs := [jv (ah_J h13 (a0 + 1438) x1.toNatClampNeg)]) (st := []) (al' := [some (rv a0), some (jv (ah_J h13 (a0 + 1438) x1.toNatClampNeg)), none]) cl_0 V_X0_givesLong (Or.inl q1471) dX0_last_35 rfl rfl (Nat.le_of_ble_eq_true rfl) (Nat.le_of_ble_eq_true rfl) (ly0_k La0_h13) ?_
              refine mx_aload_n dX0_givesLong_0 rfl rfl ?_
              refine mx_iconst dX0_givesLong_1 ic_0 ?_
              refine mx_putI 0 20 (ref := "PrairiePool") cl_0 (Nat.le_of_ble_eq_true rfl) (Or.inl q480) (Or.inl rfl) dX0_givesLong_2 (Or.inl rfl) rfl (ly0_k La0_h13) ?_
              refine mx_nmI  (fun h16 eh16 Xh16 Kh16 Lh16 => ?_)
              have H := H h16 eh16 Xh16
              have La0_h16 := La0_h13.ext Xh16
              refine mx_lload_n dX0_givesLong_5 rfl rfl ?_
              refine mx_lretK rfl dX0_givesLong_6 ?_
              exact mx_lret rfl dX0_last_38 H
theorem v_X0_wrongYear {G : ma_G} {d : Nat} {a0 : Nat} {x1 : Int32} {x2 : Int32} {x3 : Int32} {h : ah_T} {Q : Option ma_V → ah_T → Prop} {E : Nat → ah_T → Prop} (La0_h : LY0 h a0) (H : (x1 < 0 → Q (some (iv (2 : Int32))) h) ∧ (¬ x1 < 0 → ((ah_I h a0 14) ≤ x1 → Q (some (iv (2 : Int32))) h) ∧ (¬ (ah_I h a0 14) ≤ x1 → (x2 < 0 → Q (some (iv (5 : Int32))) h) ∧ (¬ x2 < 0 → ((10 : Int32) ≤ x2 → Q (some (iv (5 : Int32))) h) ∧ (¬ (10 : Int32) ≤ x2 → (x3 < 0 → Q (some (iv (5 : Int32))) h) ∧ (¬ x3 < 0 → ((520 : Int32) ≤ x3 → Q (some (iv (5 : Int32))) h) ∧ (¬ (520 : Int32) ≤ x3 → Q (some (iv (0 : Int32))) h))))))) : MX G mi_X0_wrongYear (d + 1) 0 [some (rv a0), some (iv x1), some (iv x2), some (iv x3)] [] h Q E := by
  refine mx_aload_n dX0_wrongYear_0 rfl rfl ?_
  refine mx_iload_n dX0_wrongYear_1 rfl rfl ?_
  refine mx_callV 0 (y' := mi_X0_isFarm) (vs := [iv x1]) (st := []) (al' := [some (rv a0), some (iv x1)]) cl_0 V_X0_isFarm (Or.inl q827) dX0_wrongYear_2 rfl rfl (Nat.le_of_ble_eq_true rfl) (Nat.le_of_ble_eq_true rfl) (ly0_k La0_h) ?_
  refine mx_iload_n dX0_isFarm_0 rfl rfl ?_
  refine mx_if_lt (tgt := 16) dX0_isFarm_1 rfl (fun c1 => ?_) (fun c1 => ?_)
  · have H := H.1 c1
    refine mx_iconst dX0_isFarm_16 ic_0 ?_
    refine mx_zretK rfl dX0_isFarm_17 (Or.inl rfl) ?_
    refine mx_if_ne (tgt := 12) dX0_wrongYear_5 rfl (fun _ => absurd ‹_› (by decide)) (fun _ => ?_)
    refine mx_iconst dX0_wrongYear_8 ic_2 ?_
    refine mx_goto (tgt := 31) dX0_wrongYear_9 rfl ?_
    exact mx_iret rfl dX0_wrongYear_31 H
  · have H := H.2 c1
    refine mx_iload_n dX0_isFarm_4 rfl rfl ?_
    refine mx_aload_n dX0_isFarm_5 rfl rfl ?_
    refine mx_get 0 14 (ref := "PrairiePool") cl_0 (Nat.le_of_ble_eq_true rfl) (Or.inl q474) (Or.inl rfl) dX0_isFarm_6 (fv_0_14 _ _) (ly0_k La0_h) ?_
    refine mx_icmp_ge (tgt := 16) dX0_isFarm_9 rfl (fun c2 => ?_) (fun c2 => ?_)
    · have H := H.1 c2
      refine mx_iconst dX0_isFarm_16 ic_0 ?_
      refine mx_zretK rfl dX0_isFarm_17 (Or.inl rfl) ?_
      refine mx_if_ne (tgt := 12) dX0_wrongYear_5 rfl (fun _ => absurd ‹_› (by decide)) (fun _ => ?_)
      refine mx_iconst dX0_wrongYear_8 ic_2 ?_
      refine mx_goto (tgt := 31) dX0_wrongYear_9 rfl ?_
      exact mx_iret rfl dX0_wrongYear_31 H
    · have H := H.2 c2
      refine mx_iconst dX0_isFarm_12 ic_1 ?_
      refine mx_goto (tgt := 17) dX0_isFarm_13 rfl ?_
      refine mx_zretK rfl dX0_isFarm_17 (Or.inr rfl) ?_
      refine mx_if_ne (tgt := 12) dX0_wrongYear_5 rfl (fun _ => ?_) (fun _ => absurd ‹_› (by decide))
      refine mx_iload_n dX0_wrongYear_12 rfl rfl ?_
      refine mx_callS (y' := mi_X0_isYear) (vs := [iv x2]) (st := []) (al' := [some (iv x2)]) S_X0_isYear q896 dX0_wrongYear_13 rfl rfl (Nat.le_of_ble_eq_true rfl) (Nat.le_of_ble_eq_true rfl) ?_
      refine mx_iload_n dX0_isYear_0 rfl rfl ?_
      refine mx_if_lt (tgt := 14) dX0_isYear_1 rfl (fun c3 => ?_) (fun c3 => ?_)
      · have H := H.1 c3
        refine mx_iconst dX0_isYear_14 ic_0 ?_
        refine mx_zretK rfl dX0_isYear_15 (Or.inl rfl) ?_
        refine mx_if_eq (tgt := 26) dX0_wrongYear_16 rfl (fun _ => ?_) (fun _ => absurd ‹_› (by decide))
        refine mx_iconst dX0_wrongYear_26 ic_5 ?_
        refine mx_goto (tgt := 31) dX0_wrongYear_27 rfl ?_
        exact mx_iret rfl dX0_wrongYear_31 H
      · have H := H.2 c3
        refine mx_iload_n dX0_isYear_4 rfl rfl ?_
        refine mx_bipush dX0_isYear_5 ib_10 ?_
        refine mx_icmp_ge (tgt := 14) dX0_isYear_7 rfl (fun c4 => ?_) (fun c4 => ?_)
        · have H := H.1 c4
          refine mx_iconst dX0_isYear_14 ic_0 ?_
          refine mx_zretK rfl dX0_isYear_15 (Or.inl rfl) ?_
          refine mx_if_eq (tgt := 26) dX0_wrongYear_16 rfl (fun _ => ?_) (fun _ => absurd ‹_› (by decide))
          refine mx_iconst dX0_wrongYear_26 ic_5 ?_
          refine mx_goto (tgt := 31) dX0_wrongYear_27 rfl ?_
          exact mx_iret rfl dX0_wrongYear_31 H
        · have H := H.2 c4
          refine mx_iconst dX0_isYear_10 ic_1 ?_
          refine mx_goto (tgt := 15) dX0_isYear_11 rfl ?_
          refine mx_zretK rfl dX0_isYear_15 (Or.inr rfl) ?_
          refine mx_if_eq (tgt := 26) dX0_wrongYear_16 rfl (fun _ => absurd ‹_› (by decide)) (fun _ => ?_)
          refine mx_iload_n dX0_wrongYear_19 rfl rfl ?_
          refine mx_callS (y' := mi_X0_isWeek) (vs := [iv x3]) (st := []) (al' := [some (iv x3)]) S_X0_isWeek q841 dX0_wrongYear_20 rfl rfl (Nat.le_of_ble_eq_true rfl) (Nat.le_of_ble_eq_true rfl) ?_
          refine mx_iload_n dX0_isWeek_0 rfl rfl ?_
          refine mx_if_lt (tgt := 15) dX0_isWeek_1 rfl (fun c5 => ?_) (fun c5 => ?_)
          · have H := H.1 c5
            refine mx_iconst dX0_isWeek_15 ic_0 ?_
            refine mx_zretK rfl dX0_isWeek_16 (Or.inl rfl) ?_
            refine mx_if_ne (tgt := 30) dX0_wrongYear_23 rfl (fun _ => absurd ‹_› (by decide)) (fun _ => ?_)
            refine mx_iconst dX0_wrongYear_26 ic_5 ?_
            refine mx_goto (tgt := 31) dX0_wrongYear_27 rfl ?_
            exact mx_iret rfl dX0_wrongYear_31 H
          · have H := H.2 c5
            refine mx_iload_n dX0_isWeek_4 rfl rfl ?_
            refine mx_sipush dX0_isWeek_5 is_520 ?_
            refine mx_icmp_ge (tgt := 15) dX0_isWeek_8 rfl (fun c6 => ?_) (fun c6 => ?_)
            · have H := H.1 c6
              refine mx_iconst dX0_isWeek_15 ic_0 ?_
              refine mx_zretK rfl dX0_isWeek_16 (Or.inl rfl) ?_
              refine mx_if_ne (tgt := 30) dX0_wrongYear_23 rfl (fun _ => absurd ‹_› (by decide)) (fun _ => ?_)
              refine mx_iconst dX0_wrongYear_26 ic_5 ?_
              refine mx_goto (tgt := 31) dX0_wrongYear_27 rfl ?_
              exact mx_iret rfl dX0_wrongYear_31 H
            · have H := H.2 c6
              refine mx_iconst dX0_isWeek_11 ic_1 ?_
              refine mx_goto (tgt := 16) dX0_isWeek_12 rfl ?_
              refine mx_zretK rfl dX0_isWeek_16 (Or.inr rfl) ?_
              refine mx_if_ne (tgt := 30) dX0_wrongYear_23 rfl (fun _ => ?_) (fun _ => absurd ‹_› (by decide))
              refine mx_iconst dX0_wrongYear_30 ic_0 ?_
              exact mx_iret rfl dX0_wrongYear_31 H
theorem dX0_settle_0 : decode mi_X0_settle.2.1 0 = .ok (.aload_n 0, 1) := by decide +kernel
theorem dX0_settle_1 : decode mi_X0_settle.2.1 1 = .ok (.iload_n 2, 1) := by decide +kernel
theorem dX0_settle_2 : decode mi_X0_settle.2.1 2 = .ok (.invokevirtual 387, 3) := by decide +kernel
theorem dX0_settle_5 : decode mi_X0_settle.2.1 5 = .ok (.iconst 0, 1) := by decide +kernel
theorem dX0_settle_6 : decode mi_X0_settle.2.1 6 = .ok (.istore_n 3, 1) := by decide +kernel
theorem dX0_settle_7 : decode mi_X0_settle.2.1 7 = .ok (.iload_n 3, 1) := by decide +kernel
theorem dX0_settle_8 : decode mi_X0_settle.2.1 8 = .ok (.bipush 20, 2) := by decide +kernel
theorem dX0_settle_10 : decode mi_X0_settle.2.1 10 = .ok (.if_icmp .ge 30, 3) := by decide +kernel
theorem dX0_settle_13 : decode mi_X0_settle.2.1 13 = .ok (.aload_n 0, 1) := by decide +kernel
theorem dX0_settle_14 : decode mi_X0_settle.2.1 14 = .ok (.getfield 96, 3) := by decide +kernel
theorem dX0_settle_17 : decode mi_X0_settle.2.1 17 = .ok (.iload_n 3, 1) := by decide +kernel
theorem dX0_settle_18 : decode mi_X0_settle.2.1 18 = .ok (.lconst 0, 1) := by decide +kernel
theorem dX0_settle_19 : decode mi_X0_settle.2.1 19 = .ok (.lastore, 1) := by decide +kernel
theorem dX0_settle_20 : decode mi_X0_settle.2.1 20 = .ok (.aload_n 0, 1) := by decide +kernel
theorem dX0_settle_21 : decode mi_X0_settle.2.1 21 = .ok (.getfield 100, 3) := by decide +kernel
theorem dX0_settle_24 : decode mi_X0_settle.2.1 24 = .ok (.iload_n 3, 1) := by decide +kernel
theorem dX0_settle_25 : decode mi_X0_settle.2.1 25 = .ok (.lconst 0, 1) := by decide +kernel
theorem dX0_settle_26 : decode mi_X0_settle.2.1 26 = .ok (.lastore, 1) := by decide +kernel
theorem dX0_settle_27 : decode mi_X0_settle.2.1 27 = .ok (.aload_n 0, 1) := by decide +kernel
theorem dX0_settle_28 : decode mi_X0_settle.2.1 28 = .ok (.getfield 103, 3) := by decide +kernel
theorem dX0_settle_31 : decode mi_X0_settle.2.1 31 = .ok (.iload_n 3, 1) := by decide +kernel
theorem dX0_settle_32 : decode mi_X0_settle.2.1 32 = .ok (.lconst 0, 1) := by decide +kernel
theorem dX0_settle_33 : decode mi_X0_settle.2.1 33 = .ok (.lastore, 1) := by decide +kernel
theorem dX0_settle_34 : decode mi_X0_settle.2.1 34 = .ok (.iinc 3 1, 3) := by decide +kernel
theorem dX0_settle_37 : decode mi_X0_settle.2.1 37 = .ok (.goto (-30), 3) := by decide +kernel
theorem dX0_settle_40 : decode mi_X0_settle.2.1 40 = .ok (.iconst 0, 1) := by decide +kernel
theorem dX0_settle_41 : decode mi_X0_settle.2.1 41 = .ok (.istore_n 3, 1) := by decide +kernel
theorem dX0_settle_42 : decode mi_X0_settle.2.1 42 = .ok (.iload_n 3, 1) := by decide +kernel
theorem dX0_settle_43 : decode mi_X0_settle.2.1 43 = .ok (.bipush 6, 2) := by decide +kernel
theorem dX0_settle_45 : decode mi_X0_settle.2.1 45 = .ok (.if_icmp .ge 137, 3) := by decide +kernel
theorem dX0_settle_48 : decode mi_X0_settle.2.1 48 = .ok (.aload_n 0, 1) := by decide +kernel
theorem dX0_settle_49 : decode mi_X0_settle.2.1 49 = .ok (.getfield 49, 3) := by decide +kernel
theorem dX0_settle_52 : decode mi_X0_settle.2.1 52 = .ok (.getfield 476, 3) := by decide +kernel
theorem dX0_settle_55 : decode mi_X0_settle.2.1 55 = .ok (.iload_n 3, 1) := by decide +kernel
theorem dX0_settle_56 : decode mi_X0_settle.2.1 56 = .ok (.aaload, 1) := by decide +kernel
theorem dX0_settle_57 : decode mi_X0_settle.2.1 57 = .ok (.iload_n 1, 1) := by decide +kernel
theorem dX0_settle_58 : decode mi_X0_settle.2.1 58 = .ok (.aaload, 1) := by decide +kernel
theorem dX0_settle_59 : decode mi_X0_settle.2.1 59 = .ok (.astore 4, 2) := by decide +kernel
theorem dX0_settle_61 : decode mi_X0_settle.2.1 61 = .ok (.aload_n 0, 1) := by decide +kernel
theorem dX0_settle_62 : decode mi_X0_settle.2.1 62 = .ok (.iload_n 3, 1) := by decide +kernel
theorem dX0_settle_63 : decode mi_X0_settle.2.1 63 = .ok (.iload_n 1, 1) := by decide +kernel
theorem dX0_settle_64 : decode mi_X0_settle.2.1 64 = .ok (.invokevirtual 480, 3) := by decide +kernel
theorem dX0_settle_67 : decode mi_X0_settle.2.1 67 = .ok (.lstore 5, 2) := by decide +kernel
theorem dX0_settle_69 : decode mi_X0_settle.2.1 69 = .ok (.aload_n 0, 1) := by decide +kernel
theorem dX0_settle_70 : decode mi_X0_settle.2.1 70 = .ok (.getfield 56, 3) := by decide +kernel
theorem dX0_settle_73 : decode mi_X0_settle.2.1 73 = .ok (.aload 4, 2) := by decide +kernel
theorem dX0_settle_75 : decode mi_X0_settle.2.1 75 = .ok (.getfield 384, 3) := by decide +kernel
theorem dX0_settle_78 : decode mi_X0_settle.2.1 78 = .ok (.aload 4, 2) := by decide +kernel
theorem dX0_settle_80 : decode mi_X0_settle.2.1 80 = .ok (.getfield 379, 3) := by decide +kernel
theorem dX0_settle_83 : decode mi_X0_settle.2.1 83 = .ok (.i2l, 1) := by decide +kernel
theorem dX0_settle_84 : decode mi_X0_settle.2.1 84 = .ok (.aload_n 0, 1) := by decide +kernel
theorem dX0_settle_85 : decode mi_X0_settle.2.1 85 = .ok (.getfield 49, 3) := by decide +kernel
theorem dX0_settle_88 : decode mi_X0_settle.2.1 88 = .ok (.getfield 468, 3) := by decide +kernel
theorem dX0_settle_91 : decode mi_X0_settle.2.1 91 = .ok (.iload_n 3, 1) := by decide +kernel
theorem dX0_settle_92 : decode mi_X0_settle.2.1 92 = .ok (.aaload, 1) := by decide +kernel
theorem dX0_settle_93 : decode mi_X0_settle.2.1 93 = .ok (.iload_n 1, 1) := by decide +kernel
theorem dX0_settle_94 : decode mi_X0_settle.2.1 94 = .ok (.laload, 1) := by decide +kernel
theorem dX0_settle_95 : decode mi_X0_settle.2.1 95 = .ok (.aload_n 0, 1) := by decide +kernel
theorem dX0_settle_96 : decode mi_X0_settle.2.1 96 = .ok (.iload_n 3, 1) := by decide +kernel
theorem dX0_settle_97 : decode mi_X0_settle.2.1 97 = .ok (.iload_n 1, 1) := by decide +kernel
theorem dX0_settle_98 : decode mi_X0_settle.2.1 98 = .ok (.invokevirtual 484, 3) := by decide +kernel
theorem dX0_settle_101 : decode mi_X0_settle.2.1 101 = .ok (.lsub, 1) := by decide +kernel
theorem dX0_settle_102 : decode mi_X0_settle.2.1 102 = .ok (.invokevirtual 487, 3) := by decide +kernel
theorem dX0_settle_105 : decode mi_X0_settle.2.1 105 = .ok (.iconst 0, 1) := by decide +kernel
theorem dX0_settle_106 : decode mi_X0_settle.2.1 106 = .ok (.istore 7, 2) := by decide +kernel
theorem dX0_settle_108 : decode mi_X0_settle.2.1 108 = .ok (.iload 7, 2) := by decide +kernel
theorem dX0_settle_110 : decode mi_X0_settle.2.1 110 = .ok (.bipush 20, 2) := by decide +kernel
theorem dX0_settle_112 : decode mi_X0_settle.2.1 112 = .ok (.if_icmp .ge 64, 3) := by decide +kernel
theorem dX0_settle_115 : decode mi_X0_settle.2.1 115 = .ok (.aload_n 0, 1) := by decide +kernel
theorem dX0_settle_116 : decode mi_X0_settle.2.1 116 = .ok (.getfield 100, 3) := by decide +kernel
theorem dX0_settle_119 : decode mi_X0_settle.2.1 119 = .ok (.iload 7, 2) := by decide +kernel
theorem dX0_settle_121 : decode mi_X0_settle.2.1 121 = .ok (.dup2, 1) := by decide +kernel
theorem dX0_settle_122 : decode mi_X0_settle.2.1 122 = .ok (.laload, 1) := by decide +kernel
theorem dX0_settle_123 : decode mi_X0_settle.2.1 123 = .ok (.lload 5, 2) := by decide +kernel
theorem dX0_settle_125 : decode mi_X0_settle.2.1 125 = .ok (.aload 4, 2) := by decide +kernel
theorem dX0_settle_127 : decode mi_X0_settle.2.1 127 = .ok (.getfield 384, 3) := by decide +kernel
theorem dX0_settle_130 : decode mi_X0_settle.2.1 130 = .ok (.iload 7, 2) := by decide +kernel
theorem dX0_settle_132 : decode mi_X0_settle.2.1 132 = .ok (.iaload, 1) := by decide +kernel
theorem dX0_settle_133 : decode mi_X0_settle.2.1 133 = .ok (.i2l, 1) := by decide +kernel
theorem dX0_settle_134 : decode mi_X0_settle.2.1 134 = .ok (.lmul, 1) := by decide +kernel
theorem dX0_settle_135 : decode mi_X0_settle.2.1 135 = .ok (.ladd, 1) := by decide +kernel
theorem dX0_settle_136 : decode mi_X0_settle.2.1 136 = .ok (.lastore, 1) := by decide +kernel
theorem dX0_settle_137 : decode mi_X0_settle.2.1 137 = .ok (.aload_n 0, 1) := by decide +kernel
theorem dX0_settle_138 : decode mi_X0_settle.2.1 138 = .ok (.getfield 96, 3) := by decide +kernel
theorem dX0_settle_141 : decode mi_X0_settle.2.1 141 = .ok (.iload 7, 2) := by decide +kernel
theorem dX0_settle_143 : decode mi_X0_settle.2.1 143 = .ok (.dup2, 1) := by decide +kernel
theorem dX0_settle_144 : decode mi_X0_settle.2.1 144 = .ok (.laload, 1) := by decide +kernel
theorem dX0_settle_145 : decode mi_X0_settle.2.1 145 = .ok (.aload_n 0, 1) := by decide +kernel
theorem dX0_settle_146 : decode mi_X0_settle.2.1 146 = .ok (.getfield 56, 3) := by decide +kernel
theorem dX0_settle_149 : decode mi_X0_settle.2.1 149 = .ok (.getfield 491, 3) := by decide +kernel
theorem dX0_settle_152 : decode mi_X0_settle.2.1 152 = .ok (.iload 7, 2) := by decide +kernel
theorem dX0_settle_154 : decode mi_X0_settle.2.1 154 = .ok (.laload, 1) := by decide +kernel
theorem dX0_settle_155 : decode mi_X0_settle.2.1 155 = .ok (.lload 5, 2) := by decide +kernel
theorem dX0_settle_157 : decode mi_X0_settle.2.1 157 = .ok (.aload 4, 2) := by decide +kernel
theorem dX0_settle_159 : decode mi_X0_settle.2.1 159 = .ok (.getfield 384, 3) := by decide +kernel
theorem dX0_settle_162 : decode mi_X0_settle.2.1 162 = .ok (.iload 7, 2) := by decide +kernel
theorem dX0_settle_164 : decode mi_X0_settle.2.1 164 = .ok (.iaload, 1) := by decide +kernel
theorem dX0_settle_165 : decode mi_X0_settle.2.1 165 = .ok (.i2l, 1) := by decide +kernel
theorem dX0_settle_166 : decode mi_X0_settle.2.1 166 = .ok (.lmul, 1) := by decide +kernel
theorem dX0_settle_167 : decode mi_X0_settle.2.1 167 = .ok (.lsub, 1) := by decide +kernel
theorem dX0_settle_168 : decode mi_X0_settle.2.1 168 = .ok (.ladd, 1) := by decide +kernel
theorem dX0_settle_169 : decode mi_X0_settle.2.1 169 = .ok (.lastore, 1) := by decide +kernel
theorem dX0_settle_170 : decode mi_X0_settle.2.1 170 = .ok (.iinc 7 1, 3) := by decide +kernel
theorem dX0_settle_173 : decode mi_X0_settle.2.1 173 = .ok (.goto (-65), 3) := by decide +kernel
theorem dX0_settle_176 : decode mi_X0_settle.2.1 176 = .ok (.iinc 3 1, 3) := by decide +kernel
theorem dX0_settle_179 : decode mi_X0_settle.2.1 179 = .ok (.goto (-137), 3) := by decide +kernel
theorem dX0_settle_182 : decode mi_X0_settle.2.1 182 = .ok (.lconst 0, 1) := by decide +kernel
theorem dX0_settle_183 : decode mi_X0_settle.2.1 183 = .ok (.lstore_n 3, 1) := by decide +kernel
theorem dX0_settle_184 : decode mi_X0_settle.2.1 184 = .ok (.iconst 0, 1) := by decide +kernel
theorem dX0_settle_185 : decode mi_X0_settle.2.1 185 = .ok (.istore 5, 2) := by decide +kernel
theorem dX0_settle_187 : decode mi_X0_settle.2.1 187 = .ok (.iload 5, 2) := by decide +kernel
theorem dX0_settle_189 : decode mi_X0_settle.2.1 189 = .ok (.bipush 20, 2) := by decide +kernel
theorem dX0_settle_191 : decode mi_X0_settle.2.1 191 = .ok (.if_icmp .ge 19, 3) := by decide +kernel
theorem dX0_settle_194 : decode mi_X0_settle.2.1 194 = .ok (.lload_n 3, 1) := by decide +kernel
theorem dX0_settle_195 : decode mi_X0_settle.2.1 195 = .ok (.aload_n 0, 1) := by decide +kernel
theorem dX0_settle_196 : decode mi_X0_settle.2.1 196 = .ok (.getfield 96, 3) := by decide +kernel
theorem dX0_settle_199 : decode mi_X0_settle.2.1 199 = .ok (.iload 5, 2) := by decide +kernel
theorem dX0_settle_201 : decode mi_X0_settle.2.1 201 = .ok (.laload, 1) := by decide +kernel
theorem dX0_settle_202 : decode mi_X0_settle.2.1 202 = .ok (.ladd, 1) := by decide +kernel
theorem dX0_settle_203 : decode mi_X0_settle.2.1 203 = .ok (.lstore_n 3, 1) := by decide +kernel
theorem dX0_settle_204 : decode mi_X0_settle.2.1 204 = .ok (.iinc 5 1, 3) := by decide +kernel
theorem dX0_settle_207 : decode mi_X0_settle.2.1 207 = .ok (.goto (-20), 3) := by decide +kernel
theorem dX0_settle_210 : decode mi_X0_settle.2.1 210 = .ok (.aload_n 0, 1) := by decide +kernel
theorem dX0_settle_211 : decode mi_X0_settle.2.1 211 = .ok (.lconst 0, 1) := by decide +kernel
theorem dX0_settle_212 : decode mi_X0_settle.2.1 212 = .ok (.lload_n 3, 1) := by decide +kernel
theorem dX0_settle_213 : decode mi_X0_settle.2.1 213 = .ok (.lneg, 1) := by decide +kernel
theorem dX0_settle_214 : decode mi_X0_settle.2.1 214 = .ok (.invokestatic 443, 3) := by decide +kernel
theorem dX0_settle_217 : decode mi_X0_settle.2.1 217 = .ok (.putfield 494, 3) := by decide +kernel
theorem dX0_settle_220 : decode mi_X0_settle.2.1 220 = .ok (.aload_n 0, 1) := by decide +kernel
theorem dX0_settle_221 : decode mi_X0_settle.2.1 221 = .ok (.aload_n 0, 1) := by decide +kernel
theorem dX0_settle_222 : decode mi_X0_settle.2.1 222 = .ok (.bipush 52, 2) := by decide +kernel
theorem dX0_settle_224 : decode mi_X0_settle.2.1 224 = .ok (.iload_n 1, 1) := by decide +kernel
theorem dX0_settle_225 : decode mi_X0_settle.2.1 225 = .ok (.imul, 1) := by decide +kernel
theorem dX0_settle_226 : decode mi_X0_settle.2.1 226 = .ok (.bipush 51, 2) := by decide +kernel
theorem dX0_settle_228 : decode mi_X0_settle.2.1 228 = .ok (.iadd, 1) := by decide +kernel
theorem dX0_settle_229 : decode mi_X0_settle.2.1 229 = .ok (.invokevirtual 331, 3) := by decide +kernel
theorem dX0_settle_232 : decode mi_X0_settle.2.1 232 = .ok (.putfield 335, 3) := by decide +kernel
theorem dX0_settle_235 : decode mi_X0_settle.2.1 235 = .ok (.aload_n 0, 1) := by decide +kernel
theorem dX0_settle_236 : decode mi_X0_settle.2.1 236 = .ok (.invokevirtual 339, 3) := by decide +kernel
theorem dX0_settle_239 : decode mi_X0_settle.2.1 239 = .ok (.iconst 3, 1) := by decide +kernel
theorem dX0_settle_240 : decode mi_X0_settle.2.1 240 = .ok (.iload_n 1, 1) := by decide +kernel
theorem dX0_settle_241 : decode mi_X0_settle.2.1 241 = .ok (.i2l, 1) := by decide +kernel
theorem dX0_settle_242 : decode mi_X0_settle.2.1 242 = .ok (.lastore, 1) := by decide +kernel
theorem dX0_settle_243 : decode mi_X0_settle.2.1 243 = .ok (.aload_n 0, 1) := by decide +kernel
theorem dX0_settle_244 : decode mi_X0_settle.2.1 244 = .ok (.aload_n 0, 1) := by decide +kernel
theorem dX0_settle_245 : decode mi_X0_settle.2.1 245 = .ok (.getfield 494, 3) := by decide +kernel
theorem dX0_settle_248 : decode mi_X0_settle.2.1 248 = .ok (.aload_n 0, 1) := by decide +kernel
theorem dX0_settle_249 : decode mi_X0_settle.2.1 249 = .ok (.ldc2_w 497, 3) := by decide +kernel
theorem dX0_settle_252 : decode mi_X0_settle.2.1 252 = .ok (.lconst 0, 1) := by decide +kernel
theorem dX0_settle_253 : decode mi_X0_settle.2.1 253 = .ok (.lconst 0, 1) := by decide +kernel
theorem dX0_settle_254 : decode mi_X0_settle.2.1 254 = .ok (.ldc2_w 283, 3) := by decide +kernel
theorem dX0_settle_257 : decode mi_X0_settle.2.1 257 = .ok (.invokevirtual 361, 3) := by decide +kernel
theorem dX0_settle_260 : decode mi_X0_settle.2.1 260 = .ok (.lmul, 1) := by decide +kernel
theorem dX0_settle_261 : decode mi_X0_settle.2.1 261 = .ok (.ldc2_w 283, 3) := by decide +kernel
theorem dX0_settle_264 : decode mi_X0_settle.2.1 264 = .ok (.ldiv, 1) := by decide +kernel
theorem dX0_settle_265 : decode mi_X0_settle.2.1 265 = .ok (.putfield 499, 3) := by decide +kernel
theorem dX0_settle_268 : decode mi_X0_settle.2.1 268 = .ok (.aload_n 0, 1) := by decide +kernel
theorem dX0_settle_269 : decode mi_X0_settle.2.1 269 = .ok (.getfield 494, 3) := by decide +kernel
theorem dX0_settle_272 : decode mi_X0_settle.2.1 272 = .ok (.lconst 0, 1) := by decide +kernel
theorem dX0_settle_273 : decode mi_X0_settle.2.1 273 = .ok (.lcmp, 1) := by decide +kernel
theorem dX0_settle_274 : decode mi_X0_settle.2.1 274 = .ok (.ifCond .ne 4, 3) := by decide +kernel
theorem dX0_settle_277 : decode mi_X0_settle.2.1 277 = .ok (.return_, 1) := by decide +kernel
theorem dX0_settle_278 : decode mi_X0_settle.2.1 278 = .ok (.lconst 0, 1) := by decide +kernel
theorem dX0_settle_279 : decode mi_X0_settle.2.1 279 = .ok (.lstore 5, 2) := by decide +kernel
theorem dX0_settle_281 : decode mi_X0_settle.2.1 281 = .ok (.iconst 0, 1) := by decide +kernel
theorem dX0_settle_282 : decode mi_X0_settle.2.1 282 = .ok (.istore 7, 2) := by decide +kernel
theorem dX0_settle_284 : decode mi_X0_settle.2.1 284 = .ok (.iload 7, 2) := by decide +kernel
theorem dX0_settle_286 : decode mi_X0_settle.2.1 286 = .ok (.bipush 20, 2) := by decide +kernel
theorem dX0_settle_288 : decode mi_X0_settle.2.1 288 = .ok (.if_icmp .ge 46, 3) := by decide +kernel
theorem dX0_settle_291 : decode mi_X0_settle.2.1 291 = .ok (.aload_n 0, 1) := by decide +kernel
theorem dX0_settle_292 : decode mi_X0_settle.2.1 292 = .ok (.getfield 56, 3) := by decide +kernel
theorem dX0_settle_295 : decode mi_X0_settle.2.1 295 = .ok (.getfield 502, 3) := by decide +kernel
theorem dX0_settle_298 : decode mi_X0_settle.2.1 298 = .ok (.iload 7, 2) := by decide +kernel
theorem dX0_settle_300 : decode mi_X0_settle.2.1 300 = .ok (.lconst 0, 1) := by decide +kernel
theorem dX0_settle_301 : decode mi_X0_settle.2.1 301 = .ok (.aload_n 0, 1) := by decide +kernel
theorem dX0_settle_302 : decode mi_X0_settle.2.1 302 = .ok (.getfield 96, 3) := by decide +kernel
theorem dX0_settle_305 : decode mi_X0_settle.2.1 305 = .ok (.iload 7, 2) := by decide +kernel
theorem dX0_settle_307 : decode mi_X0_settle.2.1 307 = .ok (.laload, 1) := by decide +kernel
theorem dX0_settle_308 : decode mi_X0_settle.2.1 308 = .ok (.lneg, 1) := by decide +kernel
theorem dX0_settle_309 : decode mi_X0_settle.2.1 309 = .ok (.invokestatic 443, 3) := by decide +kernel
theorem dX0_settle_312 : decode mi_X0_settle.2.1 312 = .ok (.lastore, 1) := by decide +kernel
theorem dX0_settle_313 : decode mi_X0_settle.2.1 313 = .ok (.lload 5, 2) := by decide +kernel
theorem dX0_settle_315 : decode mi_X0_settle.2.1 315 = .ok (.aload_n 0, 1) := by decide +kernel
theorem dX0_settle_316 : decode mi_X0_settle.2.1 316 = .ok (.getfield 56, 3) := by decide +kernel
theorem dX0_settle_319 : decode mi_X0_settle.2.1 319 = .ok (.getfield 502, 3) := by decide +kernel
theorem dX0_settle_322 : decode mi_X0_settle.2.1 322 = .ok (.iload 7, 2) := by decide +kernel
theorem dX0_settle_324 : decode mi_X0_settle.2.1 324 = .ok (.laload, 1) := by decide +kernel
theorem dX0_settle_325 : decode mi_X0_settle.2.1 325 = .ok (.ladd, 1) := by decide +kernel
theorem dX0_settle_326 : decode mi_X0_settle.2.1 326 = .ok (.lstore 5, 2) := by decide +kernel
theorem dX0_settle_328 : decode mi_X0_settle.2.1 328 = .ok (.iinc 7 1, 3) := by decide +kernel
theorem dX0_settle_331 : decode mi_X0_settle.2.1 331 = .ok (.goto (-47), 3) := by decide +kernel
theorem dX0_settle_334 : decode mi_X0_settle.2.1 334 = .ok (.aload_n 0, 1) := by decide +kernel
theorem dX0_settle_335 : decode mi_X0_settle.2.1 335 = .ok (.getfield 56, 3) := by decide +kernel
theorem dX0_settle_338 : decode mi_X0_settle.2.1 338 = .ok (.lload 5, 2) := by decide +kernel
theorem dX0_settle_340 : decode mi_X0_settle.2.1 340 = .ok (.aload_n 0, 1) := by decide +kernel
theorem dX0_settle_341 : decode mi_X0_settle.2.1 341 = .ok (.getfield 494, 3) := by decide +kernel
theorem dX0_settle_344 : decode mi_X0_settle.2.1 344 = .ok (.aload_n 0, 1) := by decide +kernel
theorem dX0_settle_345 : decode mi_X0_settle.2.1 345 = .ok (.getfield 499, 3) := by decide +kernel
theorem dX0_settle_348 : decode mi_X0_settle.2.1 348 = .ok (.lsub, 1) := by decide +kernel
theorem dX0_settle_349 : decode mi_X0_settle.2.1 349 = .ok (.invokevirtual 505, 3) := by decide +kernel
theorem dX0_settle_352 : decode mi_X0_settle.2.1 352 = .ok (.aload_n 0, 1) := by decide +kernel
theorem dX0_settle_353 : decode mi_X0_settle.2.1 353 = .ok (.getfield 56, 3) := by decide +kernel
theorem dX0_settle_356 : decode mi_X0_settle.2.1 356 = .ok (.getfield 491, 3) := by decide +kernel
theorem dX0_settle_359 : decode mi_X0_settle.2.1 359 = .ok (.iconst 0, 1) := by decide +kernel
theorem dX0_settle_360 : decode mi_X0_settle.2.1 360 = .ok (.aload_n 0, 1) := by decide +kernel
theorem dX0_settle_361 : decode mi_X0_settle.2.1 361 = .ok (.getfield 103, 3) := by decide +kernel
theorem dX0_settle_364 : decode mi_X0_settle.2.1 364 = .ok (.iconst 0, 1) := by decide +kernel
theorem dX0_settle_365 : decode mi_X0_settle.2.1 365 = .ok (.bipush 20, 2) := by decide +kernel
theorem dX0_settle_367 : decode mi_X0_settle.2.1 367 = .ok (.invokestatic 222, 3) := by decide +kernel
theorem dX0_settle_370 : decode mi_X0_settle.2.1 370 = .ok (.return_, 1) := by decide +kernel
theorem v_X0_settle {G : ma_G} {d : Nat} {a0 : Nat} {x1 : Int32} {x2 : Int32} {h : ah_T} {Q : Option ma_V → ah_T → Prop} {E : Nat → ah_T → Prop} (La0_h : LY0 h a0) (H : MX G mi_X0_plays d 0 [some (rv a0), some (iv x2), none] [] h (Qv fun h1 => ah_ext h h1 → MX G mi_X0_settle (d + 1) 7 [some (rv a0), some (iv x1), none, some (iv (0 : Int32)), none, none, none, none] [] h1 Q E) E) : MX G mi_X0_settle (d + 1) 0 [some (rv a0), some (iv x1), some (iv x2), none, none, none, none, none] [] h Q E := by
  refine mx_aload_n dX0_settle_0 rfl rfl ?_
  refine mx_iload_n dX0_settle_1 rfl rfl ?_
  refine mx_callV 0 (y' := mi_X0_plays) (vs := [iv x2]) (st := []) (al' := [some (rv a0), some (iv x2), none]) cl_0 V_X0_plays (Or.inl q1069) dX0_settle_2 rfl rfl (Nat.le_of_ble_eq_true rfl) (Nat.le_of_ble_eq_true rfl) (ly0_k La0_h) ?_
  refine ma_kv H (fun h1 Xh1 H => ?_) (fun x1 h1 X1 H => mt_out rfl H)
  have H := H Xh1
  have La0_h1 := La0_h.ext Xh1
  refine mx_iconst dX0_settle_5 ic_0 ?_
  refine mx_istore_n (al' := [some (rv a0), some (iv x1), some (iv x2), some (iv (0 : Int32)), none, none, none, none]) dX0_settle_6 rfl (Nat.le_of_ble_eq_true rfl) rfl ?_
  exact mx_weak (al' := [some (rv a0), some (iv x1), none, some (iv (0 : Int32)), none, none, none, none]) ⟨rfl, ⟨rfl, ⟨rfl, trivial⟩⟩⟩ H
theorem v_X0_settle_7 {G : ma_G} {d : Nat} {a0 : Nat} {x1 : Int32} {x3 : Int32} {h : ah_T} {Q : Option ma_V → ah_T → Prop} {E : Nat → ah_T → Prop} (La0_h : LY0 h a0) (H : ((20 : Int32) ≤ x3 → MX G mi_X0_settle (d + 1) 42 [some (rv a0), some (iv x1), none, some (iv (0 : Int32)), none, none, none, none] [] h Q E) ∧ (¬ (20 : Int32) ≤ x3 → vp_in x3 20 ∧ ∀ h3 : ah_T, h3 = ah_wJ h (a0 + 1438) x3.toNatClampNeg (0 : Int64) → ah_ext h h3 → ∀ h4 : ah_T, h4 = ah_wJ h3 (a0 + 1439) x3.toNatClampNeg (0 : Int64) → ah_ext h3 h4 → ∀ h5 : ah_T, h5 = ah_wJ h4 (a0 + 1440) x3.toNatClampNeg (0 : Int64) → ah_ext h4 h5 → MX G mi_X0_settle (d + 1) 7 [some (rv a0), some (iv x1), none, some (iv (x3 + (1 : Int32))), none, none, none, none] [] h5 Q E)) : MX G mi_X0_settle (d + 1) 7 [some (rv a0), some (iv x1), none, some (iv x3), none, none, none, none] [] h Q E := by
  refine mx_iload_n dX0_settle_7 rfl rfl ?_
  refine mx_bipush dX0_settle_8 ib_20 ?_
  refine mx_icmp_ge (tgt := 40) dX0_settle_10 rfl (fun c1 => ?_) (fun c1 => ?_)
  · have H := H.1 c1
    refine mx_iconst dX0_settle_40 ic_0 ?_
    refine mx_istore_n (al' := [some (rv a0), some (iv x1), none, some (iv (0 : Int32)), none, none, none, none]) dX0_settle_41 rfl (Nat.le_of_ble_eq_true rfl) rfl ?_
    exact mx_weak (al' := [some (rv a0), some (iv x1), none, some (iv (0 : Int32)), none, none, none, none]) ⟨rfl, ⟨rfl, ⟨rfl, trivial⟩⟩⟩ H
  · have H := H.2 c1
    refine mx_aload_n dX0_settle_13 rfl rfl ?_
    refine mx_get 0 24 (ref := "PrairiePool") cl_0 (Nat.le_of_ble_eq_true rfl) (Or.inl q484) (Or.inl rfl) dX0_settle_14 (fv_0_24 _ _) (ly0_k La0_h) ?_
    refine mx_tr (ly0_R_0_24 La0_h) ?_
    refine mx_iload_n dX0_settle_17 rfl rfl ?_
    refine mx_lconst dX0_settle_18 lc_0 ?_
    obtain ⟨k2, H⟩ := H
    refine my_last dX0_settle_19 rfl (ly0_A_1438 La0_h k2) ?_
    refine mx_nmJ  (fun h3 eh3 Xh3 Kh3 Lh3 => ?_)
    have H := H h3 eh3 Xh3
    have La0_h3 := La0_h.ext Xh3
    refine mx_aload_n dX0_settle_20 rfl rfl ?_
    refine mx_get 0 25 (ref := "PrairiePool") cl_0 (Nat.le_of_ble_eq_true rfl) (Or.inl q485) (Or.inl rfl) dX0_settle_21 (fv_0_25 _ _) (ly0_k La0_h3) ?_
    refine mx_tr (ly0_R_0_25 La0_h3) ?_
    refine mx_iload_n dX0_settle_24 rfl rfl ?_
    refine mx_lconst dX0_settle_25 lc_0 ?_
    refine my_last dX0_settle_26 rfl (ly0_A_1439 La0_h3 k2) ?_
    refine mx_nmJ  (fun h4 eh4 Xh4 Kh4 Lh4 => ?_)
    have H := H h4 eh4 Xh4
    have Kh4 := Kh4.trans Kh3
    have Lh4 := Lh4.trans Lh3
    have La0_h4 := La0_h3.ext Xh4
    refine mx_aload_n dX0_settle_27 rfl rfl ?_
    refine mx_get 0 26 (ref := "PrairiePool") cl_0 (Nat.le_of_ble_eq_true rfl) (Or.inl q486) (Or.inl rfl) dX0_settle_28 (fv_0_26 _ _) (ly0_k La0_h4) ?_
    refine mx_tr (ly0_R_0_26 La0_h4) ?_
    refine mx_iload_n dX0_settle_31 rfl rfl ?_
    refine mx_lconst dX0_settle_32 lc_0 ?_
    refine my_last dX0_settle_33 rfl (ly0_A_1440 La0_h4 k2) ?_
    refine mx_nmJ  (fun h5 eh5 Xh5 Kh5 Lh5 => ?_)
    have H := H h5 eh5 Xh5
    have Kh5 := Kh5.trans Kh4
    have Lh5 := Lh5.trans Lh4
    have La0_h5 := La0_h4.ext Xh5
    refine mx_iinc (al' := [some (rv a0), some (iv x1), none, some (iv (x3 + (1 : Int32))), none, none, none, none]) dX0_settle_34 rfl ic_1 rfl ?_
    refine mx_goto (tgt := 7) dX0_settle_37 rfl ?_
    exact mx_weak (al' := [some (rv a0), some (iv x1), none, some (iv (x3 + (1 : Int32))), none, none, none, none]) ⟨rfl, ⟨rfl, ⟨rfl, trivial⟩⟩⟩ H
theorem v_X0_settle_42 {G : ma_G} {d : Nat} {a0 : Nat} {x1 : Int32} {x3 : Int32} {h : ah_T} {Q : Option ma_V → ah_T → Prop} {E : Nat → ah_T → Prop} (La0_h : LY0 h a0) (H : ((6 : Int32) ≤ x3 → MX G mi_X0_settle (d + 1) 187 [some (rv a0), some (iv x1), none, some (jv (0 : Int64)), none, some (iv (0 : Int32)), none, none] [] h Q E) ∧ (¬ (6 : Int32) ≤ x3 → vp_in x3 6 ∧ vp_in x1 10 ∧ MX G mi_X0_firstOf d 0 [some (rv a0), some (iv x3), some (iv x1), none] [] h (Ql fun r5 h4 => ah_ext h h4 → MX G mi_X0_heldOf d 0 [some (rv a0), some (iv x3), some (iv x1), none] [] h4 (Ql fun r7 h6 => ah_ext h4 h6 → MX G mi_X2_split d 0 [some (rv (a0 + 1426)), some (rv ((a0 + (126 + 22 * (10 * x3.toNatClampNeg + x1.toNatClampNeg))) + 1)), some (jv (ah_I h4 (a0 + (126 + 22 * (10 * x3.toNatClampNeg + x1.toNatClampNeg))) 1).toInt64), none, some (jv ((ah_J h4 (a0 + (90 + x3.toNatClampNeg)) x1.toNatClampNeg) - r7)), none, none] [] h6 (Qv fun h8 => ah_ext h6 h8 → MX G mi_X0_settle (d + 1) 108 [some (rv a0), some (iv x1), none, some (iv x3), some (rv (a0 + (126 + 22 * (10 * x3.toNatClampNeg + x1.toNatClampNeg)))), some (jv r5), none, some (iv (0 : Int32))] [] h8 Q E) E) E) E)) : MX G mi_X0_settle (d + 1) 42 [some (rv a0), some (iv x1), none, some (iv x3), none, none, none, none] [] h Q E := by
  refine mx_iload_n dX0_settle_42 rfl rfl ?_
  refine mx_bipush dX0_settle_43 ib_6 ?_
  refine mx_icmp_ge (tgt := 182) dX0_settle_45 rfl (fun c1 => ?_) (fun c1 => ?_)
  · have H := H.1 c1
    refine mx_lconst dX0_settle_182 lc_0 ?_
    refine mx_lstore_n (al' := [some (rv a0), some (iv x1), none, some (jv (0 : Int64)), none, none, none, none]) dX0_settle_183 rfl (Nat.le_of_ble_eq_true rfl) rfl ?_
    refine mx_iconst dX0_settle_184 ic_0 ?_
    refine mx_istore (al' := [some (rv a0), some (iv x1), none, some (jv (0 : Int64)), none, some (iv (0 : Int32)), none, none]) dX0_settle_185 (Nat.le_of_ble_eq_true rfl) rfl ?_
    exact mx_weak (al' := [some (rv a0), some (iv x1), none, some (jv (0 : Int64)), none, some (iv (0 : Int32)), none, none]) ⟨rfl, ⟨rfl, ⟨rfl, ⟨rfl, trivial⟩⟩⟩⟩ H
  · have H := H.2 c1
    refine mx_aload_n dX0_settle_48 rfl rfl ?_
    refine mx_get 0 8 (ref := "PrairiePool") cl_0 (Nat.le_of_ble_eq_true rfl) (Or.inl q468) (Or.inl rfl) dX0_settle_49 (fv_0_8 _ _) (ly0_k La0_h) ?_
    refine mx_tr (ly0_R_0_8 La0_h) ?_
    refine mx_get 1 2 (ref := "PrairiePool$Play") cl_1 (Nat.le_of_ble_eq_true rfl) (Or.inr ⟨_, q233⟩) (Or.inl rfl) dX0_settle_52 (fv_1_2 _ _) (ly0_K_9 La0_h) ?_
    refine mx_tr (ly0_R_9_2 La0_h) ?_
    refine mx_iload_n dX0_settle_55 rfl rfl ?_
    obtain ⟨k2, H⟩ := H
    refine my_aald 12 dX0_settle_56 (by decide) rfl (ly0_A_82 La0_h k2) ?_
    refine mx_tr (ly0_G1_82 La0_h (vp_lt k2)) ?_
    refine mx_iload_n dX0_settle_57 rfl rfl ?_
    obtain ⟨k3, H⟩ := H
    refine my_aald 11 dX0_settle_58 (by decide) rfl ⟨(ly0_K1_82 La0_h (vp_lt k2)), by rw [ly0_N1_82 La0_h (vp_lt k2)]; exact k3⟩ ?_
    refine mx_tr (ly0_G2_82 La0_h (vp_lt k2) (vp_lt k3)) ?_
    refine mx_astore (al' := [some (rv a0), some (iv x1), none, some (iv x3), some (rv (a0 + (126 + 22 * (10 * x3.toNatClampNeg + x1.toNatClampNeg)))), none, none, none]) dX0_settle_59 (Nat.le_of_ble_eq_true rfl) rfl ?_
    refine mx_aload_n dX0_settle_61 rfl rfl ?_
    refine mx_iload_n dX0_settle_62 rfl rfl ?_
    refine mx_iload_n dX0_settle_63 rfl rfl ?_
    refine mx_callV 0 (y' := mi_X0_firstOf) (vs := [iv x3, iv x1]) (st := []) (al' := [some (rv a0), some (iv x3), some (iv x1), none]) cl_0 V_X0_firstOf (Or.inl q1487) dX0_settle_64 rfl rfl (Nat.le_of_ble_eq_true rfl) (Nat.le_of_ble_eq_true rfl) (ly0_k La0_h) ?_
    refine ma_kl H (fun r5 h4 Xh4 H => ?_) (fun x1 h1 X1 H => mt_out rfl H)
    have H := H Xh4
    have La0_h4 := La0_h.ext Xh4
    refine mx_lstore (al' := [some (rv a0), some (iv x1), none, some (iv x3), some (rv (a0 + (126 + 22 * (10 * x3.toNatClampNeg + x1.toNatClampNeg)))), some (jv r5), none, none]) dX0_settle_67 (Nat.le_of_ble_eq_true rfl) rfl ?_
    refine mx_aload_n dX0_settle_69 rfl rfl ?_
    refine mx_get 0 9 (ref := "PrairiePool") cl_0 (Nat.le_of_ble_eq_true rfl) (Or.inl q469) (Or.inl rfl) dX0_settle_70 (fv_0_9 _ _) (ly0_k La0_h4) ?_
    refine mx_tr (ly0_R_0_9 La0_h4) ?_
    refine mx_aload dX0_settle_73 rfl ?_
    refine mx_get 3 0 (ref := "PrairiePool$Heap") cl_3 (Nat.le_of_ble_eq_true rfl) (Or.inr ⟨_, q214⟩) (Or.inl rfl) dX0_settle_75 (fv_3_0 _ _) (ly3_k (ly0_H2_82 La0_h4 (vp_lt k2) (vp_lt k3))) ?_
    refine mx_tr (ly3_r (ly0_H2_82 La0_h4 (vp_lt k2) (vp_lt k3))) ?_
    refine mx_aload dX0_settle_78 rfl ?_
    refine mx_get 3 1 (ref := "PrairiePool$Heap") cl_3 (Nat.le_of_ble_eq_true rfl) (Or.inr ⟨_, q217⟩) (Or.inl rfl) dX0_settle_80 (fv_3_1 _ _) (ly3_k (ly0_H2_82 La0_h4 (vp_lt k2) (vp_lt k3))) ?_
    refine mx_i2l dX0_settle_83 ?_
    refine mx_aload_n dX0_settle_84 rfl rfl ?_
    refine mx_get 0 8 (ref := "PrairiePool") cl_0 (Nat.le_of_ble_eq_true rfl) (Or.inl q468) (Or.inl rfl) dX0_settle_85 (fv_0_8 _ _) (ly0_k La0_h4) ?_
    refine mx_tr (ly0_R_0_8 La0_h4) ?_
    refine mx_get 1 3 (ref := "PrairiePool$Play") cl_1 (Nat.le_of_ble_eq_true rfl) (Or.inr ⟨_, q236⟩) (Or.inl rfl) dX0_settle_88 (fv_1_3 _ _) (ly0_K_9 La0_h4) ?_
    refine mx_tr (ly0_R_9_3 La0_h4) ?_
    refine mx_iload_n dX0_settle_91 rfl rfl ?_
    refine my_aald 15 dX0_settle_92 (by decide) rfl (ly0_A_89 La0_h4 k2) ?_
    refine mx_tr (ly0_G1_89 La0_h4 (vp_lt k2)) ?_
    refine mx_iload_n dX0_settle_93 rfl rfl ?_
    refine my_lald dX0_settle_94 rfl ⟨(ly0_K1_89 La0_h4 (vp_lt k2)), by rw [ly0_N1_89 La0_h4 (vp_lt k2)]; exact k3⟩ ?_
    refine mx_aload_n dX0_settle_95 rfl rfl ?_
    refine mx_iload_n dX0_settle_96 rfl rfl ?_
    refine mx_iload_n dX0_settle_97 rfl rfl ?_
    refine mx_callV 0 (y' := mi_X0_heldOf) (vs := [iv x3, iv x1]) (st := [jv (ah_J h4 (a0 + (90 + x3.toNatClampNeg)) x1.toNatClampNeg), jv (ah_I h4 (a0 + (126 + 22 * (10 * x3.toNatClampNeg + x1.toNatClampNeg))) 1).toInt64, rv ((a0 + (126 + 22 * (10 * x3.toNatClampNeg + x1.toNatClampNeg))) + 1), rv (a0 + 1426)]) (al' := [some (rv a0), some (iv x3), some (iv x1), none]) cl_0 V_X0_heldOf (Or.inl q1466) dX0_settle_98 rfl rfl (Nat.le_of_ble_eq_true rfl) (Nat.le_of_ble_eq_true rfl) (ly0_k La0_h4) ?_
    refine ma_kl H (fun r7 h6 Xh6 H => ?_) (fun x1 h1 X1 H => mt_out rfl H)
    have H := H Xh6
    have La0_h6 := La0_h4.ext Xh6
    refine mx_lsub dX0_settle_101 ?_
    refine mx_callV 2 (y' := mi_X2_split) (vs := [rv ((a0 + (126 + 22 * (10 * x3.toNatClampNeg + x1.toNatClampNeg))) + 1), jv (ah_I h4 (a0 + (126 + 22 * (10 * x3.toNatClampNeg + x1.toNatClampNeg))) 1).toInt64, jv ((ah_J h4 (a0 + (90 + x3.toNatClampNeg)) x1.toNatClampNeg) - r7)]) (st := []) (al' := [some (rv (a0 + 1426)), some (rv ((a0 + (126 + 22 * (10 * x3.toNatClampNeg + x1.toNatClampNeg))) + 1)), some (jv (ah_I h4 (a0 + (126 + 22 * (10 * x3.toNatClampNeg + x1.toNatClampNeg))) 1).toInt64), none, some (jv ((ah_J h4 (a0 + (90 + x3.toNatClampNeg)) x1.toNatClampNeg) - r7)), none, none]) cl_2 V_X2_split (Or.inl q1492) dX0_settle_102 rfl rfl (Nat.le_of_ble_eq_true rfl) (Nat.le_of_ble_eq_true rfl) (ly0_K_1426 La0_h6) ?_
    refine ma_kv H (fun h8 Xh8 H => ?_) (fun x1 h1 X1 H => mt_out rfl H)
    have H := H Xh8
    have La0_h8 := La0_h6.ext Xh8
    refine mx_iconst dX0_settle_105 ic_0 ?_
    refine mx_istore (al' := [some (rv a0), some (iv x1), none, some (iv x3), some (rv (a0 + (126 + 22 * (10 * x3.toNatClampNeg + x1.toNatClampNeg)))), some (jv r5), none, some (iv (0 : Int32))]) dX0_settle_106 (Nat.le_of_ble_eq_true rfl) rfl ?_
    exact mx_weak (al' := [some (rv a0), some (iv x1), none, some (iv x3), some (rv (a0 + (126 + 22 * (10 * x3.toNatClampNeg + x1.toNatClampNeg)))), some (jv r5), none, some (iv (0 : Int32))]) ⟨rfl, ⟨rfl, ⟨rfl, ⟨rfl, ⟨rfl, ⟨rfl, trivial⟩⟩⟩⟩⟩⟩ H
theorem v_X0_settle_187 {G : ma_G} {d : Nat} {a0 : Nat} {x1 : Int32} {x3 : Int64} {x5 : Int32} {h : ah_T} {Q : Option ma_V → ah_T → Prop} {E : Nat → ah_T → Prop} (La0_h : LY0 h a0) (H : ((20 : Int32) ≤ x5 → ∀ h2 : ah_T, h2 = ah_wJ h a0 27 (jMax (0 : Int64) (-x3)) → ah_ext h h2 → MX G mi_X0_lawOf d 0 [some (rv a0), some (iv (((52 : Int32) * x1) + (51 : Int32))), none, none] [] h2 (Qr fun r4 h3 => ah_ext h2 h3 → ∀ h5 : ah_T, h5 = ah_wR h3 a0 23 r4 → ah_ext h3 h5 → MX G mi_X0_clear d 0 [some (rv a0), none] [] h5 (Qr fun r7 h6 => ah_ext h5 h6 → aok h6 41 r7 (3 : Int32) ∧ ∀ h9 : ah_T, h9 = ah_wJ h6 r7 3 x1.toInt64 → ah_ext h6 h9 → MX G mi_X0_asks d 0 [some (rv a0), some (jv (495873781348 : Int64)), none, some (jv (0 : Int64)), none, some (jv (0 : Int64)), none, some (jv (1000 : Int64)), none, none] [] h9 (Ql fun r11 h10 => ah_ext h9 h10 → ∀ h14 : ah_T, h14 = ah_wJ h10 a0 28 (((ah_J h6 a0 27) * r11) / (1000 : Int64)) → ah_ext h10 h14 → (¬ (ah_J h10 a0 27) = (0 : Int64) → MX G mi_X0_settle (d + 1) 284 [some (rv a0), none, none, none, none, some (jv (0 : Int64)), none, some (iv (0 : Int32))] [] h14 Q E) ∧ ((ah_J h10 a0 27) = (0 : Int64) → Q none h14)) E) E) E) ∧ (¬ (20 : Int32) ≤ x5 → vp_in x5 20 ∧ MX G mi_X0_settle (d + 1) 187 [some (rv a0), some (iv x1), none, some (jv (x3 + (ah_J h (a0 + 1438) x5.toNatClampNeg))), none, some (iv (x5 + (1 : Int32))), none, none] [] h Q E)) : MX G mi_X0_settle (d + 1) 187 [some (rv a0), some (iv x1), none, some (jv x3), none, some (iv x5), none, none] [] h Q E := by
  refine mx_iload dX0_settle_187 rfl ?_
  refine mx_bipush dX0_settle_189 ib_20 ?_
  refine mx_icmp_ge (tgt := 210) dX0_settle_191 rfl (fun c1 => ?_) (fun c1 => ?_)
  · have H := H.1 c1
    refine mx_aload_n dX0_settle_210 rfl rfl ?_
    refine mx_lconst dX0_settle_211 lc_0 ?_
    refine mx_lload_n dX0_settle_212 rfl rfl ?_
    refine mx_lneg dX0_settle_213 ?_
    refine mx_callS (y' := mi_J8_max) (vs := [jv (0 : Int64), jv (-x3)]) (st := [rv a0]) (al' := [some (jv (0 : Int64)), none, some (jv (-x3)), none]) S_J8_max q1064 dX0_settle_214 rfl rfl (Nat.le_of_ble_eq_true rfl) (Nat.le_of_ble_eq_true rfl) ?_
    refine pv_J8_max ?_
    refine mx_putJ 0 27 (ref := "PrairiePool") cl_0 (Nat.le_of_ble_eq_true rfl) (Or.inl q487) (Or.inl rfl) dX0_settle_217 (Or.inl rfl) rfl (ly0_k La0_h) ?_
    refine mx_nmJ  (fun h2 eh2 Xh2 Kh2 Lh2 => ?_)
    have H := H h2 eh2 Xh2
    have La0_h2 := La0_h.ext Xh2
    refine mx_aload_n dX0_settle_220 rfl rfl ?_
    refine mx_aload_n dX0_settle_221 rfl rfl ?_
    refine mx_bipush dX0_settle_222 ib_52 ?_
    refine mx_iload_n dX0_settle_224 rfl rfl ?_
    refine mx_imul dX0_settle_225 ?_
    refine mx_bipush dX0_settle_226 ib_51 ?_
    refine mx_iadd dX0_settle_228 ?_
    refine mx_callV 0 (y' := mi_X0_lawOf) (vs := [iv (((52 : Int32) * x1) + (51 : Int32))]) (st := [rv a0]) (al' := [some (rv a0), some (iv (((52 : Int32) * x1) + (51 : Int32))), none, none]) cl_0 V_X0_lawOf (Or.inl q994) dX0_settle_229 rfl rfl (Nat.le_of_ble_eq_true rfl) (Nat.le_of_ble_eq_true rfl) (ly0_k La0_h2) ?_
    refine ma_kr H (fun r4 h3 Xh3 H => ?_) (fun x1 h1 X1 H => mt_out rfl H)
    have H := H Xh3
    have La0_h3 := La0_h2.ext Xh3
    refine mx_putO 0 23 (ref := "PrairiePool") cl_0 (Nat.le_of_ble_eq_true rfl) (Or.inl q483) (Or.inl rfl) dX0_settle_232 (Or.inl rfl) rfl (Or.inl rfl) (ly0_k La0_h3) ?_
    refine mx_nmR (ah_ext.wR (Or.inl (by rw [(ly0_k La0_h3)]; rfl))) (fun h5 eh5 Xh5 Kh5 Lh5 => ?_)
    have H := H h5 eh5 Xh5
    have La0_h5 := La0_h3.ext Xh5
    refine mx_aload_n dX0_settle_235 rfl rfl ?_
    refine mx_callV 0 (y' := mi_X0_clear) (vs := []) (st := []) (al' := [some (rv a0), none]) cl_0 V_X0_clear (Or.inl q998) dX0_settle_236 rfl rfl (Nat.le_of_ble_eq_true rfl) (Nat.le_of_ble_eq_true rfl) (ly0_k La0_h5) ?_
    refine ma_kr H (fun r7 h6 Xh6 H => ?_) (fun x1 h1 X1 H => mt_out rfl H)
    have H := H Xh6
    have La0_h6 := La0_h5.ext Xh6
    refine mx_iconst dX0_settle_239 ic_3 ?_
    refine mx_iload_n dX0_settle_240 rfl rfl ?_
    refine mx_i2l dX0_settle_241 ?_
    obtain ⟨k8, H⟩ := H
    refine my_last dX0_settle_242 cn_3 k8 ?_
    refine mx_nmJ  (fun h9 eh9 Xh9 Kh9 Lh9 => ?_)
    have H := H h9 eh9 Xh9
    have La0_h9 := La0_h6.ext Xh9
    refine mx_aload_n dX0_settle_243 rfl rfl ?_
    refine mx_aload_n dX0_settle_244 rfl rfl ?_
    refine mx_get 0 27 (ref := "PrairiePool") cl_0 (Nat.le_of_ble_eq_true rfl) (Or.inl q487) (Or.inl rfl) dX0_settle_245 (fv_0_27 _ _) (ly0_k La0_h9) ?_
    refine mx_tj (ah_skJK eh9 (by decide)) ?_
    refine mx_aload_n dX0_settle_248 rfl rfl ?_
    refine mx_ldc2 q1493 dX0_settle_249 ?_
    refine mx_lconst dX0_settle_252 lc_0 ?_
    refine mx_lconst dX0_settle_253 lc_0 ?_
    refine mx_ldc2 q836 dX0_settle_254 ?_
    refine mx_callV 0 (y' := mi_X0_asks) (vs := [jv (495873781348 : Int64), jv (0 : Int64), jv (0 : Int64), jv (1000 : Int64)]) (st := [jv (ah_J h6 a0 27), rv a0]) (al' := [some (rv a0), some (jv (495873781348 : Int64)), none, some (jv (0 : Int64)), none, some (jv (0 : Int64)), none, some (jv (1000 : Int64)), none, none]) cl_0 V_X0_asks (Or.inl q1015) dX0_settle_257 rfl rfl (Nat.le_of_ble_eq_true rfl) (Nat.le_of_ble_eq_true rfl) (ly0_k La0_h9) ?_
    refine ma_kl H (fun r11 h10 Xh10 H => ?_) (fun x1 h1 X1 H => mt_out rfl H)
    have H := H Xh10
    have k12 := ma_aokx Xh10 ((ma_aok Kh9 Lh9 (k8)))
    have k13 := Xh10.kd ((ma_kde Kh9 (k8.1)))
    have La0_h10 := La0_h9.ext Xh10
    refine mx_lmul dX0_settle_260 ?_
    refine mx_ldc2 q836 dX0_settle_261 ?_
    refine mx_ldiv dX0_settle_264 (by decide) ?_
    refine mx_putJ 0 28 (ref := "PrairiePool") cl_0 (Nat.le_of_ble_eq_true rfl) (Or.inl q488) (Or.inl rfl) dX0_settle_265 (Or.inl rfl) rfl (ly0_k La0_h10) ?_
    refine mx_nmJ  (fun h14 eh14 Xh14 Kh14 Lh14 => ?_)
    have H := H h14 eh14 Xh14
    have La0_h14 := La0_h10.ext Xh14
    refine mx_aload_n dX0_settle_268 rfl rfl ?_
    refine mx_get 0 27 (ref := "PrairiePool") cl_0 (Nat.le_of_ble_eq_true rfl) (Or.inl q487) (Or.inl rfl) dX0_settle_269 (fv_0_27 _ _) (ly0_k La0_h14) ?_
    refine mx_tj (ah_skJK eh14 (by decide)) ?_
    refine mx_lconst dX0_settle_272 lc_0 ?_
    refine mx_lif_ne (tgt := 278) dX0_settle_273 dX0_settle_274 rfl (fun c15 => ?_) (fun c15 => ?_)
    · have H := H.1 c15
      refine mx_lconst dX0_settle_278 lc_0 ?_
      refine mx_lstore (al' := [some (rv a0), some (iv x1), none, some (jv x3), none, some (jv (0 : Int64)), none, none]) dX0_settle_279 (Nat.le_of_ble_eq_true rfl) rfl ?_
      refine mx_iconst dX0_settle_281 ic_0 ?_
      refine mx_istore (al' := [some (rv a0), some (iv x1), none, some (jv x3), none, some (jv (0 : Int64)), none, some (iv (0 : Int32))]) dX0_settle_282 (Nat.le_of_ble_eq_true rfl) rfl ?_
      exact mx_weak (al' := [some (rv a0), none, none, none, none, some (jv (0 : Int64)), none, some (iv (0 : Int32))]) ⟨rfl, ⟨rfl, ⟨rfl, trivial⟩⟩⟩ H
    · have H := H.2 c15
      exact mx_vret rfl dX0_settle_277 H
  · have H := H.2 c1
    refine mx_lload_n dX0_settle_194 rfl rfl ?_
    refine mx_aload_n dX0_settle_195 rfl rfl ?_
    refine mx_get 0 24 (ref := "PrairiePool") cl_0 (Nat.le_of_ble_eq_true rfl) (Or.inl q484) (Or.inl rfl) dX0_settle_196 (fv_0_24 _ _) (ly0_k La0_h) ?_
    refine mx_tr (ly0_R_0_24 La0_h) ?_
    refine mx_iload dX0_settle_199 rfl ?_
    obtain ⟨k16, H⟩ := H
    refine my_lald dX0_settle_201 rfl (ly0_A_1438 La0_h k16) ?_
    refine mx_ladd dX0_settle_202 ?_
    refine mx_lstore_n (al' := [some (rv a0), some (iv x1), none, some (jv (x3 + (ah_J h (a0 + 1438) x5.toNatClampNeg))), none, some (iv x5), none, none]) dX0_settle_203 rfl (Nat.le_of_ble_eq_true rfl) rfl ?_
    refine mx_iinc (al' := [some (rv a0), some (iv x1), none, some (jv (x3 + (ah_J h (a0 + 1438) x5.toNatClampNeg))), none, some (iv (x5 + (1 : Int32))), none, none]) dX0_settle_204 rfl ic_1 rfl ?_
    refine mx_goto (tgt := 187) dX0_settle_207 rfl ?_
    exact mx_weak (al' := [some (rv a0), some (iv x1), none, some (jv (x3 + (ah_J h (a0 + 1438) x5.toNatClampNeg))), none, some (iv (x5 + (1 : Int32))), none, none]) ⟨rfl, ⟨rfl, ⟨rfl, ⟨rfl, trivial⟩⟩⟩⟩ H
theorem v_X0_settle_108 {G : ma_G} {d : Nat} {a0 : Nat} {x1 : Int32} {x3 : Int32} {a4 : Nat} {x5 : Int64} {x7 : Int32} {h : ah_T} {Q : Option ma_V → ah_T → Prop} {E : Nat → ah_T → Prop} (La0_h : LY0 h a0) (H : ((20 : Int32) ≤ x7 → MX G mi_X0_settle (d + 1) 42 [some (rv a0), some (iv x1), none, some (iv (x3 + (1 : Int32))), none, none, none, none] [] h Q E) ∧ (¬ (20 : Int32) ≤ x7 → vp_in x7 20 ∧ ah_kd h a4 = 4 ∧ aok h 40 (ah_R h a4 0) x7 ∧ ∀ h5 : ah_T, h5 = ah_wJ h (a0 + 1439) x7.toNatClampNeg ((ah_J h (a0 + 1439) x7.toNatClampNeg) + (x5 * (ah_I h (ah_R h a4 0) x7.toNatClampNeg).toInt64)) → ah_ext h h5 → ∀ h6 : ah_T, h6 = ah_wJ h5 (a0 + 1438) x7.toNatClampNeg ((ah_J h (a0 + 1438) x7.toNatClampNeg) + ((ah_J h (a0 + 1427) x7.toNatClampNeg) - (x5 * (ah_I h (ah_R h a4 0) x7.toNatClampNeg).toInt64))) → ah_ext h5 h6 → MX G mi_X0_settle (d + 1) 108 [some (rv a0), some (iv x1), none, some (iv x3), some (rv a4), some (jv x5), none, some (iv (x7 + (1 : Int32)))] [] h6 Q E)) : MX G mi_X0_settle (d + 1) 108 [some (rv a0), some (iv x1), none, some (iv x3), some (rv a4), some (jv x5), none, some (iv x7)] [] h Q E := by
  refine mx_iload dX0_settle_108 rfl ?_
  refine mx_bipush dX0_settle_110 ib_20 ?_
  refine mx_icmp_ge (tgt := 176) dX0_settle_112 rfl (fun c1 => ?_) (fun c1 => ?_)
  · have H := H.1 c1
    refine mx_iinc (al' := [some (rv a0), some (iv x1), none, some (iv (x3 + (1 : Int32))), some (rv a4), some (jv x5), none, some (iv x7)]) dX0_settle_176 rfl ic_1 rfl ?_
    refine mx_goto (tgt := 42) dX0_settle_179 rfl ?_
    exact mx_weak (al' := [some (rv a0), some (iv x1), none, some (iv (x3 + (1 : Int32))), none, none, none, none]) ⟨rfl, ⟨rfl, ⟨rfl, trivial⟩⟩⟩ H
  · have H := H.2 c1
    refine mx_aload_n dX0_settle_115 rfl rfl ?_
    refine mx_get 0 25 (ref := "PrairiePool") cl_0 (Nat.le_of_ble_eq_true rfl) (Or.inl q485) (Or.inl rfl) dX0_settle_116 (fv_0_25 _ _) (ly0_k La0_h) ?_
    refine mx_tr (ly0_R_0_25 La0_h) ?_
    refine mx_iload dX0_settle_119 rfl ?_
    refine mx_dup2_ir dX0_settle_121 ?_
    obtain ⟨k2, H⟩ := H
    refine my_lald dX0_settle_122 rfl (ly0_A_1439 La0_h k2) ?_
    refine mx_lload dX0_settle_123 rfl ?_
    refine mx_aload dX0_settle_125 rfl ?_
    obtain ⟨k3, H⟩ := H
    refine mx_get 3 0 (ref := "PrairiePool$Heap") cl_3 (Nat.le_of_ble_eq_true rfl) (Or.inr ⟨_, q214⟩) (Or.inl rfl) dX0_settle_127 (fv_3_0 _ _) k3 ?_
    refine mx_iload dX0_settle_130 rfl ?_
    obtain ⟨k4, H⟩ := H
    refine my_iald dX0_settle_132 rfl k4 ?_
    refine mx_i2l dX0_settle_133 ?_
    refine mx_lmul dX0_settle_134 ?_
    refine mx_ladd dX0_settle_135 ?_
    refine my_last dX0_settle_136 rfl (ly0_A_1439 La0_h k2) ?_
    refine mx_nmJ  (fun h5 eh5 Xh5 Kh5 Lh5 => ?_)
    have H := H h5 eh5 Xh5
    have La0_h5 := La0_h.ext Xh5
    refine mx_aload_n dX0_settle_137 rfl rfl ?_
    refine mx_get 0 24 (ref := "PrairiePool") cl_0 (Nat.le_of_ble_eq_true rfl) (Or.inl q484) (Or.inl rfl) dX0_settle_138 (fv_0_24 _ _) (ly0_k La0_h5) ?_
    refine mx_tr (ly0_R_0_24 La0_h5) ?_
    refine mx_iload dX0_settle_141 rfl ?_
    refine mx_dup2_ir dX0_settle_143 ?_
    refine my_lald dX0_settle_144 rfl (ly0_A_1438 La0_h5 k2) ?_
    refine mx_tj (ah_skJA eh5 (by omega)) ?_
    refine mx_aload_n dX0_settle_145 rfl rfl ?_
    refine mx_get 0 9 (ref := "PrairiePool") cl_0 (Nat.le_of_ble_eq_true rfl) (Or.inl q469) (Or.inl rfl) dX0_settle_146 (fv_0_9 _ _) (ly0_k La0_h5) ?_
    refine mx_tr (ly0_R_0_9 La0_h5) ?_
    refine mx_get 2 0 (ref := "PrairiePool$Parts") cl_2 (Nat.le_of_ble_eq_true rfl) (Or.inr ⟨_, q194⟩) (Or.inl rfl) dX0_settle_149 (fv_2_0 _ _) (ly0_K_1426 La0_h5) ?_
    refine mx_tr (ly0_R_1426_0 La0_h5) ?_
    refine mx_iload dX0_settle_152 rfl ?_
    refine my_lald dX0_settle_154 rfl (ly0_A_1427 La0_h5 k2) ?_
    refine mx_tj (ah_skJA eh5 (by omega)) ?_
    refine mx_lload dX0_settle_155 rfl ?_
    refine mx_aload dX0_settle_157 rfl ?_
    refine mx_get 3 0 (ref := "PrairiePool$Heap") cl_3 (Nat.le_of_ble_eq_true rfl) (Or.inr ⟨_, q214⟩) (Or.inl rfl) dX0_settle_159 (fv_3_0 _ _) (ma_kde Kh5 (k3)) ?_
    refine mx_tr (ah_RJ eh5) ?_
    refine mx_iload dX0_settle_162 rfl ?_
    refine my_iald dX0_settle_164 rfl (ma_aok Kh5 Lh5 (k4)) ?_
    refine mx_ti (ah_IJ eh5) ?_
    refine mx_i2l dX0_settle_165 ?_
    refine mx_lmul dX0_settle_166 ?_
    refine mx_lsub dX0_settle_167 ?_
    refine mx_ladd dX0_settle_168 ?_
    refine my_last dX0_settle_169 rfl (ly0_A_1438 La0_h5 k2) ?_
    refine mx_nmJ  (fun h6 eh6 Xh6 Kh6 Lh6 => ?_)
    have H := H h6 eh6 Xh6
    have Kh6 := Kh6.trans Kh5
    have Lh6 := Lh6.trans Lh5
    have La0_h6 := La0_h5.ext Xh6
    refine mx_iinc (al' := [some (rv a0), some (iv x1), none, some (iv x3), some (rv a4), some (jv x5), none, some (iv (x7 + (1 : Int32)))]) dX0_settle_170 rfl ic_1 rfl ?_
    refine mx_goto (tgt := 108) dX0_settle_173 rfl ?_
    exact mx_weak (al' := [some (rv a0), some (iv x1), none, some (iv x3), some (rv a4), some (jv x5), none, some (iv (x7 + (1 : Int32)))]) ⟨rfl, ⟨rfl, ⟨rfl, ⟨rfl, ⟨rfl, ⟨rfl, trivial⟩⟩⟩⟩⟩⟩ H
theorem v_X0_settle_284 {G : ma_G} {d : Nat} {a0 : Nat} {x5 : Int64} {x7 : Int32} {h : ah_T} {Q : Option ma_V → ah_T → Prop} {E : Nat → ah_T → Prop} (La0_h : LY0 h a0) (H : ((20 : Int32) ≤ x7 → MX G mi_X2_split_2 d 0 [some (rv (a0 + 1426)), some (jv x5), none, some (jv ((ah_J h a0 27) - (ah_J h a0 28))), none, none, none, none, none] [] h (Qv fun h2 => ah_ext h h2 → ∀ h4 : ah_T, h4 = ah_cp h2 (a0 + 1427) 0 (a0 + 1440) 0 20 → ah_ext h2 h4 → Q none h4) E) ∧ (¬ (20 : Int32) ≤ x7 → vp_in x7 20 ∧ ∀ h6 : ah_T, h6 = ah_wJ h (a0 + 1429) x7.toNatClampNeg (jMax (0 : Int64) (-(ah_J h (a0 + 1438) x7.toNatClampNeg))) → ah_ext h h6 → MX G mi_X0_settle (d + 1) 284 [some (rv a0), none, none, none, none, some (jv (x5 + (jMax (0 : Int64) (-(ah_J h (a0 + 1438) x7.toNatClampNeg))))), none, some (iv (x7 + (1 : Int32)))] [] h6 Q E)) : MX G mi_X0_settle (d + 1) 284 [some (rv a0), none, none, none, none, some (jv x5), none, some (iv x7)] [] h Q E := by
  refine mx_iload dX0_settle_284 rfl ?_
  refine mx_bipush dX0_settle_286 ib_20 ?_
  refine mx_icmp_ge (tgt := 334) dX0_settle_288 rfl (fun c1 => ?_) (fun c1 => ?_)
  · have H := H.1 c1
    refine mx_aload_n dX0_settle_334 rfl rfl ?_
    refine mx_get 0 9 (ref := "PrairiePool") cl_0 (Nat.le_of_ble_eq_true rfl) (Or.inl q469) (Or.inl rfl) dX0_settle_335 (fv_0_9 _ _) (ly0_k La0_h) ?_
    refine mx_tr (ly0_R_0_9 La0_h) ?_
    refine mx_lload dX0_settle_338 rfl ?_
    refine mx_aload_n dX0_settle_340 rfl rfl ?_
    refine mx_get 0 27 (ref := "PrairiePool") cl_0 (Nat.le_of_ble_eq_true rfl) (Or.inl q487) (Or.inl rfl) dX0_settle_341 (fv_0_27 _ _) (ly0_k La0_h) ?_
    refine mx_aload_n dX0_settle_344 rfl rfl ?_
    refine mx_get 0 28 (ref := "PrairiePool") cl_0 (Nat.le_of_ble_eq_true rfl) (Or.inl q488) (Or.inl rfl) dX0_settle_345 (fv_0_28 _ _) (ly0_k La0_h) ?_
    refine mx_lsub dX0_settle_348 ?_
    refine mx_callV 2 (y' := mi_X2_split_2) (vs := [jv x5, jv ((ah_J h a0 27) - (ah_J h a0 28))]) (st := []) (al' := [some (rv (a0 + 1426)), some (jv x5), none, some (jv ((ah_J h a0 27) - (ah_J h a0 28))), none, none, none, none, none]) cl_2 V_X2_split_2 (Or.inl q1494) dX0_settle_349 rfl rfl (Nat.le_of_ble_eq_true rfl) (Nat.le_of_ble_eq_true rfl) (ly0_K_1426 La0_h) ?_
    refine ma_kv H (fun h2 Xh2 H => ?_) (fun x1 h1 X1 H => mt_out rfl H)
    have H := H Xh2
    have La0_h2 := La0_h.ext Xh2
    refine mx_aload_n dX0_settle_352 rfl rfl ?_
    refine mx_get 0 9 (ref := "PrairiePool") cl_0 (Nat.le_of_ble_eq_true rfl) (Or.inl q469) (Or.inl rfl) dX0_settle_353 (fv_0_9 _ _) (ly0_k La0_h2) ?_
    refine mx_tr (ly0_R_0_9 La0_h2) ?_
    refine mx_get 2 0 (ref := "PrairiePool$Parts") cl_2 (Nat.le_of_ble_eq_true rfl) (Or.inr ⟨_, q194⟩) (Or.inl rfl) dX0_settle_356 (fv_2_0 _ _) (ly0_K_1426 La0_h2) ?_
    refine mx_tr (ly0_R_1426_0 La0_h2) ?_
    refine mx_iconst dX0_settle_359 ic_0 ?_
    refine mx_aload_n dX0_settle_360 rfl rfl ?_
    refine mx_get 0 26 (ref := "PrairiePool") cl_0 (Nat.le_of_ble_eq_true rfl) (Or.inl q486) (Or.inl rfl) dX0_settle_361 (fv_0_26 _ _) (ly0_k La0_h2) ?_
    refine mx_tr (ly0_R_0_26 La0_h2) ?_
    refine mx_iconst dX0_settle_364 ic_0 ?_
    refine mx_bipush dX0_settle_365 ib_20 ?_
    refine mx_copy 1 (by decide) q747 q749 q748 q136 dX0_settle_367 (by decide) (ly0_K_1427 La0_h2) (ly0_K_1440 La0_h2) (by decide) (by decide) (by decide) (by rw [ly0_N_1427 La0_h2]; decide) (by rw [ly0_N_1440 La0_h2]; decide) (fun _ _ => rfl) (fun x_ => ?_)
    rw [cn_0, cn_20] at x_ ⊢
    refine mx_nmC x_ (fun h4 eh4 Xh4 => ?_)
    have H := H h4 eh4 Xh4
    have La0_h4 := La0_h2.ext Xh4
    exact mx_vret rfl dX0_settle_370 H
  · have H := H.2 c1
    refine mx_aload_n dX0_settle_291 rfl rfl ?_
    refine mx_get 0 9 (ref := "PrairiePool") cl_0 (Nat.le_of_ble_eq_true rfl) (Or.inl q469) (Or.inl rfl) dX0_settle_292 (fv_0_9 _ _) (ly0_k La0_h) ?_
    refine mx_tr (ly0_R_0_9 La0_h) ?_
    refine mx_get 2 2 (ref := "PrairiePool$Parts") cl_2 (Nat.le_of_ble_eq_true rfl) (Or.inr ⟨_, q197⟩) (Or.inl rfl) dX0_settle_295 (fv_2_2 _ _) (ly0_K_1426 La0_h) ?_
    refine mx_tr (ly0_R_1426_2 La0_h) ?_
    refine mx_iload dX0_settle_298 rfl ?_
    refine mx_lconst dX0_settle_300 lc_0 ?_
    refine mx_aload_n dX0_settle_301 rfl rfl ?_
    refine mx_get 0 24 (ref := "PrairiePool") cl_0 (Nat.le_of_ble_eq_true rfl) (Or.inl q484) (Or.inl rfl) dX0_settle_302 (fv_0_24 _ _) (ly0_k La0_h) ?_
    refine mx_tr (ly0_R_0_24 La0_h) ?_
    refine mx_iload dX0_settle_305 rfl ?_
    obtain ⟨k5, H⟩ := H
    refine my_lald dX0_settle_307 rfl (ly0_A_1438 La0_h k5) ?_
    refine mx_lneg dX0_settle_308 ?_
    refine mx_callS (y' := mi_J8_max) (vs := [jv (0 : Int64), jv (-(ah_J h (a0 + 1438) x7.toNatClampNeg))]) (st := [iv x7, rv (a0 + 1429)]) (al' := [some (jv (0 : Int64)), none, some (jv (-(ah_J h (a0 + 1438) x7.toNatClampNeg))), none]) S_J8_max q1064 dX0_settle_309 rfl rfl (Nat.le_of_ble_eq_true rfl) (Nat.le_of_ble_eq_true rfl) ?_
    refine pv_J8_max ?_
    refine my_last dX0_settle_312 rfl (ly0_A_1429 La0_h k5) ?_
    refine mx_nmJ  (fun h6 eh6 Xh6 Kh6 Lh6 => ?_)
    have H := H h6 eh6 Xh6
    have La0_h6 := La0_h.ext Xh6
    refine mx_lload dX0_settle_313 rfl ?_
    refine mx_aload_n dX0_settle_315 rfl rfl ?_
    refine mx_get 0 9 (ref := "PrairiePool") cl_0 (Nat.le_of_ble_eq_true rfl) (Or.inl q469) (Or.inl rfl) dX0_settle_316 (fv_0_9 _ _) (ly0_k La0_h6) ?_
    refine mx_tr (ly0_R_0_9 La0_h6) ?_
    refine mx_get 2 2 (ref := "PrairiePool$Parts") cl_2 (Nat.le_of_ble_eq_true rfl) (Or.inr ⟨_, q197⟩) (Or.inl rfl) dX0_settle_319 (fv_2_2 _ _) (ly0_K_1426 La0_h6) ?_
    refine mx_tr (ly0_R_1426_2 La0_h6) ?_
    refine mx_iload dX0_settle_322 rfl ?_
    refine my_lald dX0_settle_324 rfl (ly0_A_1429 La0_h6 k5) ?_
    refine mx_tj (ah_hitJ eh6) ?_
    refine mx_ladd dX0_settle_325 ?_
    refine mx_lstore (al' := [some (rv a0), none, none, none, none, some (jv (x5 + (jMax (0 : Int64) (-(ah_J h (a0 + 1438) x7.toNatClampNeg))))), none, some (iv x7)]) dX0_settle_326 (Nat.le_of_ble_eq_true rfl) rfl ?_
    refine mx_iinc (al' := [some (rv a0), none, none, none, none, some (jv (x5 + (jMax (0 : Int64) (-(ah_J h (a0 + 1438) x7.toNatClampNeg))))), none, some (iv (x7 + (1 : Int32)))]) dX0_settle_328 rfl ic_1 rfl ?_
    refine mx_goto (tgt := 284) dX0_settle_331 rfl ?_
    exact mx_weak (al' := [some (rv a0), none, none, none, none, some (jv (x5 + (jMax (0 : Int64) (-(ah_J h (a0 + 1438) x7.toNatClampNeg))))), none, some (iv (x7 + (1 : Int32)))]) ⟨rfl, ⟨rfl, ⟨rfl, trivial⟩⟩⟩ H
theorem dX0_firstOf_0 : decode mi_X0_firstOf.2.1 0 = .ok (.aload_n 0, 1) := by decide +kernel
theorem dX0_firstOf_1 : decode mi_X0_firstOf.2.1 1 = .ok (.aload_n 0, 1) := by decide +kernel
theorem dX0_firstOf_2 : decode mi_X0_firstOf.2.1 2 = .ok (.bipush 52, 2) := by decide +kernel
theorem dX0_firstOf_4 : decode mi_X0_firstOf.2.1 4 = .ok (.iload_n 2, 1) := by decide +kernel
theorem dX0_firstOf_5 : decode mi_X0_firstOf.2.1 5 = .ok (.imul, 1) := by decide +kernel
theorem dX0_firstOf_6 : decode mi_X0_firstOf.2.1 6 = .ok (.bipush 51, 2) := by decide +kernel
theorem dX0_firstOf_8 : decode mi_X0_firstOf.2.1 8 = .ok (.iadd, 1) := by decide +kernel
theorem dX0_firstOf_9 : decode mi_X0_firstOf.2.1 9 = .ok (.invokevirtual 331, 3) := by decide +kernel
theorem dX0_firstOf_12 : decode mi_X0_firstOf.2.1 12 = .ok (.putfield 335, 3) := by decide +kernel
theorem dX0_firstOf_15 : decode mi_X0_firstOf.2.1 15 = .ok (.aload_n 0, 1) := by decide +kernel
theorem dX0_firstOf_16 : decode mi_X0_firstOf.2.1 16 = .ok (.invokevirtual 339, 3) := by decide +kernel
theorem dX0_firstOf_19 : decode mi_X0_firstOf.2.1 19 = .ok (.astore_n 3, 1) := by decide +kernel
theorem dX0_firstOf_20 : decode mi_X0_firstOf.2.1 20 = .ok (.aload_n 3, 1) := by decide +kernel
theorem dX0_firstOf_21 : decode mi_X0_firstOf.2.1 21 = .ok (.iconst 0, 1) := by decide +kernel
theorem dX0_firstOf_22 : decode mi_X0_firstOf.2.1 22 = .ok (.iload_n 1, 1) := by decide +kernel
theorem dX0_firstOf_23 : decode mi_X0_firstOf.2.1 23 = .ok (.i2l, 1) := by decide +kernel
theorem dX0_firstOf_24 : decode mi_X0_firstOf.2.1 24 = .ok (.lastore, 1) := by decide +kernel
theorem dX0_firstOf_25 : decode mi_X0_firstOf.2.1 25 = .ok (.aload_n 3, 1) := by decide +kernel
theorem dX0_firstOf_26 : decode mi_X0_firstOf.2.1 26 = .ok (.iconst 3, 1) := by decide +kernel
theorem dX0_firstOf_27 : decode mi_X0_firstOf.2.1 27 = .ok (.iload_n 2, 1) := by decide +kernel
theorem dX0_firstOf_28 : decode mi_X0_firstOf.2.1 28 = .ok (.i2l, 1) := by decide +kernel
theorem dX0_firstOf_29 : decode mi_X0_firstOf.2.1 29 = .ok (.lastore, 1) := by decide +kernel
theorem dX0_firstOf_30 : decode mi_X0_firstOf.2.1 30 = .ok (.aload_n 0, 1) := by decide +kernel
theorem dX0_firstOf_31 : decode mi_X0_firstOf.2.1 31 = .ok (.ldc2_w 474, 3) := by decide +kernel
theorem dX0_firstOf_34 : decode mi_X0_firstOf.2.1 34 = .ok (.lconst 0, 1) := by decide +kernel
theorem dX0_firstOf_35 : decode mi_X0_firstOf.2.1 35 = .ok (.lconst 0, 1) := by decide +kernel
theorem dX0_firstOf_36 : decode mi_X0_firstOf.2.1 36 = .ok (.ldc2_w 283, 3) := by decide +kernel
theorem dX0_firstOf_39 : decode mi_X0_firstOf.2.1 39 = .ok (.invokevirtual 361, 3) := by decide +kernel
theorem dX0_firstOf_42 : decode mi_X0_firstOf.2.1 42 = .ok (.lreturn, 1) := by decide +kernel
theorem v_X0_firstOf {G : ma_G} {d : Nat} {a0 : Nat} {x1 : Int32} {x2 : Int32} {h : ah_T} {Q : Option ma_V → ah_T → Prop} {E : Nat → ah_T → Prop} (La0_h : LY0 h a0) (H : MX G mi_X0_lawOf d 0 [some (rv a0), some (iv (((52 : Int32) * x2) + (51 : Int32))), none, none] [] h (Qr fun r2 h1 => ah_ext h h1 → ∀ h3 : ah_T, h3 = ah_wR h1 a0 23 r2 → ah_ext h1 h3 → MX G mi_X0_clear d 0 [some (rv a0), none] [] h3 (Qr fun r5 h4 => ah_ext h3 h4 → aok h4 41 r5 (0 : Int32) ∧ ∀ h7 : ah_T, h7 = ah_wJ h4 r5 0 x1.toInt64 → ah_ext h4 h7 → aok h4 41 r5 (3 : Int32) ∧ ∀ h9 : ah_T, h9 = ah_wJ h7 r5 3 x2.toInt64 → ah_ext h7 h9 → MX G mi_X0_asks d 0 [some (rv a0), some (jv (439855772532 : Int64)), none, some (jv (0 : Int64)), none, some (jv (0 : Int64)), none, some (jv (1000 : Int64)), none, none] [] h9 (Ql fun r11 h10 => ah_ext h9 h10 → Q (some (jv r11)) h10) E) E) E) : MX G mi_X0_firstOf (d + 1) 0 [some (rv a0), some (iv x1), some (iv x2), none] [] h Q E := by
  refine mx_aload_n dX0_firstOf_0 rfl rfl ?_
  refine mx_aload_n dX0_firstOf_1 rfl rfl ?_
  refine mx_bipush dX0_firstOf_2 ib_52 ?_
  refine mx_iload_n dX0_firstOf_4 rfl rfl ?_
  refine mx_imul dX0_firstOf_5 ?_
  refine mx_bipush dX0_firstOf_6 ib_51 ?_
  refine mx_iadd dX0_firstOf_8 ?_
  refine mx_callV 0 (y' := mi_X0_lawOf) (vs := [iv (((52 : Int32) * x2) + (51 : Int32))]) (st := [rv a0]) (al' := [some (rv a0), some (iv (((52 : Int32) * x2) + (51 : Int32))), none, none]) cl_0 V_X0_lawOf (Or.inl q994) dX0_firstOf_9 rfl rfl (Nat.le_of_ble_eq_true rfl) (Nat.le_of_ble_eq_true rfl) (ly0_k La0_h) ?_
  refine ma_kr H (fun r2 h1 Xh1 H => ?_) (fun x1 h1 X1 H => mt_out rfl H)
  have H := H Xh1
  have La0_h1 := La0_h.ext Xh1
  refine mx_putO 0 23 (ref := "PrairiePool") cl_0 (Nat.le_of_ble_eq_true rfl) (Or.inl q483) (Or.inl rfl) dX0_firstOf_12 (Or.inl rfl) rfl (Or.inl rfl) (ly0_k La0_h1) ?_
  refine mx_nmR (ah_ext.wR (Or.inl (by rw [(ly0_k La0_h1)]; rfl))) (fun h3 eh3 Xh3 Kh3 Lh3 => ?_)
  have H := H h3 eh3 Xh3
  have La0_h3 := La0_h1.ext Xh3
  refine mx_aload_n dX0_firstOf_15 rfl rfl ?_
  refine mx_callV 0 (y' := mi_X0_clear) (vs := []) (st := []) (al' := [some (rv a0), none]) cl_0 V_X0_clear (Or.inl q998) dX0_firstOf_16 rfl rfl (Nat.le_of_ble_eq_true rfl) (Nat.le_of_ble_eq_true rfl) (ly0_k La0_h3) ?_
  refine ma_kr H (fun r5 h4 Xh4 H => ?_) (fun x1 h1 X1 H => mt_out rfl H)
  have H := H Xh4
  have La0_h4 := La0_h3.ext Xh4
  refine mx_astore_n (al' := [some (rv a0), some (iv x1), some (iv x2), some (rv r5)]) dX0_firstOf_19 rfl (Nat.le_of_ble_eq_true rfl) rfl ?_
  refine mx_aload_n dX0_firstOf_20 rfl rfl ?_
  refine mx_iconst dX0_firstOf_21 ic_0 ?_
  refine mx_iload_n dX0_firstOf_22 rfl rfl ?_
  refine mx_i2l dX0_firstOf_23 ?_
  obtain ⟨k6, H⟩ := H
  refine my_last dX0_firstOf_24 cn_0 k6 ?_
  refine mx_nmJ  (fun h7 eh7 Xh7 Kh7 Lh7 => ?_)
  have H := H h7 eh7 Xh7
  have La0_h7 := La0_h4.ext Xh7
  refine mx_aload_n dX0_firstOf_25 rfl rfl ?_
  refine mx_iconst dX0_firstOf_26 ic_3 ?_
  refine mx_iload_n dX0_firstOf_27 rfl rfl ?_
  refine mx_i2l dX0_firstOf_28 ?_
  obtain ⟨k8, H⟩ := H
  refine my_last dX0_firstOf_29 cn_3 (ma_aok Kh7 Lh7 (k8)) ?_
  refine mx_nmJ  (fun h9 eh9 Xh9 Kh9 Lh9 => ?_)
  have H := H h9 eh9 Xh9
  have Kh9 := Kh9.trans Kh7
  have Lh9 := Lh9.trans Lh7
  have La0_h9 := La0_h7.ext Xh9
  refine mx_aload_n dX0_firstOf_30 rfl rfl ?_
  refine mx_ldc2 q1491 dX0_firstOf_31 ?_
  refine mx_lconst dX0_firstOf_34 lc_0 ?_
  refine mx_lconst dX0_firstOf_35 lc_0 ?_
  refine mx_ldc2 q836 dX0_firstOf_36 ?_
  refine mx_callV 0 (y' := mi_X0_asks) (vs := [jv (439855772532 : Int64), jv (0 : Int64), jv (0 : Int64), jv (1000 : Int64)]) (st := []) (al' := [some (rv a0), some (jv (439855772532 : Int64)), none, some (jv (0 : Int64)), none, some (jv (0 : Int64)), none, some (jv (1000 : Int64)), none, none]) cl_0 V_X0_asks (Or.inl q1015) dX0_firstOf_39 rfl rfl (Nat.le_of_ble_eq_true rfl) (Nat.le_of_ble_eq_true rfl) (ly0_k La0_h9) ?_
  refine ma_kl H (fun r11 h10 Xh10 H => ?_) (fun x1 h1 X1 H => mt_out rfl H)
  have H := H Xh10
  have k12 := ma_aokx Xh10 ((ma_aok Kh9 Lh9 (k6)))
  have k13 := Xh10.kd ((ma_kde Kh9 (k6.1)))
  have k14 := ma_aokx Xh10 ((ma_aok Kh9 Lh9 (k8)))
  have La0_h10 := La0_h9.ext Xh10
  exact mx_lret rfl dX0_firstOf_42 H
theorem dX0_first_0 : decode mi_X0_first.2.1 0 = .ok (.aload_n 0, 1) := by decide +kernel
theorem dX0_first_1 : decode mi_X0_first.2.1 1 = .ok (.iload_n 1, 1) := by decide +kernel
theorem dX0_first_2 : decode mi_X0_first.2.1 2 = .ok (.iload_n 2, 1) := by decide +kernel
theorem dX0_first_3 : decode mi_X0_first.2.1 3 = .ok (.iload_n 3, 1) := by decide +kernel
theorem dX0_first_4 : decode mi_X0_first.2.1 4 = .ok (.invokevirtual 512, 3) := by decide +kernel
theorem dX0_first_7 : decode mi_X0_first.2.1 7 = .ok (.istore 4, 2) := by decide +kernel
theorem dX0_first_9 : decode mi_X0_first.2.1 9 = .ok (.iload 4, 2) := by decide +kernel
theorem dX0_first_11 : decode mi_X0_first.2.1 11 = .ok (.ifCond .le 11, 3) := by decide +kernel
theorem dX0_first_14 : decode mi_X0_first.2.1 14 = .ok (.aload_n 0, 1) := by decide +kernel
theorem dX0_first_15 : decode mi_X0_first.2.1 15 = .ok (.iload 4, 2) := by decide +kernel
theorem dX0_first_17 : decode mi_X0_first.2.1 17 = .ok (.invokevirtual 205, 3) := by decide +kernel
theorem dX0_first_20 : decode mi_X0_first.2.1 20 = .ok (.i2l, 1) := by decide +kernel
theorem dX0_first_21 : decode mi_X0_first.2.1 21 = .ok (.lreturn, 1) := by decide +kernel
theorem dX0_first_22 : decode mi_X0_first.2.1 22 = .ok (.aload_n 0, 1) := by decide +kernel
theorem dX0_first_23 : decode mi_X0_first.2.1 23 = .ok (.iload_n 2, 1) := by decide +kernel
theorem dX0_first_24 : decode mi_X0_first.2.1 24 = .ok (.iload_n 3, 1) := by decide +kernel
theorem dX0_first_25 : decode mi_X0_first.2.1 25 = .ok (.invokevirtual 516, 3) := by decide +kernel
theorem dX0_first_28 : decode mi_X0_first.2.1 28 = .ok (.aload_n 0, 1) := by decide +kernel
theorem dX0_first_29 : decode mi_X0_first.2.1 29 = .ok (.aload_n 0, 1) := by decide +kernel
theorem dX0_first_30 : decode mi_X0_first.2.1 30 = .ok (.getfield 100, 3) := by decide +kernel
theorem dX0_first_33 : decode mi_X0_first.2.1 33 = .ok (.iload_n 1, 1) := by decide +kernel
theorem dX0_first_34 : decode mi_X0_first.2.1 34 = .ok (.laload, 1) := by decide +kernel
theorem dX0_first_35 : decode mi_X0_first.2.1 35 = .ok (.invokevirtual 508, 3) := by decide +kernel
theorem dX0_first_38 : decode mi_X0_first.2.1 38 = .ok (.lreturn, 1) := by decide +kernel
theorem v_X0_first {G : ma_G} {d : Nat} {a0 : Nat} {x1 : Int32} {x2 : Int32} {x3 : Int32} {h : ah_T} {Q : Option ma_V → ah_T → Prop} {E : Nat → ah_T → Prop} (La0_h : LY0 h a0) (H : (x1 < 0 → ∀ h2 : ah_T, h2 = ah_wI h a0 20 (2 : Int32) → ah_ext h h2 → Q (some (jv (-1 : Int32).toInt64)) h2) ∧ (¬ x1 < 0 → ((ah_I h a0 14) ≤ x1 → ∀ h4 : ah_T, h4 = ah_wI h a0 20 (2 : Int32) → ah_ext h h4 → Q (some (jv (-1 : Int32).toInt64)) h4) ∧ (¬ (ah_I h a0 14) ≤ x1 → (x2 < 0 → ∀ h6 : ah_T, h6 = ah_wI h a0 20 (5 : Int32) → ah_ext h h6 → Q (some (jv (-1 : Int32).toInt64)) h6) ∧ (¬ x2 < 0 → ((10 : Int32) ≤ x2 → ∀ h8 : ah_T, h8 = ah_wI h a0 20 (5 : Int32) → ah_ext h h8 → Q (some (jv (-1 : Int32).toInt64)) h8) ∧ (¬ (10 : Int32) ≤ x2 → (x3 < 0 → ∀ h10 : ah_T, h10 = ah_wI h a0 20 (5 : Int32) → ah_ext h h10 → Q (some (jv (-1 : Int32).toInt64)) h10) ∧ (¬ x3 < 0 → ((520 : Int32) ≤ x3 → ∀ h12 : ah_T, h12 = ah_wI h a0 20 (5 : Int32) → ah_ext h h12 → Q (some (jv (-1 : Int32).toInt64)) h12) ∧ (¬ (520 : Int32) ≤ x3 → MX G mi_X0_settle (d + 1) 0 [some (rv a0), some (iv x2), some (iv x3), none, none, none, none, none] [] h (Qv fun h13 => ah_ext h h13 → vp_in x1 20 ∧ ∀ h16 : ah_T, h16 = ah_wI h13 a0 20 (0 : Int32) → ah_ext h13 h16 → Q (some (jv (ah_J h13 (a0 + 1439) x1.toNatClampNeg))) h16) E))))))) : MX G mi_X0_first (d + 2) 0 [some (rv a0), some (iv x1), some (iv x2), some (iv x3), none] [] h Q E := by
  refine mx_aload_n dX0_first_0 rfl rfl ?_
  refine mx_iload_n dX0_first_1 rfl rfl ?_
  refine mx_iload_n dX0_first_2 rfl rfl ?_
  refine mx_iload_n dX0_first_3 rfl rfl ?_
  refine mx_callV 0 (y' := mi_X0_wrongYear) (vs := [iv x1, iv x2, iv x3]) (st := []) (al' := [some (rv a0), some (iv x1), some (iv x2), some (iv x3)]) cl_0 V_X0_wrongYear (Or.inl q1479) dX0_first_4 rfl rfl (Nat.le_of_ble_eq_true rfl) (Nat.le_of_ble_eq_true rfl) (ly0_k La0_h) ?_
  refine mx_aload_n dX0_wrongYear_0 rfl rfl ?_
  refine mx_iload_n dX0_wrongYear_1 rfl rfl ?_
  refine mx_callV 0 (y' := mi_X0_isFarm) (vs := [iv x1]) (st := []) (al' := [some (rv a0), some (iv x1)]) cl_0 V_X0_isFarm (Or.inl q827) dX0_wrongYear_2 rfl rfl (Nat.le_of_ble_eq_true rfl) (Nat.le_of_ble_eq_true rfl) (ly0_k La0_h) ?_
  refine mx_iload_n dX0_isFarm_0 rfl rfl ?_
  refine mx_if_lt (tgt := 16) dX0_isFarm_1 rfl (fun c1 => ?_) (fun c1 => ?_)
  · have H := H.1 c1
    refine mx_iconst dX0_isFarm_16 ic_0 ?_
    refine mx_zretK rfl dX0_isFarm_17 (Or.inl rfl) ?_
    refine mx_if_ne (tgt := 12) dX0_wrongYear_5 rfl (fun _ => absurd ‹_› (by decide)) (fun _ => ?_)
    refine mx_iconst dX0_wrongYear_8 ic_2 ?_
    refine mx_goto (tgt := 31) dX0_wrongYear_9 rfl ?_
    refine mx_iretK rfl dX0_wrongYear_31 ?_
    refine mx_istore (al' := [some (rv a0), some (iv x1), some (iv x2), some (iv x3), some (iv (2 : Int32))]) dX0_first_7 (Nat.le_of_ble_eq_true rfl) rfl ?_
    refine mx_iload dX0_first_9 rfl ?_
    refine mx_if_le (tgt := 22) dX0_first_11 rfl (fun _ => absurd ‹_› (by decide)) (fun _ => ?_)
    refine mx_aload_n dX0_first_14 rfl rfl ?_
    refine mx_iload dX0_first_15 rfl ?_
    refine mx_callV 0 (y' := mi_X0_none) (vs := [iv (2 : Int32)]) (st := []) (al' := [some (rv a0), some (iv (2 : Int32))]) cl_0 V_X0_none (Or.inl q733) dX0_first_17 rfl rfl (Nat.le_of_ble_eq_true rfl) (Nat.le_of_ble_eq_true rfl) (ly0_k La0_h) ?_
    refine mx_aload_n dX0_none_0 rfl rfl ?_
    refine mx_iload_n dX0_none_1 rfl rfl ?_
    refine mx_putI 0 20 (ref := "PrairiePool") cl_0 (Nat.le_of_ble_eq_true rfl) (Or.inl q480) (Or.inl rfl) dX0_none_2 (Or.inl rfl) rfl (ly0_k La0_h) ?_
    refine mx_nmI  (fun h2 eh2 Xh2 Kh2 Lh2 => ?_)
    have H := H h2 eh2 Xh2
    have La0_h2 := La0_h.ext Xh2
    refine mx_iconst dX0_none_5 ic_m1 ?_
    refine mx_iretK rfl dX0_none_6 ?_
    refine mx_i2l dX0_first_20 ?_
    exact mx_lret rfl dX0_first_21 H
  · have H := H.2 c1
    refine mx_iload_n dX0_isFarm_4 rfl rfl ?_
    refine mx_aload_n dX0_isFarm_5 rfl rfl ?_
    refine mx_get 0 14 (ref := "PrairiePool") cl_0 (Nat.le_of_ble_eq_true rfl) (Or.inl q474) (Or.inl rfl) dX0_isFarm_6 (fv_0_14 _ _) (ly0_k La0_h) ?_
    refine mx_icmp_ge (tgt := 16) dX0_isFarm_9 rfl (fun c3 => ?_) (fun c3 => ?_)
    · have H := H.1 c3
      refine mx_iconst dX0_isFarm_16 ic_0 ?_
      refine mx_zretK rfl dX0_isFarm_17 (Or.inl rfl) ?_
      refine mx_if_ne (tgt := 12) dX0_wrongYear_5 rfl (fun _ => absurd ‹_› (by decide)) (fun _ => ?_)
      refine mx_iconst dX0_wrongYear_8 ic_2 ?_
      refine mx_goto (tgt := 31) dX0_wrongYear_9 rfl ?_
      refine mx_iretK rfl dX0_wrongYear_31 ?_
      refine mx_istore (al' := [some (rv a0), some (iv x1), some (iv x2), some (iv x3), some (iv (2 : Int32))]) dX0_first_7 (Nat.le_of_ble_eq_true rfl) rfl ?_
      refine mx_iload dX0_first_9 rfl ?_
      refine mx_if_le (tgt := 22) dX0_first_11 rfl (fun _ => absurd ‹_› (by decide)) (fun _ => ?_)
      refine mx_aload_n dX0_first_14 rfl rfl ?_
      refine mx_iload dX0_first_15 rfl ?_
      refine mx_callV 0 (y' := mi_X0_none) (vs := [iv (2 : Int32)]) (st := []) (al' := [some (rv a0), some (iv (2 : Int32))]) cl_0 V_X0_none (Or.inl q733) dX0_first_17 rfl rfl (Nat.le_of_ble_eq_true rfl) (Nat.le_of_ble_eq_true rfl) (ly0_k La0_h) ?_
      refine mx_aload_n dX0_none_0 rfl rfl ?_
      refine mx_iload_n dX0_none_1 rfl rfl ?_
      refine mx_putI 0 20 (ref := "PrairiePool") cl_0 (Nat.le_of_ble_eq_true rfl) (Or.inl q480) (Or.inl rfl) dX0_none_2 (Or.inl rfl) rfl (ly0_k La0_h) ?_
      refine mx_nmI  (fun h4 eh4 Xh4 Kh4 Lh4 => ?_)
      have H := H h4 eh4 Xh4
      have La0_h4 := La0_h.ext Xh4
      refine mx_iconst dX0_none_5 ic_m1 ?_
      refine mx_iretK rfl dX0_none_6 ?_
      refine mx_i2l dX0_first_20 ?_
      exact mx_lret rfl dX0_first_21 H
    · have H := H.2 c3
      refine mx_iconst dX0_isFarm_12 ic_1 ?_
      refine mx_goto (tgt := 17) dX0_isFarm_13 rfl ?_
      refine mx_zretK rfl dX0_isFarm_17 (Or.inr rfl) ?_
      refine mx_if_ne (tgt := 12) dX0_wrongYear_5 rfl (fun _ => ?_) (fun _ => absurd ‹_› (by decide))
      refine mx_iload_n dX0_wrongYear_12 rfl rfl ?_
      refine mx_callS (y' := mi_X0_isYear) (vs := [iv x2]) (st := []) (al' := [some (iv x2)]) S_X0_isYear q896 dX0_wrongYear_13 rfl rfl (Nat.le_of_ble_eq_true rfl) (Nat.le_of_ble_eq_true rfl) ?_
      refine mx_iload_n dX0_isYear_0 rfl rfl ?_
      refine mx_if_lt (tgt := 14) dX0_isYear_1 rfl (fun c5 => ?_) (fun c5 => ?_)
      · have H := H.1 c5
        refine mx_iconst dX0_isYear_14 ic_0 ?_
        refine mx_zretK rfl dX0_isYear_15 (Or.inl rfl) ?_
        refine mx_if_eq (tgt := 26) dX0_wrongYear_16 rfl (fun _ => ?_) (fun _ => absurd ‹_› (by decide))
        refine mx_iconst dX0_wrongYear_26 ic_5 ?_
        refine mx_goto (tgt := 31) dX0_wrongYear_27 rfl ?_
        refine mx_iretK rfl dX0_wrongYear_31 ?_
        refine mx_istore (al' := [some (rv a0), some (iv x1), some (iv x2), some (iv x3), some (iv (5 : Int32))]) dX0_first_7 (Nat.le_of_ble_eq_true rfl) rfl ?_
        refine mx_iload dX0_first_9 rfl ?_
        refine mx_if_le (tgt := 22) dX0_first_11 rfl (fun _ => absurd ‹_› (by decide)) (fun _ => ?_)
        refine mx_aload_n dX0_first_14 rfl rfl ?_
        refine mx_iload dX0_first_15 rfl ?_
        refine mx_callV 0 (y' := mi_X0_none) (vs := [iv (5 : Int32)]) (st := []) (al' := [some (rv a0), some (iv (5 : Int32))]) cl_0 V_X0_none (Or.inl q733) dX0_first_17 rfl rfl (Nat.le_of_ble_eq_true rfl) (Nat.le_of_ble_eq_true rfl) (ly0_k La0_h) ?_
        refine mx_aload_n dX0_none_0 rfl rfl ?_
        refine mx_iload_n dX0_none_1 rfl rfl ?_
        refine mx_putI 0 20 (ref := "PrairiePool") cl_0 (Nat.le_of_ble_eq_true rfl) (Or.inl q480) (Or.inl rfl) dX0_none_2 (Or.inl rfl) rfl (ly0_k La0_h) ?_
        refine mx_nmI  (fun h6 eh6 Xh6 Kh6 Lh6 => ?_)
        have H := H h6 eh6 Xh6
        have La0_h6 := La0_h.ext Xh6
        refine mx_iconst dX0_none_5 ic_m1 ?_
        refine mx_iretK rfl dX0_none_6 ?_
        refine mx_i2l dX0_first_20 ?_
        exact mx_lret rfl dX0_first_21 H
      · have H := H.2 c5
        refine mx_iload_n dX0_isYear_4 rfl rfl ?_
        refine mx_bipush dX0_isYear_5 ib_10 ?_
        refine mx_icmp_ge (tgt := 14) dX0_isYear_7 rfl (fun c7 => ?_) (fun c7 => ?_)
        · have H := H.1 c7
          refine mx_iconst dX0_isYear_14 ic_0 ?_
          refine mx_zretK rfl dX0_isYear_15 (Or.inl rfl) ?_
          refine mx_if_eq (tgt := 26) dX0_wrongYear_16 rfl (fun _ => ?_) (fun _ => absurd ‹_› (by decide))
          refine mx_iconst dX0_wrongYear_26 ic_5 ?_
          refine mx_goto (tgt := 31) dX0_wrongYear_27 rfl ?_
          refine mx_iretK rfl dX0_wrongYear_31 ?_
          refine mx_istore (al' := [some (rv a0), some (iv x1), some (iv x2), some (iv x3), some (iv (5 : Int32))]) dX0_first_7 (Nat.le_of_ble_eq_true rfl) rfl ?_
          refine mx_iload dX0_first_9 rfl ?_
          refine mx_if_le (tgt := 22) dX0_first_11 rfl (fun _ => absurd ‹_› (by decide)) (fun _ => ?_)
          refine mx_aload_n dX0_first_14 rfl rfl ?_
          refine mx_iload dX0_first_15 rfl ?_
          refine mx_callV 0 (y' := mi_X0_none) (vs := [iv (5 : Int32)]) (st := []) (al' := [some (rv a0), some (iv (5 : Int32))]) cl_0 V_X0_none (Or.inl q733) dX0_first_17 rfl rfl (Nat.le_of_ble_eq_true rfl) (Nat.le_of_ble_eq_true rfl) (ly0_k La0_h) ?_
          refine mx_aload_n dX0_none_0 rfl rfl ?_
          refine mx_iload_n dX0_none_1 rfl rfl ?_
          refine mx_putI 0 20 (ref := "PrairiePool") cl_0 (Nat.le_of_ble_eq_true rfl) (Or.inl q480) (Or.inl rfl) dX0_none_2 (Or.inl rfl) rfl (ly0_k La0_h) ?_
          refine mx_nmI  (fun h8 eh8 Xh8 Kh8 Lh8 => ?_)
          have H := H h8 eh8 Xh8
          have La0_h8 := La0_h.ext Xh8
          refine mx_iconst dX0_none_5 ic_m1 ?_
          refine mx_iretK rfl dX0_none_6 ?_
          refine mx_i2l dX0_first_20 ?_
          exact mx_lret rfl dX0_first_21 H
        · have H := H.2 c7
          refine mx_iconst dX0_isYear_10 ic_1 ?_
          refine mx_goto (tgt := 15) dX0_isYear_11 rfl ?_
          refine mx_zretK rfl dX0_isYear_15 (Or.inr rfl) ?_
          refine mx_if_eq (tgt := 26) dX0_wrongYear_16 rfl (fun _ => absurd ‹_› (by decide)) (fun _ => ?_)
          refine mx_iload_n dX0_wrongYear_19 rfl rfl ?_
          refine mx_callS (y' := mi_X0_isWeek) (vs := [iv x3]) (st := []) (al' := [some (iv x3)]) S_X0_isWeek q841 dX0_wrongYear_20 rfl rfl (Nat.le_of_ble_eq_true rfl) (Nat.le_of_ble_eq_true rfl) ?_
          refine mx_iload_n dX0_isWeek_0 rfl rfl ?_
          refine mx_if_lt (tgt := 15) dX0_isWeek_1 rfl (fun c9 => ?_) (fun c9 => ?_)
          · have H := H.1 c9
            refine mx_iconst dX0_isWeek_15 ic_0 ?_
            refine mx_zretK rfl dX0_isWeek_16 (Or.inl rfl) ?_
            refine mx_if_ne (tgt := 30) dX0_wrongYear_23 rfl (fun _ => absurd ‹_› (by decide)) (fun _ => ?_)
            refine mx_iconst dX0_wrongYear_26 ic_5 ?_
            refine mx_goto (tgt := 31) dX0_wrongYear_27 rfl ?_
            refine mx_iretK rfl dX0_wrongYear_31 ?_
            refine mx_istore (al' := [some (rv a0), some (iv x1), some (iv x2), some (iv x3), some (iv (5 : Int32))]) dX0_first_7 (Nat.le_of_ble_eq_true rfl) rfl ?_
            refine mx_iload dX0_first_9 rfl ?_
            refine mx_if_le (tgt := 22) dX0_first_11 rfl (fun _ => absurd ‹_› (by decide)) (fun _ => ?_)
            refine mx_aload_n dX0_first_14 rfl rfl ?_
            refine mx_iload dX0_first_15 rfl ?_
            refine mx_callV 0 (y' := mi_X0_none) (vs := [iv (5 : Int32)]) (st := []) (al' := [some (rv a0), some (iv (5 : Int32))]) cl_0 V_X0_none (Or.inl q733) dX0_first_17 rfl rfl (Nat.le_of_ble_eq_true rfl) (Nat.le_of_ble_eq_true rfl) (ly0_k La0_h) ?_
            refine mx_aload_n dX0_none_0 rfl rfl ?_
            refine mx_iload_n dX0_none_1 rfl rfl ?_
            refine mx_putI 0 20 (ref := "PrairiePool") cl_0 (Nat.le_of_ble_eq_true rfl) (Or.inl q480) (Or.inl rfl) dX0_none_2 (Or.inl rfl) rfl (ly0_k La0_h) ?_
            refine mx_nmI  (fun h10 eh10 Xh10 Kh10 Lh10 => ?_)
            have H := H h10 eh10 Xh10
            have La0_h10 := La0_h.ext Xh10
            refine mx_iconst dX0_none_5 ic_m1 ?_
            refine mx_iretK rfl dX0_none_6 ?_
            refine mx_i2l dX0_first_20 ?_
            exact mx_lret rfl dX0_first_21 H
          · have H := H.2 c9
            refine mx_iload_n dX0_isWeek_4 rfl rfl ?_
            refine mx_sipush dX0_isWeek_5 is_520 ?_
            refine mx_icmp_ge (tgt := 15) dX0_isWeek_8 rfl (fun c11 => ?_) (fun c11 => ?_)
            · have H := H.1 c11
              refine mx_iconst dX0_isWeek_15 ic_0 ?_
              refine mx_zretK rfl dX0_isWeek_16 (Or.inl rfl) ?_
              refine mx_if_ne (tgt := 30) dX0_wrongYear_23 rfl (fun _ => absurd ‹_› (by decide)) (fun _ => ?_)
              refine mx_iconst dX0_wrongYear_26 ic_5 ?_
              refine mx_goto (tgt := 31) dX0_wrongYear_27 rfl ?_
              refine mx_iretK rfl dX0_wrongYear_31 ?_
              refine mx_istore (al' := [some (rv a0), some (iv x1), some (iv x2), some (iv x3), some (iv (5 : Int32))]) dX0_first_7 (Nat.le_of_ble_eq_true rfl) rfl ?_
              refine mx_iload dX0_first_9 rfl ?_
              refine mx_if_le (tgt := 22) dX0_first_11 rfl (fun _ => absurd ‹_› (by decide)) (fun _ => ?_)
              refine mx_aload_n dX0_first_14 rfl rfl ?_
              refine mx_iload dX0_first_15 rfl ?_
              refine mx_callV 0 (y' := mi_X0_none) (vs := [iv (5 : Int32)]) (st := []) (al' := [some (rv a0), some (iv (5 : Int32))]) cl_0 V_X0_none (Or.inl q733) dX0_first_17 rfl rfl (Nat.le_of_ble_eq_true rfl) (Nat.le_of_ble_eq_true rfl) (ly0_k La0_h) ?_
              refine mx_aload_n dX0_none_0 rfl rfl ?_
              refine mx_iload_n dX0_none_1 rfl rfl ?_
              refine mx_putI 0 20 (ref := "PrairiePool") cl_0 (Nat.le_of_ble_eq_true rfl) (Or.inl q480) (Or.inl rfl) dX0_none_2 (Or.inl rfl) rfl (ly0_k La0_h) ?_
              refine mx_nmI  (fun h12 eh12 Xh12 Kh12 Lh12 => ?_)
              have H := H h12 eh12 Xh12
              have La0_h12 := La0_h.ext Xh12
              refine mx_iconst dX0_none_5 ic_m1 ?_
              refine mx_iretK rfl dX0_none_6 ?_
              refine mx_i2l dX0_first_20 ?_
              exact mx_lret rfl dX0_first_21 H
            · have H := H.2 c11
              refine mx_iconst dX0_isWeek_11 ic_1 ?_
              refine mx_goto (tgt := 16) dX0_isWeek_12 rfl ?_
              refine mx_zretK rfl dX0_isWeek_16 (Or.inr rfl) ?_
              refine mx_if_ne (tgt := 30) dX0_wrongYear_23 rfl (fun _ => ?_) (fun _ => absurd ‹_› (by decide))
              refine mx_iconst dX0_wrongYear_30 ic_0 ?_
              refine mx_iretK rfl dX0_wrongYear_31 ?_
              refine mx_istore (al' := [some (rv a0), some (iv x1), some (iv x2), some (iv x3), some (iv (0 : Int32))]) dX0_first_7 (Nat.le_of_ble_eq_true rfl) rfl ?_
              refine mx_iload dX0_first_9 rfl ?_
              refine mx_if_le (tgt := 22) dX0_first_11 rfl (fun _ => ?_) (fun _ => absurd ‹_› (by decide))
              refine mx_aload_n dX0_first_22 rfl rfl ?_
              refine mx_iload_n dX0_first_23 rfl rfl ?_
              refine mx_iload_n dX0_first_24 rfl rfl ?_
              refine mx_callV 0 (y' := mi_X0_settle) (vs := [iv x2, iv x3]) (st := []) (al' := [some (rv a0), some (iv x2), some (iv x3), none, none, none, none, none]) cl_0 V_X0_settle (Or.inl q1483) dX0_first_25 rfl rfl (Nat.le_of_ble_eq_true rfl) (Nat.le_of_ble_eq_true rfl) (ly0_k La0_h) ?_
              refine ma_kv H (fun h13 Xh13 H => ?_) (fun x1 h1 X1 H => mt_out rfl H)
              have H := H Xh13
              have La0_h13 := La0_h.ext Xh13
              refine mx_aload_n dX0_first_28 rfl rfl ?_
              refine mx_aload_n dX0_first_29 rfl rfl ?_
              refine mx_get 0 25 (ref := "PrairiePool") cl_0 (Nat.le_of_ble_eq_true rfl) (Or.inl q485) (Or.inl rfl) dX0_first_30 (fv_0_25 _ _) (ly0_k La0_h13) ?_
              refine mx_tr (ly0_R_0_25 La0_h13) ?_
              refine mx_iload_n dX0_first_33 rfl rfl ?_
              obtain ⟨k15, H⟩ := H
              refine my_lald dX0_first_34 rfl (ly0_A_1439 La0_h13 k15) ?_
              refine mx_callV 0 (y' := mi_X0_givesLong) (vs := [jv (ah_J h13 (a0 + 1439) x1.toNatClampNeg)]) (st := []) (al' := [some (rv a0), some (jv (ah_J h13 (a0 + 1439) x1.toNatClampNeg)), none]) cl_0 V_X0_givesLong (Or.inl q1471) dX0_first_35 rfl rfl (Nat.le_of_ble_eq_true rfl) (Nat.le_of_ble_eq_true rfl) (ly0_k La0_h13) ?_
              refine mx_aload_n dX0_givesLong_0 rfl rfl ?_
              refine mx_iconst dX0_givesLong_1 ic_0 ?_
              refine mx_putI 0 20 (ref := "PrairiePool") cl_0 (Nat.le_of_ble_eq_true rfl) (Or.inl q480) (Or.inl rfl) dX0_givesLong_2 (Or.inl rfl) rfl (ly0_k La0_h13) ?_
              refine mx_nmI  (fun h16 eh16 Xh16 Kh16 Lh16 => ?_)
              have H := H h16 eh16 Xh16
              have La0_h16 := La0_h13.ext Xh16
              refine mx_lload_n dX0_givesLong_5 rfl rfl ?_
              refine mx_lretK rfl dX0_givesLong_6 ?_
              exact mx_lret rfl dX0_first_38 H
theorem dX0_below_0 : decode mi_X0_below.2.1 0 = .ok (.iload_n 1, 1) := by decide +kernel
theorem dX0_below_1 : decode mi_X0_below.2.1 1 = .ok (.invokestatic 304, 3) := by decide +kernel
theorem dX0_below_4 : decode mi_X0_below.2.1 4 = .ok (.ifCond .eq 19, 3) := by decide +kernel
theorem dX0_below_7 : decode mi_X0_below.2.1 7 = .ok (.iload_n 2, 1) := by decide +kernel
theorem dX0_below_8 : decode mi_X0_below.2.1 8 = .ok (.ifCond .lt 15, 3) := by decide +kernel
theorem dX0_below_11 : decode mi_X0_below.2.1 11 = .ok (.iload_n 2, 1) := by decide +kernel
theorem dX0_below_12 : decode mi_X0_below.2.1 12 = .ok (.iconst 1, 1) := by decide +kernel
theorem dX0_below_13 : decode mi_X0_below.2.1 13 = .ok (.if_icmp .gt 10, 3) := by decide +kernel
theorem dX0_below_16 : decode mi_X0_below.2.1 16 = .ok (.iload_n 3, 1) := by decide +kernel
theorem dX0_below_17 : decode mi_X0_below.2.1 17 = .ok (.invokestatic 260, 3) := by decide +kernel
theorem dX0_below_20 : decode mi_X0_below.2.1 20 = .ok (.ifCond .ne 10, 3) := by decide +kernel
theorem dX0_below_23 : decode mi_X0_below.2.1 23 = .ok (.aload_n 0, 1) := by decide +kernel
theorem dX0_below_24 : decode mi_X0_below.2.1 24 = .ok (.iconst 5, 1) := by decide +kernel
theorem dX0_below_25 : decode mi_X0_below.2.1 25 = .ok (.invokevirtual 205, 3) := by decide +kernel
theorem dX0_below_28 : decode mi_X0_below.2.1 28 = .ok (.i2l, 1) := by decide +kernel
theorem dX0_below_29 : decode mi_X0_below.2.1 29 = .ok (.lreturn, 1) := by decide +kernel
theorem dX0_below_30 : decode mi_X0_below.2.1 30 = .ok (.aload_n 0, 1) := by decide +kernel
theorem dX0_below_31 : decode mi_X0_below.2.1 31 = .ok (.iload_n 1, 1) := by decide +kernel
theorem dX0_below_32 : decode mi_X0_below.2.1 32 = .ok (.iload_n 3, 1) := by decide +kernel
theorem dX0_below_33 : decode mi_X0_below.2.1 33 = .ok (.invokevirtual 516, 3) := by decide +kernel
theorem dX0_below_36 : decode mi_X0_below.2.1 36 = .ok (.aload_n 0, 1) := by decide +kernel
theorem dX0_below_37 : decode mi_X0_below.2.1 37 = .ok (.iload_n 2, 1) := by decide +kernel
theorem dX0_below_38 : decode mi_X0_below.2.1 38 = .ok (.ifCond .ne 10, 3) := by decide +kernel
theorem dX0_below_41 : decode mi_X0_below.2.1 41 = .ok (.aload_n 0, 1) := by decide +kernel
theorem dX0_below_42 : decode mi_X0_below.2.1 42 = .ok (.getfield 494, 3) := by decide +kernel
theorem dX0_below_45 : decode mi_X0_below.2.1 45 = .ok (.goto 7, 3) := by decide +kernel
theorem dX0_below_48 : decode mi_X0_below.2.1 48 = .ok (.aload_n 0, 1) := by decide +kernel
theorem dX0_below_49 : decode mi_X0_below.2.1 49 = .ok (.getfield 499, 3) := by decide +kernel
theorem dX0_below_52 : decode mi_X0_below.2.1 52 = .ok (.invokevirtual 508, 3) := by decide +kernel
theorem dX0_below_55 : decode mi_X0_below.2.1 55 = .ok (.lreturn, 1) := by decide +kernel
theorem v_X0_below {G : ma_G} {d : Nat} {a0 : Nat} {x1 : Int32} {x2 : Int32} {x3 : Int32} {h : ah_T} {Q : Option ma_V → ah_T → Prop} {E : Nat → ah_T → Prop} (La0_h : LY0 h a0) (H : (x1 < 0 → ∀ h2 : ah_T, h2 = ah_wI h a0 20 (5 : Int32) → ah_ext h h2 → Q (some (jv (-1 : Int32).toInt64)) h2) ∧ (¬ x1 < 0 → ((10 : Int32) ≤ x1 → ∀ h4 : ah_T, h4 = ah_wI h a0 20 (5 : Int32) → ah_ext h h4 → Q (some (jv (-1 : Int32).toInt64)) h4) ∧ (¬ (10 : Int32) ≤ x1 → (x2 < 0 → ∀ h6 : ah_T, h6 = ah_wI h a0 20 (5 : Int32) → ah_ext h h6 → Q (some (jv (-1 : Int32).toInt64)) h6) ∧ (¬ x2 < 0 → ((1 : Int32) < x2 → ∀ h8 : ah_T, h8 = ah_wI h a0 20 (5 : Int32) → ah_ext h h8 → Q (some (jv (-1 : Int32).toInt64)) h8) ∧ (¬ (1 : Int32) < x2 → (x3 < 0 → ∀ h10 : ah_T, h10 = ah_wI h a0 20 (5 : Int32) → ah_ext h h10 → Q (some (jv (-1 : Int32).toInt64)) h10) ∧ (¬ x3 < 0 → ((520 : Int32) ≤ x3 → ∀ h12 : ah_T, h12 = ah_wI h a0 20 (5 : Int32) → ah_ext h h12 → Q (some (jv (-1 : Int32).toInt64)) h12) ∧ (¬ (520 : Int32) ≤ x3 → MX G mi_X0_settle d 0 [some (rv a0), some (iv x1), some (iv x3), none, none, none, none, none] [] h (Qv fun h13 => ah_ext h h13 → (¬ x2 = 0 → ∀ h16 : ah_T, h16 = ah_wI h13 a0 20 (0 : Int32) → ah_ext h13 h16 → Q (some (jv (ah_J h13 a0 28))) h16) ∧ (x2 = 0 → ∀ h17 : ah_T, h17 = ah_wI h13 a0 20 (0 : Int32) → ah_ext h13 h17 → Q (some (jv (ah_J h13 a0 27))) h17)) E))))))) : MX G mi_X0_below (d + 1) 0 [some (rv a0), some (iv x1), some (iv x2), some (iv x3)] [] h Q E := by
  refine mx_iload_n dX0_below_0 rfl rfl ?_
  refine mx_callS (y' := mi_X0_isYear) (vs := [iv x1]) (st := []) (al' := [some (iv x1)]) S_X0_isYear q896 dX0_below_1 rfl rfl (Nat.le_of_ble_eq_true rfl) (Nat.le_of_ble_eq_true rfl) ?_
  refine mx_iload_n dX0_isYear_0 rfl rfl ?_
  refine mx_if_lt (tgt := 14) dX0_isYear_1 rfl (fun c1 => ?_) (fun c1 => ?_)
  · have H := H.1 c1
    refine mx_iconst dX0_isYear_14 ic_0 ?_
    refine mx_zretK rfl dX0_isYear_15 (Or.inl rfl) ?_
    refine mx_if_eq (tgt := 23) dX0_below_4 rfl (fun _ => ?_) (fun _ => absurd ‹_› (by decide))
    refine mx_aload_n dX0_below_23 rfl rfl ?_
    refine mx_iconst dX0_below_24 ic_5 ?_
    refine mx_callV 0 (y' := mi_X0_none) (vs := [iv (5 : Int32)]) (st := []) (al' := [some (rv a0), some (iv (5 : Int32))]) cl_0 V_X0_none (Or.inl q733) dX0_below_25 rfl rfl (Nat.le_of_ble_eq_true rfl) (Nat.le_of_ble_eq_true rfl) (ly0_k La0_h) ?_
    refine mx_aload_n dX0_none_0 rfl rfl ?_
    refine mx_iload_n dX0_none_1 rfl rfl ?_
    refine mx_putI 0 20 (ref := "PrairiePool") cl_0 (Nat.le_of_ble_eq_true rfl) (Or.inl q480) (Or.inl rfl) dX0_none_2 (Or.inl rfl) rfl (ly0_k La0_h) ?_
    refine mx_nmI  (fun h2 eh2 Xh2 Kh2 Lh2 => ?_)
    have H := H h2 eh2 Xh2
    have La0_h2 := La0_h.ext Xh2
    refine mx_iconst dX0_none_5 ic_m1 ?_
    refine mx_iretK rfl dX0_none_6 ?_
    refine mx_i2l dX0_below_28 ?_
    exact mx_lret rfl dX0_below_29 H
  · have H := H.2 c1
    refine mx_iload_n dX0_isYear_4 rfl rfl ?_
    refine mx_bipush dX0_isYear_5 ib_10 ?_
    refine mx_icmp_ge (tgt := 14) dX0_isYear_7 rfl (fun c3 => ?_) (fun c3 => ?_)
    · have H := H.1 c3
      refine mx_iconst dX0_isYear_14 ic_0 ?_
      refine mx_zretK rfl dX0_isYear_15 (Or.inl rfl) ?_
      refine mx_if_eq (tgt := 23) dX0_below_4 rfl (fun _ => ?_) (fun _ => absurd ‹_› (by decide))
      refine mx_aload_n dX0_below_23 rfl rfl ?_
      refine mx_iconst dX0_below_24 ic_5 ?_
      refine mx_callV 0 (y' := mi_X0_none) (vs := [iv (5 : Int32)]) (st := []) (al' := [some (rv a0), some (iv (5 : Int32))]) cl_0 V_X0_none (Or.inl q733) dX0_below_25 rfl rfl (Nat.le_of_ble_eq_true rfl) (Nat.le_of_ble_eq_true rfl) (ly0_k La0_h) ?_
      refine mx_aload_n dX0_none_0 rfl rfl ?_
      refine mx_iload_n dX0_none_1 rfl rfl ?_
      refine mx_putI 0 20 (ref := "PrairiePool") cl_0 (Nat.le_of_ble_eq_true rfl) (Or.inl q480) (Or.inl rfl) dX0_none_2 (Or.inl rfl) rfl (ly0_k La0_h) ?_
      refine mx_nmI  (fun h4 eh4 Xh4 Kh4 Lh4 => ?_)
      have H := H h4 eh4 Xh4
      have La0_h4 := La0_h.ext Xh4
      refine mx_iconst dX0_none_5 ic_m1 ?_
      refine mx_iretK rfl dX0_none_6 ?_
      refine mx_i2l dX0_below_28 ?_
      exact mx_lret rfl dX0_below_29 H
    · have H := H.2 c3
      refine mx_iconst dX0_isYear_10 ic_1 ?_
      refine mx_goto (tgt := 15) dX0_isYear_11 rfl ?_
      refine mx_zretK rfl dX0_isYear_15 (Or.inr rfl) ?_
      refine mx_if_eq (tgt := 23) dX0_below_4 rfl (fun _ => absurd ‹_› (by decide)) (fun _ => ?_)
      refine mx_iload_n dX0_below_7 rfl rfl ?_
      refine mx_if_lt (tgt := 23) dX0_below_8 rfl (fun c5 => ?_) (fun c5 => ?_)
      · have H := H.1 c5
        refine mx_aload_n dX0_below_23 rfl rfl ?_
        refine mx_iconst dX0_below_24 ic_5 ?_
        refine mx_callV 0 (y' := mi_X0_none) (vs := [iv (5 : Int32)]) (st := []) (al' := [some (rv a0), some (iv (5 : Int32))]) cl_0 V_X0_none (Or.inl q733) dX0_below_25 rfl rfl (Nat.le_of_ble_eq_true rfl) (Nat.le_of_ble_eq_true rfl) (ly0_k La0_h) ?_
        refine mx_aload_n dX0_none_0 rfl rfl ?_
        refine mx_iload_n dX0_none_1 rfl rfl ?_
        refine mx_putI 0 20 (ref := "PrairiePool") cl_0 (Nat.le_of_ble_eq_true rfl) (Or.inl q480) (Or.inl rfl) dX0_none_2 (Or.inl rfl) rfl (ly0_k La0_h) ?_
        refine mx_nmI  (fun h6 eh6 Xh6 Kh6 Lh6 => ?_)
        have H := H h6 eh6 Xh6
        have La0_h6 := La0_h.ext Xh6
        refine mx_iconst dX0_none_5 ic_m1 ?_
        refine mx_iretK rfl dX0_none_6 ?_
        refine mx_i2l dX0_below_28 ?_
        exact mx_lret rfl dX0_below_29 H
      · have H := H.2 c5
        refine mx_iload_n dX0_below_11 rfl rfl ?_
        refine mx_iconst dX0_below_12 ic_1 ?_
        refine mx_icmp_gt (tgt := 23) dX0_below_13 rfl (fun c7 => ?_) (fun c7 => ?_)
        · have H := H.1 c7
          refine mx_aload_n dX0_below_23 rfl rfl ?_
          refine mx_iconst dX0_below_24 ic_5 ?_
          refine mx_callV 0 (y' := mi_X0_none) (vs := [iv (5 : Int32)]) (st := []) (al' := [some (rv a0), some (iv (5 : Int32))]) cl_0 V_X0_none (Or.inl q733) dX0_below_25 rfl rfl (Nat.le_of_ble_eq_true rfl) (Nat.le_of_ble_eq_true rfl) (ly0_k La0_h) ?_
          refine mx_aload_n dX0_none_0 rfl rfl ?_
          refine mx_iload_n dX0_none_1 rfl rfl ?_
          refine mx_putI 0 20 (ref := "PrairiePool") cl_0 (Nat.le_of_ble_eq_true rfl) (Or.inl q480) (Or.inl rfl) dX0_none_2 (Or.inl rfl) rfl (ly0_k La0_h) ?_
          refine mx_nmI  (fun h8 eh8 Xh8 Kh8 Lh8 => ?_)
          have H := H h8 eh8 Xh8
          have La0_h8 := La0_h.ext Xh8
          refine mx_iconst dX0_none_5 ic_m1 ?_
          refine mx_iretK rfl dX0_none_6 ?_
          refine mx_i2l dX0_below_28 ?_
          exact mx_lret rfl dX0_below_29 H
        · have H := H.2 c7
          refine mx_iload_n dX0_below_16 rfl rfl ?_
          refine mx_callS (y' := mi_X0_isWeek) (vs := [iv x3]) (st := []) (al' := [some (iv x3)]) S_X0_isWeek q841 dX0_below_17 rfl rfl (Nat.le_of_ble_eq_true rfl) (Nat.le_of_ble_eq_true rfl) ?_
          refine mx_iload_n dX0_isWeek_0 rfl rfl ?_
          refine mx_if_lt (tgt := 15) dX0_isWeek_1 rfl (fun c9 => ?_) (fun c9 => ?_)
          · have H := H.1 c9
            refine mx_iconst dX0_isWeek_15 ic_0 ?_
            refine mx_zretK rfl dX0_isWeek_16 (Or.inl rfl) ?_
            refine mx_if_ne (tgt := 30) dX0_below_20 rfl (fun _ => absurd ‹_› (by decide)) (fun _ => ?_)
            refine mx_aload_n dX0_below_23 rfl rfl ?_
            refine mx_iconst dX0_below_24 ic_5 ?_
            refine mx_callV 0 (y' := mi_X0_none) (vs := [iv (5 : Int32)]) (st := []) (al' := [some (rv a0), some (iv (5 : Int32))]) cl_0 V_X0_none (Or.inl q733) dX0_below_25 rfl rfl (Nat.le_of_ble_eq_true rfl) (Nat.le_of_ble_eq_true rfl) (ly0_k La0_h) ?_
            refine mx_aload_n dX0_none_0 rfl rfl ?_
            refine mx_iload_n dX0_none_1 rfl rfl ?_
            refine mx_putI 0 20 (ref := "PrairiePool") cl_0 (Nat.le_of_ble_eq_true rfl) (Or.inl q480) (Or.inl rfl) dX0_none_2 (Or.inl rfl) rfl (ly0_k La0_h) ?_
            refine mx_nmI  (fun h10 eh10 Xh10 Kh10 Lh10 => ?_)
            have H := H h10 eh10 Xh10
            have La0_h10 := La0_h.ext Xh10
            refine mx_iconst dX0_none_5 ic_m1 ?_
            refine mx_iretK rfl dX0_none_6 ?_
            refine mx_i2l dX0_below_28 ?_
            exact mx_lret rfl dX0_below_29 H
          · have H := H.2 c9
            refine mx_iload_n dX0_isWeek_4 rfl rfl ?_
            refine mx_sipush dX0_isWeek_5 is_520 ?_
            refine mx_icmp_ge (tgt := 15) dX0_isWeek_8 rfl (fun c11 => ?_) (fun c11 => ?_)
            · have H := H.1 c11
              refine mx_iconst dX0_isWeek_15 ic_0 ?_
              refine mx_zretK rfl dX0_isWeek_16 (Or.inl rfl) ?_
              refine mx_if_ne (tgt := 30) dX0_below_20 rfl (fun _ => absurd ‹_› (by decide)) (fun _ => ?_)
              refine mx_aload_n dX0_below_23 rfl rfl ?_
              refine mx_iconst dX0_below_24 ic_5 ?_
              refine mx_callV 0 (y' := mi_X0_none) (vs := [iv (5 : Int32)]) (st := []) (al' := [some (rv a0), some (iv (5 : Int32))]) cl_0 V_X0_none (Or.inl q733) dX0_below_25 rfl rfl (Nat.le_of_ble_eq_true rfl) (Nat.le_of_ble_eq_true rfl) (ly0_k La0_h) ?_
              refine mx_aload_n dX0_none_0 rfl rfl ?_
              refine mx_iload_n dX0_none_1 rfl rfl ?_
              refine mx_putI 0 20 (ref := "PrairiePool") cl_0 (Nat.le_of_ble_eq_true rfl) (Or.inl q480) (Or.inl rfl) dX0_none_2 (Or.inl rfl) rfl (ly0_k La0_h) ?_
              refine mx_nmI  (fun h12 eh12 Xh12 Kh12 Lh12 => ?_)
              have H := H h12 eh12 Xh12
              have La0_h12 := La0_h.ext Xh12
              refine mx_iconst dX0_none_5 ic_m1 ?_
              refine mx_iretK rfl dX0_none_6 ?_
              refine mx_i2l dX0_below_28 ?_
              exact mx_lret rfl dX0_below_29 H
            · have H := H.2 c11
              refine mx_iconst dX0_isWeek_11 ic_1 ?_
              refine mx_goto (tgt := 16) dX0_isWeek_12 rfl ?_
              refine mx_zretK rfl dX0_isWeek_16 (Or.inr rfl) ?_
              refine mx_if_ne (tgt := 30) dX0_below_20 rfl (fun _ => ?_) (fun _ => absurd ‹_› (by decide))
              refine mx_aload_n dX0_below_30 rfl rfl ?_
              refine mx_iload_n dX0_below_31 rfl rfl ?_
              refine mx_iload_n dX0_below_32 rfl rfl ?_
              refine mx_callV 0 (y' := mi_X0_settle) (vs := [iv x1, iv x3]) (st := []) (al' := [some (rv a0), some (iv x1), some (iv x3), none, none, none, none, none]) cl_0 V_X0_settle (Or.inl q1483) dX0_below_33 rfl rfl (Nat.le_of_ble_eq_true rfl) (Nat.le_of_ble_eq_true rfl) (ly0_k La0_h) ?_
              refine ma_kv H (fun h13 Xh13 H => ?_) (fun x1 h1 X1 H => mt_out rfl H)
              have H := H Xh13
              have La0_h13 := La0_h.ext Xh13
              refine mx_aload_n dX0_below_36 rfl rfl ?_
              refine mx_iload_n dX0_below_37 rfl rfl ?_
              refine mx_if_ne (tgt := 48) dX0_below_38 rfl (fun c15 => ?_) (fun c15 => ?_)
              · have H := H.1 c15
                refine mx_aload_n dX0_below_48 rfl rfl ?_
                refine mx_get 0 28 (ref := "PrairiePool") cl_0 (Nat.le_of_ble_eq_true rfl) (Or.inl q488) (Or.inl rfl) dX0_below_49 (fv_0_28 _ _) (ly0_k La0_h13) ?_
                refine mx_callV 0 (y' := mi_X0_givesLong) (vs := [jv (ah_J h13 a0 28)]) (st := []) (al' := [some (rv a0), some (jv (ah_J h13 a0 28)), none]) cl_0 V_X0_givesLong (Or.inl q1471) dX0_below_52 rfl rfl (Nat.le_of_ble_eq_true rfl) (Nat.le_of_ble_eq_true rfl) (ly0_k La0_h13) ?_
                refine mx_aload_n dX0_givesLong_0 rfl rfl ?_
                refine mx_iconst dX0_givesLong_1 ic_0 ?_
                refine mx_putI 0 20 (ref := "PrairiePool") cl_0 (Nat.le_of_ble_eq_true rfl) (Or.inl q480) (Or.inl rfl) dX0_givesLong_2 (Or.inl rfl) rfl (ly0_k La0_h13) ?_
                refine mx_nmI  (fun h16 eh16 Xh16 Kh16 Lh16 => ?_)
                have H := H h16 eh16 Xh16
                have La0_h16 := La0_h13.ext Xh16
                refine mx_lload_n dX0_givesLong_5 rfl rfl ?_
                refine mx_lretK rfl dX0_givesLong_6 ?_
                exact mx_lret rfl dX0_below_55 H
              · have H := H.2 c15
                refine mx_aload_n dX0_below_41 rfl rfl ?_
                refine mx_get 0 27 (ref := "PrairiePool") cl_0 (Nat.le_of_ble_eq_true rfl) (Or.inl q487) (Or.inl rfl) dX0_below_42 (fv_0_27 _ _) (ly0_k La0_h13) ?_
                refine mx_goto (tgt := 52) dX0_below_45 rfl ?_
                refine mx_callV 0 (y' := mi_X0_givesLong) (vs := [jv (ah_J h13 a0 27)]) (st := []) (al' := [some (rv a0), some (jv (ah_J h13 a0 27)), none]) cl_0 V_X0_givesLong (Or.inl q1471) dX0_below_52 rfl rfl (Nat.le_of_ble_eq_true rfl) (Nat.le_of_ble_eq_true rfl) (ly0_k La0_h13) ?_
                refine mx_aload_n dX0_givesLong_0 rfl rfl ?_
                refine mx_iconst dX0_givesLong_1 ic_0 ?_
                refine mx_putI 0 20 (ref := "PrairiePool") cl_0 (Nat.le_of_ble_eq_true rfl) (Or.inl q480) (Or.inl rfl) dX0_givesLong_2 (Or.inl rfl) rfl (ly0_k La0_h13) ?_
                refine mx_nmI  (fun h17 eh17 Xh17 Kh17 Lh17 => ?_)
                have H := H h17 eh17 Xh17
                have La0_h17 := La0_h13.ext Xh17
                refine mx_lload_n dX0_givesLong_5 rfl rfl ?_
                refine mx_lretK rfl dX0_givesLong_6 ?_
                exact mx_lret rfl dX0_below_55 H
theorem dX0_owed_0 : decode mi_X0_owed.2.1 0 = .ok (.aload_n 0, 1) := by decide +kernel
theorem dX0_owed_1 : decode mi_X0_owed.2.1 1 = .ok (.iload_n 1, 1) := by decide +kernel
theorem dX0_owed_2 : decode mi_X0_owed.2.1 2 = .ok (.iload_n 2, 1) := by decide +kernel
theorem dX0_owed_3 : decode mi_X0_owed.2.1 3 = .ok (.iload_n 3, 1) := by decide +kernel
theorem dX0_owed_4 : decode mi_X0_owed.2.1 4 = .ok (.invokevirtual 512, 3) := by decide +kernel
theorem dX0_owed_7 : decode mi_X0_owed.2.1 7 = .ok (.istore 4, 2) := by decide +kernel
theorem dX0_owed_9 : decode mi_X0_owed.2.1 9 = .ok (.iload 4, 2) := by decide +kernel
theorem dX0_owed_11 : decode mi_X0_owed.2.1 11 = .ok (.ifCond .le 11, 3) := by decide +kernel
theorem dX0_owed_14 : decode mi_X0_owed.2.1 14 = .ok (.aload_n 0, 1) := by decide +kernel
theorem dX0_owed_15 : decode mi_X0_owed.2.1 15 = .ok (.iload 4, 2) := by decide +kernel
theorem dX0_owed_17 : decode mi_X0_owed.2.1 17 = .ok (.invokevirtual 205, 3) := by decide +kernel
theorem dX0_owed_20 : decode mi_X0_owed.2.1 20 = .ok (.i2l, 1) := by decide +kernel
theorem dX0_owed_21 : decode mi_X0_owed.2.1 21 = .ok (.lreturn, 1) := by decide +kernel
theorem dX0_owed_22 : decode mi_X0_owed.2.1 22 = .ok (.aload_n 0, 1) := by decide +kernel
theorem dX0_owed_23 : decode mi_X0_owed.2.1 23 = .ok (.iload_n 2, 1) := by decide +kernel
theorem dX0_owed_24 : decode mi_X0_owed.2.1 24 = .ok (.iload_n 3, 1) := by decide +kernel
theorem dX0_owed_25 : decode mi_X0_owed.2.1 25 = .ok (.invokevirtual 516, 3) := by decide +kernel
theorem dX0_owed_28 : decode mi_X0_owed.2.1 28 = .ok (.aload_n 0, 1) := by decide +kernel
theorem dX0_owed_29 : decode mi_X0_owed.2.1 29 = .ok (.aload_n 0, 1) := by decide +kernel
theorem dX0_owed_30 : decode mi_X0_owed.2.1 30 = .ok (.getfield 103, 3) := by decide +kernel
theorem dX0_owed_33 : decode mi_X0_owed.2.1 33 = .ok (.iload_n 1, 1) := by decide +kernel
theorem dX0_owed_34 : decode mi_X0_owed.2.1 34 = .ok (.laload, 1) := by decide +kernel
theorem dX0_owed_35 : decode mi_X0_owed.2.1 35 = .ok (.invokevirtual 508, 3) := by decide +kernel
theorem dX0_owed_38 : decode mi_X0_owed.2.1 38 = .ok (.lreturn, 1) := by decide +kernel
theorem v_X0_owed {G : ma_G} {d : Nat} {a0 : Nat} {x1 : Int32} {x2 : Int32} {x3 : Int32} {h : ah_T} {Q : Option ma_V → ah_T → Prop} {E : Nat → ah_T → Prop} (La0_h : LY0 h a0) (H : (x1 < 0 → ∀ h2 : ah_T, h2 = ah_wI h a0 20 (2 : Int32) → ah_ext h h2 → Q (some (jv (-1 : Int32).toInt64)) h2) ∧ (¬ x1 < 0 → ((ah_I h a0 14) ≤ x1 → ∀ h4 : ah_T, h4 = ah_wI h a0 20 (2 : Int32) → ah_ext h h4 → Q (some (jv (-1 : Int32).toInt64)) h4) ∧ (¬ (ah_I h a0 14) ≤ x1 → (x2 < 0 → ∀ h6 : ah_T, h6 = ah_wI h a0 20 (5 : Int32) → ah_ext h h6 → Q (some (jv (-1 : Int32).toInt64)) h6) ∧ (¬ x2 < 0 → ((10 : Int32) ≤ x2 → ∀ h8 : ah_T, h8 = ah_wI h a0 20 (5 : Int32) → ah_ext h h8 → Q (some (jv (-1 : Int32).toInt64)) h8) ∧ (¬ (10 : Int32) ≤ x2 → (x3 < 0 → ∀ h10 : ah_T, h10 = ah_wI h a0 20 (5 : Int32) → ah_ext h h10 → Q (some (jv (-1 : Int32).toInt64)) h10) ∧ (¬ x3 < 0 → ((520 : Int32) ≤ x3 → ∀ h12 : ah_T, h12 = ah_wI h a0 20 (5 : Int32) → ah_ext h h12 → Q (some (jv (-1 : Int32).toInt64)) h12) ∧ (¬ (520 : Int32) ≤ x3 → MX G mi_X0_settle (d + 1) 0 [some (rv a0), some (iv x2), some (iv x3), none, none, none, none, none] [] h (Qv fun h13 => ah_ext h h13 → vp_in x1 20 ∧ ∀ h16 : ah_T, h16 = ah_wI h13 a0 20 (0 : Int32) → ah_ext h13 h16 → Q (some (jv (ah_J h13 (a0 + 1440) x1.toNatClampNeg))) h16) E))))))) : MX G mi_X0_owed (d + 2) 0 [some (rv a0), some (iv x1), some (iv x2), some (iv x3), none] [] h Q E := by
  refine mx_aload_n dX0_owed_0 rfl rfl ?_
  refine mx_iload_n dX0_owed_1 rfl rfl ?_
  refine mx_iload_n dX0_owed_2 rfl rfl ?_
  refine mx_iload_n dX0_owed_3 rfl rfl ?_
  refine mx_callV 0 (y' := mi_X0_wrongYear) (vs := [iv x1, iv x2, iv x3]) (st := []) (al' := [some (rv a0), some (iv x1), some (iv x2), some (iv x3)]) cl_0 V_X0_wrongYear (Or.inl q1479) dX0_owed_4 rfl rfl (Nat.le_of_ble_eq_true rfl) (Nat.le_of_ble_eq_true rfl) (ly0_k La0_h) ?_
  refine mx_aload_n dX0_wrongYear_0 rfl rfl ?_
  refine mx_iload_n dX0_wrongYear_1 rfl rfl ?_
  refine mx_callV 0 (y' := mi_X0_isFarm) (vs := [iv x1]) (st := []) (al' := [some (rv a0), some (iv x1)]) cl_0 V_X0_isFarm (Or.inl q827) dX0_wrongYear_2 rfl rfl (Nat.le_of_ble_eq_true rfl) (Nat.le_of_ble_eq_true rfl) (ly0_k La0_h) ?_
  refine mx_iload_n dX0_isFarm_0 rfl rfl ?_
  refine mx_if_lt (tgt := 16) dX0_isFarm_1 rfl (fun c1 => ?_) (fun c1 => ?_)
  · have H := H.1 c1
    refine mx_iconst dX0_isFarm_16 ic_0 ?_
    refine mx_zretK rfl dX0_isFarm_17 (Or.inl rfl) ?_
    refine mx_if_ne (tgt := 12) dX0_wrongYear_5 rfl (fun _ => absurd ‹_› (by decide)) (fun _ => ?_)
    refine mx_iconst dX0_wrongYear_8 ic_2 ?_
    refine mx_goto (tgt := 31) dX0_wrongYear_9 rfl ?_
    refine mx_iretK rfl dX0_wrongYear_31 ?_
    refine mx_istore (al' := [some (rv a0), some (iv x1), some (iv x2), some (iv x3), some (iv (2 : Int32))]) dX0_owed_7 (Nat.le_of_ble_eq_true rfl) rfl ?_
    refine mx_iload dX0_owed_9 rfl ?_
    refine mx_if_le (tgt := 22) dX0_owed_11 rfl (fun _ => absurd ‹_› (by decide)) (fun _ => ?_)
    refine mx_aload_n dX0_owed_14 rfl rfl ?_
    refine mx_iload dX0_owed_15 rfl ?_
    refine mx_callV 0 (y' := mi_X0_none) (vs := [iv (2 : Int32)]) (st := []) (al' := [some (rv a0), some (iv (2 : Int32))]) cl_0 V_X0_none (Or.inl q733) dX0_owed_17 rfl rfl (Nat.le_of_ble_eq_true rfl) (Nat.le_of_ble_eq_true rfl) (ly0_k La0_h) ?_
    refine mx_aload_n dX0_none_0 rfl rfl ?_
    refine mx_iload_n dX0_none_1 rfl rfl ?_
    refine mx_putI 0 20 (ref := "PrairiePool") cl_0 (Nat.le_of_ble_eq_true rfl) (Or.inl q480) (Or.inl rfl) dX0_none_2 (Or.inl rfl) rfl (ly0_k La0_h) ?_
    refine mx_nmI  (fun h2 eh2 Xh2 Kh2 Lh2 => ?_)
    have H := H h2 eh2 Xh2
    have La0_h2 := La0_h.ext Xh2
    refine mx_iconst dX0_none_5 ic_m1 ?_
    refine mx_iretK rfl dX0_none_6 ?_
    refine mx_i2l dX0_owed_20 ?_
    exact mx_lret rfl dX0_owed_21 H
  · have H := H.2 c1
    refine mx_iload_n dX0_isFarm_4 rfl rfl ?_
    refine mx_aload_n dX0_isFarm_5 rfl rfl ?_
    refine mx_get 0 14 (ref := "PrairiePool") cl_0 (Nat.le_of_ble_eq_true rfl) (Or.inl q474) (Or.inl rfl) dX0_isFarm_6 (fv_0_14 _ _) (ly0_k La0_h) ?_
    refine mx_icmp_ge (tgt := 16) dX0_isFarm_9 rfl (fun c3 => ?_) (fun c3 => ?_)
    · have H := H.1 c3
      refine mx_iconst dX0_isFarm_16 ic_0 ?_
      refine mx_zretK rfl dX0_isFarm_17 (Or.inl rfl) ?_
      refine mx_if_ne (tgt := 12) dX0_wrongYear_5 rfl (fun _ => absurd ‹_› (by decide)) (fun _ => ?_)
      refine mx_iconst dX0_wrongYear_8 ic_2 ?_
      refine mx_goto (tgt := 31) dX0_wrongYear_9 rfl ?_
      refine mx_iretK rfl dX0_wrongYear_31 ?_
      refine mx_istore (al' := [some (rv a0), some (iv x1), some (iv x2), some (iv x3), some (iv (2 : Int32))]) dX0_owed_7 (Nat.le_of_ble_eq_true rfl) rfl ?_
      refine mx_iload dX0_owed_9 rfl ?_
      refine mx_if_le (tgt := 22) dX0_owed_11 rfl (fun _ => absurd ‹_› (by decide)) (fun _ => ?_)
      refine mx_aload_n dX0_owed_14 rfl rfl ?_
      refine mx_iload dX0_owed_15 rfl ?_
      refine mx_callV 0 (y' := mi_X0_none) (vs := [iv (2 : Int32)]) (st := []) (al' := [some (rv a0), some (iv (2 : Int32))]) cl_0 V_X0_none (Or.inl q733) dX0_owed_17 rfl rfl (Nat.le_of_ble_eq_true rfl) (Nat.le_of_ble_eq_true rfl) (ly0_k La0_h) ?_
      refine mx_aload_n dX0_none_0 rfl rfl ?_
      refine mx_iload_n dX0_none_1 rfl rfl ?_
      refine mx_putI 0 20 (ref := "PrairiePool") cl_0 (Nat.le_of_ble_eq_true rfl) (Or.inl q480) (Or.inl rfl) dX0_none_2 (Or.inl rfl) rfl (ly0_k La0_h) ?_
      refine mx_nmI  (fun h4 eh4 Xh4 Kh4 Lh4 => ?_)
      have H := H h4 eh4 Xh4
      have La0_h4 := La0_h.ext Xh4
      refine mx_iconst dX0_none_5 ic_m1 ?_
      refine mx_iretK rfl dX0_none_6 ?_
      refine mx_i2l dX0_owed_20 ?_
      exact mx_lret rfl dX0_owed_21 H
    · have H := H.2 c3
      refine mx_iconst dX0_isFarm_12 ic_1 ?_
      refine mx_goto (tgt := 17) dX0_isFarm_13 rfl ?_
      refine mx_zretK rfl dX0_isFarm_17 (Or.inr rfl) ?_
      refine mx_if_ne (tgt := 12) dX0_wrongYear_5 rfl (fun _ => ?_) (fun _ => absurd ‹_› (by decide))
      refine mx_iload_n dX0_wrongYear_12 rfl rfl ?_
      refine mx_callS (y' := mi_X0_isYear) (vs := [iv x2]) (st := []) (al' := [some (iv x2)]) S_X0_isYear q896 dX0_wrongYear_13 rfl rfl (Nat.le_of_ble_eq_true rfl) (Nat.le_of_ble_eq_true rfl) ?_
      refine mx_iload_n dX0_isYear_0 rfl rfl ?_
      refine mx_if_lt (tgt := 14) dX0_isYear_1 rfl (fun c5 => ?_) (fun c5 => ?_)
      · have H := H.1 c5
        refine mx_iconst dX0_isYear_14 ic_0 ?_
        refine mx_zretK rfl dX0_isYear_15 (Or.inl rfl) ?_
        refine mx_if_eq (tgt := 26) dX0_wrongYear_16 rfl (fun _ => ?_) (fun _ => absurd ‹_› (by decide))
        refine mx_iconst dX0_wrongYear_26 ic_5 ?_
        refine mx_goto (tgt := 31) dX0_wrongYear_27 rfl ?_
        refine mx_iretK rfl dX0_wrongYear_31 ?_
        refine mx_istore (al' := [some (rv a0), some (iv x1), some (iv x2), some (iv x3), some (iv (5 : Int32))]) dX0_owed_7 (Nat.le_of_ble_eq_true rfl) rfl ?_
        refine mx_iload dX0_owed_9 rfl ?_
        refine mx_if_le (tgt := 22) dX0_owed_11 rfl (fun _ => absurd ‹_› (by decide)) (fun _ => ?_)
        refine mx_aload_n dX0_owed_14 rfl rfl ?_
        refine mx_iload dX0_owed_15 rfl ?_
        refine mx_callV 0 (y' := mi_X0_none) (vs := [iv (5 : Int32)]) (st := []) (al' := [some (rv a0), some (iv (5 : Int32))]) cl_0 V_X0_none (Or.inl q733) dX0_owed_17 rfl rfl (Nat.le_of_ble_eq_true rfl) (Nat.le_of_ble_eq_true rfl) (ly0_k La0_h) ?_
        refine mx_aload_n dX0_none_0 rfl rfl ?_
        refine mx_iload_n dX0_none_1 rfl rfl ?_
        refine mx_putI 0 20 (ref := "PrairiePool") cl_0 (Nat.le_of_ble_eq_true rfl) (Or.inl q480) (Or.inl rfl) dX0_none_2 (Or.inl rfl) rfl (ly0_k La0_h) ?_
        refine mx_nmI  (fun h6 eh6 Xh6 Kh6 Lh6 => ?_)
        have H := H h6 eh6 Xh6
        have La0_h6 := La0_h.ext Xh6
        refine mx_iconst dX0_none_5 ic_m1 ?_
        refine mx_iretK rfl dX0_none_6 ?_
        refine mx_i2l dX0_owed_20 ?_
        exact mx_lret rfl dX0_owed_21 H
      · have H := H.2 c5
        refine mx_iload_n dX0_isYear_4 rfl rfl ?_
        refine mx_bipush dX0_isYear_5 ib_10 ?_
        refine mx_icmp_ge (tgt := 14) dX0_isYear_7 rfl (fun c7 => ?_) (fun c7 => ?_)
        · have H := H.1 c7
          refine mx_iconst dX0_isYear_14 ic_0 ?_
          refine mx_zretK rfl dX0_isYear_15 (Or.inl rfl) ?_
          refine mx_if_eq (tgt := 26) dX0_wrongYear_16 rfl (fun _ => ?_) (fun _ => absurd ‹_› (by decide))
          refine mx_iconst dX0_wrongYear_26 ic_5 ?_
          refine mx_goto (tgt := 31) dX0_wrongYear_27 rfl ?_
          refine mx_iretK rfl dX0_wrongYear_31 ?_
          refine mx_istore (al' := [some (rv a0), some (iv x1), some (iv x2), some (iv x3), some (iv (5 : Int32))]) dX0_owed_7 (Nat.le_of_ble_eq_true rfl) rfl ?_
          refine mx_iload dX0_owed_9 rfl ?_
          refine mx_if_le (tgt := 22) dX0_owed_11 rfl (fun _ => absurd ‹_› (by decide)) (fun _ => ?_)
          refine mx_aload_n dX0_owed_14 rfl rfl ?_
          refine mx_iload dX0_owed_15 rfl ?_
          refine mx_callV 0 (y' := mi_X0_none) (vs := [iv (5 : Int32)]) (st := []) (al' := [some (rv a0), some (iv (5 : Int32))]) cl_0 V_X0_none (Or.inl q733) dX0_owed_17 rfl rfl (Nat.le_of_ble_eq_true rfl) (Nat.le_of_ble_eq_true rfl) (ly0_k La0_h) ?_
          refine mx_aload_n dX0_none_0 rfl rfl ?_
          refine mx_iload_n dX0_none_1 rfl rfl ?_
          refine mx_putI 0 20 (ref := "PrairiePool") cl_0 (Nat.le_of_ble_eq_true rfl) (Or.inl q480) (Or.inl rfl) dX0_none_2 (Or.inl rfl) rfl (ly0_k La0_h) ?_
          refine mx_nmI  (fun h8 eh8 Xh8 Kh8 Lh8 => ?_)
          have H := H h8 eh8 Xh8
          have La0_h8 := La0_h.ext Xh8
          refine mx_iconst dX0_none_5 ic_m1 ?_
          refine mx_iretK rfl dX0_none_6 ?_
          refine mx_i2l dX0_owed_20 ?_
          exact mx_lret rfl dX0_owed_21 H
        · have H := H.2 c7
          refine mx_iconst dX0_isYear_10 ic_1 ?_
          refine mx_goto (tgt := 15) dX0_isYear_11 rfl ?_
          refine mx_zretK rfl dX0_isYear_15 (Or.inr rfl) ?_
          refine mx_if_eq (tgt := 26) dX0_wrongYear_16 rfl (fun _ => absurd ‹_› (by decide)) (fun _ => ?_)
          refine mx_iload_n dX0_wrongYear_19 rfl rfl ?_
          refine mx_callS (y' := mi_X0_isWeek) (vs := [iv x3]) (st := []) (al' := [some (iv x3)]) S_X0_isWeek q841 dX0_wrongYear_20 rfl rfl (Nat.le_of_ble_eq_true rfl) (Nat.le_of_ble_eq_true rfl) ?_
          refine mx_iload_n dX0_isWeek_0 rfl rfl ?_
          refine mx_if_lt (tgt := 15) dX0_isWeek_1 rfl (fun c9 => ?_) (fun c9 => ?_)
          · have H := H.1 c9
            refine mx_iconst dX0_isWeek_15 ic_0 ?_
            refine mx_zretK rfl dX0_isWeek_16 (Or.inl rfl) ?_
            refine mx_if_ne (tgt := 30) dX0_wrongYear_23 rfl (fun _ => absurd ‹_› (by decide)) (fun _ => ?_)
            refine mx_iconst dX0_wrongYear_26 ic_5 ?_
            refine mx_goto (tgt := 31) dX0_wrongYear_27 rfl ?_
            refine mx_iretK rfl dX0_wrongYear_31 ?_
            refine mx_istore (al' := [some (rv a0), some (iv x1), some (iv x2), some (iv x3), some (iv (5 : Int32))]) dX0_owed_7 (Nat.le_of_ble_eq_true rfl) rfl ?_
            refine mx_iload dX0_owed_9 rfl ?_
            refine mx_if_le (tgt := 22) dX0_owed_11 rfl (fun _ => absurd ‹_› (by decide)) (fun _ => ?_)
            refine mx_aload_n dX0_owed_14 rfl rfl ?_
            refine mx_iload dX0_owed_15 rfl ?_
            refine mx_callV 0 (y' := mi_X0_none) (vs := [iv (5 : Int32)]) (st := []) (al' := [some (rv a0), some (iv (5 : Int32))]) cl_0 V_X0_none (Or.inl q733) dX0_owed_17 rfl rfl (Nat.le_of_ble_eq_true rfl) (Nat.le_of_ble_eq_true rfl) (ly0_k La0_h) ?_
            refine mx_aload_n dX0_none_0 rfl rfl ?_
            refine mx_iload_n dX0_none_1 rfl rfl ?_
            refine mx_putI 0 20 (ref := "PrairiePool") cl_0 (Nat.le_of_ble_eq_true rfl) (Or.inl q480) (Or.inl rfl) dX0_none_2 (Or.inl rfl) rfl (ly0_k La0_h) ?_
            refine mx_nmI  (fun h10 eh10 Xh10 Kh10 Lh10 => ?_)
            have H := H h10 eh10 Xh10
            have La0_h10 := La0_h.ext Xh10
            refine mx_iconst dX0_none_5 ic_m1 ?_
            refine mx_iretK rfl dX0_none_6 ?_
            refine mx_i2l dX0_owed_20 ?_
            exact mx_lret rfl dX0_owed_21 H
          · have H := H.2 c9
            refine mx_iload_n dX0_isWeek_4 rfl rfl ?_
            refine mx_sipush dX0_isWeek_5 is_520 ?_
            refine mx_icmp_ge (tgt := 15) dX0_isWeek_8 rfl (fun c11 => ?_) (fun c11 => ?_)
            · have H := H.1 c11
              refine mx_iconst dX0_isWeek_15 ic_0 ?_
              refine mx_zretK rfl dX0_isWeek_16 (Or.inl rfl) ?_
              refine mx_if_ne (tgt := 30) dX0_wrongYear_23 rfl (fun _ => absurd ‹_› (by decide)) (fun _ => ?_)
              refine mx_iconst dX0_wrongYear_26 ic_5 ?_
              refine mx_goto (tgt := 31) dX0_wrongYear_27 rfl ?_
              refine mx_iretK rfl dX0_wrongYear_31 ?_
              refine mx_istore (al' := [some (rv a0), some (iv x1), some (iv x2), some (iv x3), some (iv (5 : Int32))]) dX0_owed_7 (Nat.le_of_ble_eq_true rfl) rfl ?_
              refine mx_iload dX0_owed_9 rfl ?_
              refine mx_if_le (tgt := 22) dX0_owed_11 rfl (fun _ => absurd ‹_› (by decide)) (fun _ => ?_)
              refine mx_aload_n dX0_owed_14 rfl rfl ?_
              refine mx_iload dX0_owed_15 rfl ?_
              refine mx_callV 0 (y' := mi_X0_none) (vs := [iv (5 : Int32)]) (st := []) (al' := [some (rv a0), some (iv (5 : Int32))]) cl_0 V_X0_none (Or.inl q733) dX0_owed_17 rfl rfl (Nat.le_of_ble_eq_true rfl) (Nat.le_of_ble_eq_true rfl) (ly0_k La0_h) ?_
              refine mx_aload_n dX0_none_0 rfl rfl ?_
              refine mx_iload_n dX0_none_1 rfl rfl ?_
              refine mx_putI 0 20 (ref := "PrairiePool") cl_0 (Nat.le_of_ble_eq_true rfl) (Or.inl q480) (Or.inl rfl) dX0_none_2 (Or.inl rfl) rfl (ly0_k La0_h) ?_
              refine mx_nmI  (fun h12 eh12 Xh12 Kh12 Lh12 => ?_)
              have H := H h12 eh12 Xh12
              have La0_h12 := La0_h.ext Xh12
              refine mx_iconst dX0_none_5 ic_m1 ?_
              refine mx_iretK rfl dX0_none_6 ?_
              refine mx_i2l dX0_owed_20 ?_
              exact mx_lret rfl dX0_owed_21 H
            · have H := H.2 c11
              refine mx_iconst dX0_isWeek_11 ic_1 ?_
              refine mx_goto (tgt := 16) dX0_isWeek_12 rfl ?_
              refine mx_zretK rfl dX0_isWeek_16 (Or.inr rfl) ?_
              refine mx_if_ne (tgt := 30) dX0_wrongYear_23 rfl (fun _ => ?_) (fun _ => absurd ‹_› (by decide))
              refine mx_iconst dX0_wrongYear_30 ic_0 ?_
              refine mx_iretK rfl dX0_wrongYear_31 ?_
              refine mx_istore (al' := [some (rv a0), some (iv x1), some (iv x2), some (iv x3), some (iv (0 : Int32))]) dX0_owed_7 (Nat.le_of_ble_eq_true rfl) rfl ?_
              refine mx_iload dX0_owed_9 rfl ?_
              refine mx_if_le (tgt := 22) dX0_owed_11 rfl (fun _ => ?_) (fun _ => absurd ‹_› (by decide))
              refine mx_aload_n dX0_owed_22 rfl rfl ?_
              refine mx_iload_n dX0_owed_23 rfl rfl ?_
              refine mx_iload_n dX0_owed_24 rfl rfl ?_
              refine mx_callV 0 (y' := mi_X0_settle) (vs := [iv x2, iv x3]) (st := []) (al' := [some (rv a0), some (iv x2), some (iv x3), none, none, none, none, none]) cl_0 V_X0_settle (Or.inl q1483) dX0_owed_25 rfl rfl (Nat.le_of_ble_eq_true rfl) (Nat.le_of_ble_eq_true rfl) (ly0_k La0_h) ?_
              refine ma_kv H (fun h13 Xh13 H => ?_) (fun x1 h1 X1 H => mt_out rfl H)
              have H := H Xh13
              have La0_h13 := La0_h.ext Xh13
              refine mx_aload_n dX0_owed_28 rfl rfl ?_
              refine mx_aload_n dX0_owed_29 rfl rfl ?_
              refine mx_get 0 26 (ref := "PrairiePool") cl_0 (Nat.le_of_ble_eq_true rfl) (Or.inl q486) (Or.inl rfl) dX0_owed_30 (fv_0_26 _ _) (ly0_k La0_h13) ?_
              refine mx_tr (ly0_R_0_26 La0_h13) ?_
              refine mx_iload_n dX0_owed_33 rfl rfl ?_
              obtain ⟨k15, H⟩ := H
              refine my_lald dX0_owed_34 rfl (ly0_A_1440 La0_h13 k15) ?_
              refine mx_callV 0 (y' := mi_X0_givesLong) (vs := [jv (ah_J h13 (a0 + 1440) x1.toNatClampNeg)]) (st := []) (al' := [some (rv a0), some (jv (ah_J h13 (a0 + 1440) x1.toNatClampNeg)), none]) cl_0 V_X0_givesLong (Or.inl q1471) dX0_owed_35 rfl rfl (Nat.le_of_ble_eq_true rfl) (Nat.le_of_ble_eq_true rfl) (ly0_k La0_h13) ?_
              refine mx_aload_n dX0_givesLong_0 rfl rfl ?_
              refine mx_iconst dX0_givesLong_1 ic_0 ?_
              refine mx_putI 0 20 (ref := "PrairiePool") cl_0 (Nat.le_of_ble_eq_true rfl) (Or.inl q480) (Or.inl rfl) dX0_givesLong_2 (Or.inl rfl) rfl (ly0_k La0_h13) ?_
              refine mx_nmI  (fun h16 eh16 Xh16 Kh16 Lh16 => ?_)
              have H := H h16 eh16 Xh16
              have La0_h16 := La0_h13.ext Xh16
              refine mx_lload_n dX0_givesLong_5 rfl rfl ?_
              refine mx_lretK rfl dX0_givesLong_6 ?_
              exact mx_lret rfl dX0_owed_38 H
theorem dX0_turns_0 : decode mi_X0_turns.2.1 0 = .ok (.aload_n 0, 1) := by decide +kernel
theorem dX0_turns_1 : decode mi_X0_turns.2.1 1 = .ok (.iload_n 3, 1) := by decide +kernel
theorem dX0_turns_2 : decode mi_X0_turns.2.1 2 = .ok (.invokevirtual 278, 3) := by decide +kernel
theorem dX0_turns_5 : decode mi_X0_turns.2.1 5 = .ok (.ifCond .ne 9, 3) := by decide +kernel
theorem dX0_turns_8 : decode mi_X0_turns.2.1 8 = .ok (.aload_n 0, 1) := by decide +kernel
theorem dX0_turns_9 : decode mi_X0_turns.2.1 9 = .ok (.iconst 2, 1) := by decide +kernel
theorem dX0_turns_10 : decode mi_X0_turns.2.1 10 = .ok (.invokevirtual 205, 3) := by decide +kernel
theorem dX0_turns_13 : decode mi_X0_turns.2.1 13 = .ok (.ireturn, 1) := by decide +kernel
theorem dX0_turns_14 : decode mi_X0_turns.2.1 14 = .ok (.iload_n 1, 1) := by decide +kernel
theorem dX0_turns_15 : decode mi_X0_turns.2.1 15 = .ok (.invokestatic 260, 3) := by decide +kernel
theorem dX0_turns_18 : decode mi_X0_turns.2.1 18 = .ok (.ifCond .eq 14, 3) := by decide +kernel
theorem dX0_turns_21 : decode mi_X0_turns.2.1 21 = .ok (.iload_n 2, 1) := by decide +kernel
theorem dX0_turns_22 : decode mi_X0_turns.2.1 22 = .ok (.iconst 1, 1) := by decide +kernel
theorem dX0_turns_23 : decode mi_X0_turns.2.1 23 = .ok (.if_icmp .lt 9, 3) := by decide +kernel
theorem dX0_turns_26 : decode mi_X0_turns.2.1 26 = .ok (.iload_n 2, 1) := by decide +kernel
theorem dX0_turns_27 : decode mi_X0_turns.2.1 27 = .ok (.bipush 20, 2) := by decide +kernel
theorem dX0_turns_29 : decode mi_X0_turns.2.1 29 = .ok (.if_icmp .le 9, 3) := by decide +kernel
theorem dX0_turns_32 : decode mi_X0_turns.2.1 32 = .ok (.aload_n 0, 1) := by decide +kernel
theorem dX0_turns_33 : decode mi_X0_turns.2.1 33 = .ok (.iconst 5, 1) := by decide +kernel
theorem dX0_turns_34 : decode mi_X0_turns.2.1 34 = .ok (.invokevirtual 205, 3) := by decide +kernel
theorem dX0_turns_37 : decode mi_X0_turns.2.1 37 = .ok (.ireturn, 1) := by decide +kernel
theorem dX0_turns_38 : decode mi_X0_turns.2.1 38 = .ok (.aload_n 0, 1) := by decide +kernel
theorem dX0_turns_39 : decode mi_X0_turns.2.1 39 = .ok (.iload_n 1, 1) := by decide +kernel
theorem dX0_turns_40 : decode mi_X0_turns.2.1 40 = .ok (.invokevirtual 387, 3) := by decide +kernel
theorem dX0_turns_43 : decode mi_X0_turns.2.1 43 = .ok (.aload_n 0, 1) := by decide +kernel
theorem dX0_turns_44 : decode mi_X0_turns.2.1 44 = .ok (.aload_n 0, 1) := by decide +kernel
theorem dX0_turns_45 : decode mi_X0_turns.2.1 45 = .ok (.iload_n 1, 1) := by decide +kernel
theorem dX0_turns_46 : decode mi_X0_turns.2.1 46 = .ok (.invokevirtual 331, 3) := by decide +kernel
theorem dX0_turns_49 : decode mi_X0_turns.2.1 49 = .ok (.putfield 335, 3) := by decide +kernel
theorem dX0_turns_52 : decode mi_X0_turns.2.1 52 = .ok (.iconst 0, 1) := by decide +kernel
theorem dX0_turns_53 : decode mi_X0_turns.2.1 53 = .ok (.istore 4, 2) := by decide +kernel
theorem dX0_turns_55 : decode mi_X0_turns.2.1 55 = .ok (.iload 4, 2) := by decide +kernel
theorem dX0_turns_57 : decode mi_X0_turns.2.1 57 = .ok (.bipush 8, 2) := by decide +kernel
theorem dX0_turns_59 : decode mi_X0_turns.2.1 59 = .ok (.if_icmp .ge 34, 3) := by decide +kernel
theorem dX0_turns_62 : decode mi_X0_turns.2.1 62 = .ok (.aload_n 0, 1) := by decide +kernel
theorem dX0_turns_63 : decode mi_X0_turns.2.1 63 = .ok (.getfield 106, 3) := by decide +kernel
theorem dX0_turns_66 : decode mi_X0_turns.2.1 66 = .ok (.iload 4, 2) := by decide +kernel
theorem dX0_turns_68 : decode mi_X0_turns.2.1 68 = .ok (.iconst 0, 1) := by decide +kernel
theorem dX0_turns_69 : decode mi_X0_turns.2.1 69 = .ok (.iastore, 1) := by decide +kernel
theorem dX0_turns_70 : decode mi_X0_turns.2.1 70 = .ok (.aload_n 0, 1) := by decide +kernel
theorem dX0_turns_71 : decode mi_X0_turns.2.1 71 = .ok (.getfield 109, 3) := by decide +kernel
theorem dX0_turns_74 : decode mi_X0_turns.2.1 74 = .ok (.iload 4, 2) := by decide +kernel
theorem dX0_turns_76 : decode mi_X0_turns.2.1 76 = .ok (.aload_n 0, 1) := by decide +kernel
theorem dX0_turns_77 : decode mi_X0_turns.2.1 77 = .ok (.getfield 49, 3) := by decide +kernel
theorem dX0_turns_80 : decode mi_X0_turns.2.1 80 = .ok (.getfield 519, 3) := by decide +kernel
theorem dX0_turns_83 : decode mi_X0_turns.2.1 83 = .ok (.iload 4, 2) := by decide +kernel
theorem dX0_turns_85 : decode mi_X0_turns.2.1 85 = .ok (.iaload, 1) := by decide +kernel
theorem dX0_turns_86 : decode mi_X0_turns.2.1 86 = .ok (.iastore, 1) := by decide +kernel
theorem dX0_turns_87 : decode mi_X0_turns.2.1 87 = .ok (.iinc 4 1, 3) := by decide +kernel
theorem dX0_turns_90 : decode mi_X0_turns.2.1 90 = .ok (.goto (-35), 3) := by decide +kernel
theorem dX0_turns_93 : decode mi_X0_turns.2.1 93 = .ok (.iconst 0, 1) := by decide +kernel
theorem dX0_turns_94 : decode mi_X0_turns.2.1 94 = .ok (.istore 4, 2) := by decide +kernel
theorem dX0_turns_96 : decode mi_X0_turns.2.1 96 = .ok (.iload 4, 2) := by decide +kernel
theorem dX0_turns_98 : decode mi_X0_turns.2.1 98 = .ok (.iload_n 2, 1) := by decide +kernel
theorem dX0_turns_99 : decode mi_X0_turns.2.1 99 = .ok (.if_icmp .ge 192, 3) := by decide +kernel
theorem dX0_turns_102 : decode mi_X0_turns.2.1 102 = .ok (.iconst (-1), 1) := by decide +kernel
theorem dX0_turns_103 : decode mi_X0_turns.2.1 103 = .ok (.istore 5, 2) := by decide +kernel
theorem dX0_turns_105 : decode mi_X0_turns.2.1 105 = .ok (.lconst 0, 1) := by decide +kernel
theorem dX0_turns_106 : decode mi_X0_turns.2.1 106 = .ok (.lstore 6, 2) := by decide +kernel
theorem dX0_turns_108 : decode mi_X0_turns.2.1 108 = .ok (.iconst 0, 1) := by decide +kernel
theorem dX0_turns_109 : decode mi_X0_turns.2.1 109 = .ok (.istore 8, 2) := by decide +kernel
theorem dX0_turns_111 : decode mi_X0_turns.2.1 111 = .ok (.iload 8, 2) := by decide +kernel
theorem dX0_turns_113 : decode mi_X0_turns.2.1 113 = .ok (.aload_n 0, 1) := by decide +kernel
theorem dX0_turns_114 : decode mi_X0_turns.2.1 114 = .ok (.getfield 233, 3) := by decide +kernel
theorem dX0_turns_117 : decode mi_X0_turns.2.1 117 = .ok (.if_icmp .ge 126, 3) := by decide +kernel
theorem dX0_turns_120 : decode mi_X0_turns.2.1 120 = .ok (.aload_n 0, 1) := by decide +kernel
theorem dX0_turns_121 : decode mi_X0_turns.2.1 121 = .ok (.getfield 109, 3) := by decide +kernel
theorem dX0_turns_124 : decode mi_X0_turns.2.1 124 = .ok (.iload 8, 2) := by decide +kernel
theorem dX0_turns_126 : decode mi_X0_turns.2.1 126 = .ok (.iaload, 1) := by decide +kernel
theorem dX0_turns_127 : decode mi_X0_turns.2.1 127 = .ok (.ifCond .ne 6, 3) := by decide +kernel
theorem dX0_turns_130 : decode mi_X0_turns.2.1 130 = .ok (.goto 107, 3) := by decide +kernel
theorem dX0_turns_133 : decode mi_X0_turns.2.1 133 = .ok (.aload_n 0, 1) := by decide +kernel
theorem dX0_turns_134 : decode mi_X0_turns.2.1 134 = .ok (.invokevirtual 339, 3) := by decide +kernel
theorem dX0_turns_137 : decode mi_X0_turns.2.1 137 = .ok (.astore 9, 2) := by decide +kernel
theorem dX0_turns_139 : decode mi_X0_turns.2.1 139 = .ok (.aload 9, 2) := by decide +kernel
theorem dX0_turns_141 : decode mi_X0_turns.2.1 141 = .ok (.iconst 2, 1) := by decide +kernel
theorem dX0_turns_142 : decode mi_X0_turns.2.1 142 = .ok (.iload_n 1, 1) := by decide +kernel
theorem dX0_turns_143 : decode mi_X0_turns.2.1 143 = .ok (.i2l, 1) := by decide +kernel
theorem dX0_turns_144 : decode mi_X0_turns.2.1 144 = .ok (.lastore, 1) := by decide +kernel
theorem dX0_turns_145 : decode mi_X0_turns.2.1 145 = .ok (.aload 9, 2) := by decide +kernel
theorem dX0_turns_147 : decode mi_X0_turns.2.1 147 = .ok (.iconst 3, 1) := by decide +kernel
theorem dX0_turns_148 : decode mi_X0_turns.2.1 148 = .ok (.iload_n 1, 1) := by decide +kernel
theorem dX0_turns_149 : decode mi_X0_turns.2.1 149 = .ok (.bipush 52, 2) := by decide +kernel
theorem dX0_turns_151 : decode mi_X0_turns.2.1 151 = .ok (.idiv, 1) := by decide +kernel
theorem dX0_turns_152 : decode mi_X0_turns.2.1 152 = .ok (.i2l, 1) := by decide +kernel
theorem dX0_turns_153 : decode mi_X0_turns.2.1 153 = .ok (.lastore, 1) := by decide +kernel
theorem dX0_turns_154 : decode mi_X0_turns.2.1 154 = .ok (.aload 9, 2) := by decide +kernel
theorem dX0_turns_156 : decode mi_X0_turns.2.1 156 = .ok (.bipush 7, 2) := by decide +kernel
theorem dX0_turns_158 : decode mi_X0_turns.2.1 158 = .ok (.aload_n 0, 1) := by decide +kernel
theorem dX0_turns_159 : decode mi_X0_turns.2.1 159 = .ok (.getfield 23, 3) := by decide +kernel
theorem dX0_turns_162 : decode mi_X0_turns.2.1 162 = .ok (.iload 8, 2) := by decide +kernel
theorem dX0_turns_164 : decode mi_X0_turns.2.1 164 = .ok (.aaload, 1) := by decide +kernel
theorem dX0_turns_165 : decode mi_X0_turns.2.1 165 = .ok (.getfield 522, 3) := by decide +kernel
theorem dX0_turns_168 : decode mi_X0_turns.2.1 168 = .ok (.i2l, 1) := by decide +kernel
theorem dX0_turns_169 : decode mi_X0_turns.2.1 169 = .ok (.lastore, 1) := by decide +kernel
theorem dX0_turns_170 : decode mi_X0_turns.2.1 170 = .ok (.aload 9, 2) := by decide +kernel
theorem dX0_turns_172 : decode mi_X0_turns.2.1 172 = .ok (.bipush 8, 2) := by decide +kernel
theorem dX0_turns_174 : decode mi_X0_turns.2.1 174 = .ok (.aload_n 0, 1) := by decide +kernel
theorem dX0_turns_175 : decode mi_X0_turns.2.1 175 = .ok (.getfield 106, 3) := by decide +kernel
theorem dX0_turns_178 : decode mi_X0_turns.2.1 178 = .ok (.iload 8, 2) := by decide +kernel
theorem dX0_turns_180 : decode mi_X0_turns.2.1 180 = .ok (.iaload, 1) := by decide +kernel
theorem dX0_turns_181 : decode mi_X0_turns.2.1 181 = .ok (.i2l, 1) := by decide +kernel
theorem dX0_turns_182 : decode mi_X0_turns.2.1 182 = .ok (.lastore, 1) := by decide +kernel
theorem dX0_turns_183 : decode mi_X0_turns.2.1 183 = .ok (.aload 9, 2) := by decide +kernel
theorem dX0_turns_185 : decode mi_X0_turns.2.1 185 = .ok (.bipush 9, 2) := by decide +kernel
theorem dX0_turns_187 : decode mi_X0_turns.2.1 187 = .ok (.aload_n 0, 1) := by decide +kernel
theorem dX0_turns_188 : decode mi_X0_turns.2.1 188 = .ok (.getfield 109, 3) := by decide +kernel
theorem dX0_turns_191 : decode mi_X0_turns.2.1 191 = .ok (.iload 8, 2) := by decide +kernel
theorem dX0_turns_193 : decode mi_X0_turns.2.1 193 = .ok (.iaload, 1) := by decide +kernel
theorem dX0_turns_194 : decode mi_X0_turns.2.1 194 = .ok (.i2l, 1) := by decide +kernel
theorem dX0_turns_195 : decode mi_X0_turns.2.1 195 = .ok (.lastore, 1) := by decide +kernel
theorem dX0_turns_196 : decode mi_X0_turns.2.1 196 = .ok (.aload_n 0, 1) := by decide +kernel
theorem dX0_turns_197 : decode mi_X0_turns.2.1 197 = .ok (.ldc2_w 523, 3) := by decide +kernel
theorem dX0_turns_200 : decode mi_X0_turns.2.1 200 = .ok (.lconst 0, 1) := by decide +kernel
theorem dX0_turns_201 : decode mi_X0_turns.2.1 201 = .ok (.ldc2_w 359, 3) := by decide +kernel
theorem dX0_turns_204 : decode mi_X0_turns.2.1 204 = .ok (.ldc2_w 253, 3) := by decide +kernel
theorem dX0_turns_207 : decode mi_X0_turns.2.1 207 = .ok (.invokevirtual 361, 3) := by decide +kernel
theorem dX0_turns_210 : decode mi_X0_turns.2.1 210 = .ok (.lstore 10, 2) := by decide +kernel
theorem dX0_turns_212 : decode mi_X0_turns.2.1 212 = .ok (.iload 5, 2) := by decide +kernel
theorem dX0_turns_214 : decode mi_X0_turns.2.1 214 = .ok (.iconst (-1), 1) := by decide +kernel
theorem dX0_turns_215 : decode mi_X0_turns.2.1 215 = .ok (.if_icmp .eq 14, 3) := by decide +kernel
theorem dX0_turns_218 : decode mi_X0_turns.2.1 218 = .ok (.lload 10, 2) := by decide +kernel
theorem dX0_turns_220 : decode mi_X0_turns.2.1 220 = .ok (.lload 6, 2) := by decide +kernel
theorem dX0_turns_222 : decode mi_X0_turns.2.1 222 = .ok (.lcmp, 1) := by decide +kernel
theorem dX0_turns_223 : decode mi_X0_turns.2.1 223 = .ok (.ifCond .gt 6, 3) := by decide +kernel
theorem dX0_turns_226 : decode mi_X0_turns.2.1 226 = .ok (.goto 11, 3) := by decide +kernel
theorem dX0_turns_229 : decode mi_X0_turns.2.1 229 = .ok (.iload 8, 2) := by decide +kernel
theorem dX0_turns_231 : decode mi_X0_turns.2.1 231 = .ok (.istore 5, 2) := by decide +kernel
theorem dX0_turns_233 : decode mi_X0_turns.2.1 233 = .ok (.lload 10, 2) := by decide +kernel
theorem dX0_turns_235 : decode mi_X0_turns.2.1 235 = .ok (.lstore 6, 2) := by decide +kernel
theorem dX0_turns_237 : decode mi_X0_turns.2.1 237 = .ok (.iinc 8 1, 3) := by decide +kernel
theorem dX0_turns_240 : decode mi_X0_turns.2.1 240 = .ok (.goto (-129), 3) := by decide +kernel
theorem dX0_turns_243 : decode mi_X0_turns.2.1 243 = .ok (.iload 5, 2) := by decide +kernel
theorem dX0_turns_245 : decode mi_X0_turns.2.1 245 = .ok (.iconst (-1), 1) := by decide +kernel
theorem dX0_turns_246 : decode mi_X0_turns.2.1 246 = .ok (.if_icmp .ne 6, 3) := by decide +kernel
theorem dX0_turns_249 : decode mi_X0_turns.2.1 249 = .ok (.goto 42, 3) := by decide +kernel
theorem dX0_turns_252 : decode mi_X0_turns.2.1 252 = .ok (.aload_n 0, 1) := by decide +kernel
theorem dX0_turns_253 : decode mi_X0_turns.2.1 253 = .ok (.getfield 106, 3) := by decide +kernel
theorem dX0_turns_256 : decode mi_X0_turns.2.1 256 = .ok (.iload 5, 2) := by decide +kernel
theorem dX0_turns_258 : decode mi_X0_turns.2.1 258 = .ok (.dup2, 1) := by decide +kernel
theorem dX0_turns_259 : decode mi_X0_turns.2.1 259 = .ok (.iaload, 1) := by decide +kernel
theorem dX0_turns_260 : decode mi_X0_turns.2.1 260 = .ok (.iconst 1, 1) := by decide +kernel
theorem dX0_turns_261 : decode mi_X0_turns.2.1 261 = .ok (.iadd, 1) := by decide +kernel
theorem dX0_turns_262 : decode mi_X0_turns.2.1 262 = .ok (.iastore, 1) := by decide +kernel
theorem dX0_turns_263 : decode mi_X0_turns.2.1 263 = .ok (.aload_n 0, 1) := by decide +kernel
theorem dX0_turns_264 : decode mi_X0_turns.2.1 264 = .ok (.getfield 109, 3) := by decide +kernel
theorem dX0_turns_267 : decode mi_X0_turns.2.1 267 = .ok (.iload 5, 2) := by decide +kernel
theorem dX0_turns_269 : decode mi_X0_turns.2.1 269 = .ok (.iconst 0, 1) := by decide +kernel
theorem dX0_turns_270 : decode mi_X0_turns.2.1 270 = .ok (.aload_n 0, 1) := by decide +kernel
theorem dX0_turns_271 : decode mi_X0_turns.2.1 271 = .ok (.getfield 109, 3) := by decide +kernel
theorem dX0_turns_274 : decode mi_X0_turns.2.1 274 = .ok (.iload 5, 2) := by decide +kernel
theorem dX0_turns_276 : decode mi_X0_turns.2.1 276 = .ok (.iaload, 1) := by decide +kernel
theorem dX0_turns_277 : decode mi_X0_turns.2.1 277 = .ok (.sipush 1000, 3) := by decide +kernel
theorem dX0_turns_280 : decode mi_X0_turns.2.1 280 = .ok (.isub, 1) := by decide +kernel
theorem dX0_turns_281 : decode mi_X0_turns.2.1 281 = .ok (.invokestatic 525, 3) := by decide +kernel
theorem dX0_turns_284 : decode mi_X0_turns.2.1 284 = .ok (.iastore, 1) := by decide +kernel
theorem dX0_turns_285 : decode mi_X0_turns.2.1 285 = .ok (.iinc 4 1, 3) := by decide +kernel
theorem dX0_turns_288 : decode mi_X0_turns.2.1 288 = .ok (.goto (-192), 3) := by decide +kernel
theorem dX0_turns_291 : decode mi_X0_turns.2.1 291 = .ok (.aload_n 0, 1) := by decide +kernel
theorem dX0_turns_292 : decode mi_X0_turns.2.1 292 = .ok (.aload_n 0, 1) := by decide +kernel
theorem dX0_turns_293 : decode mi_X0_turns.2.1 293 = .ok (.getfield 106, 3) := by decide +kernel
theorem dX0_turns_296 : decode mi_X0_turns.2.1 296 = .ok (.iload_n 3, 1) := by decide +kernel
theorem dX0_turns_297 : decode mi_X0_turns.2.1 297 = .ok (.iaload, 1) := by decide +kernel
theorem dX0_turns_298 : decode mi_X0_turns.2.1 298 = .ok (.invokevirtual 250, 3) := by decide +kernel
theorem dX0_turns_301 : decode mi_X0_turns.2.1 301 = .ok (.ireturn, 1) := by decide +kernel
theorem v_X0_turns {G : ma_G} {d : Nat} {a0 : Nat} {x1 : Int32} {x2 : Int32} {x3 : Int32} {h : ah_T} {Q : Option ma_V → ah_T → Prop} {E : Nat → ah_T → Prop} (La0_h : LY0 h a0) (H : (x3 < 0 → ∀ h2 : ah_T, h2 = ah_wI h a0 20 (2 : Int32) → ah_ext h h2 → Q (some (iv (-1 : Int32))) h2) ∧ (¬ x3 < 0 → ((ah_I h a0 15) ≤ x3 → ∀ h4 : ah_T, h4 = ah_wI h a0 20 (2 : Int32) → ah_ext h h4 → Q (some (iv (-1 : Int32))) h4) ∧ (¬ (ah_I h a0 15) ≤ x3 → (x1 < 0 → ∀ h6 : ah_T, h6 = ah_wI h a0 20 (5 : Int32) → ah_ext h h6 → Q (some (iv (-1 : Int32))) h6) ∧ (¬ x1 < 0 → ((520 : Int32) ≤ x1 → ∀ h8 : ah_T, h8 = ah_wI h a0 20 (5 : Int32) → ah_ext h h8 → Q (some (iv (-1 : Int32))) h8) ∧ (¬ (520 : Int32) ≤ x1 → (x2 < (1 : Int32) → ∀ h10 : ah_T, h10 = ah_wI h a0 20 (5 : Int32) → ah_ext h h10 → Q (some (iv (-1 : Int32))) h10) ∧ (¬ x2 < (1 : Int32) → (x2 ≤ (20 : Int32) → MX G mi_X0_plays d 0 [some (rv a0), some (iv x1), none] [] h (Qv fun h12 => ah_ext h h12 → MX G mi_X0_lawOf d 0 [some (rv a0), some (iv x1), none, none] [] h12 (Qr fun r15 h14 => ah_ext h12 h14 → ∀ h16 : ah_T, h16 = ah_wR h14 a0 23 r15 → ah_ext h14 h16 → MX G mi_X0_turns (d + 1) 55 [some (rv a0), some (iv x1), some (iv x2), some (iv x3), some (iv (0 : Int32)), none, none, none, none, none, none, none] [] h16 Q E) E) E) ∧ (¬ x2 ≤ (20 : Int32) → ∀ h17 : ah_T, h17 = ah_wI h a0 20 (5 : Int32) → ah_ext h h17 → Q (some (iv (-1 : Int32))) h17))))))) : MX G mi_X0_turns (d + 1) 0 [some (rv a0), some (iv x1), some (iv x2), some (iv x3), none, none, none, none, none, none, none, none] [] h Q E := by
  refine mx_aload_n dX0_turns_0 rfl rfl ?_
  refine mx_iload_n dX0_turns_1 rfl rfl ?_
  refine mx_callV 0 (y' := mi_X0_isElevator) (vs := [iv x3]) (st := []) (al' := [some (rv a0), some (iv x3)]) cl_0 V_X0_isElevator (Or.inl q831) dX0_turns_2 rfl rfl (Nat.le_of_ble_eq_true rfl) (Nat.le_of_ble_eq_true rfl) (ly0_k La0_h) ?_
  refine mx_iload_n dX0_isElevator_0 rfl rfl ?_
  refine mx_if_lt (tgt := 16) dX0_isElevator_1 rfl (fun c1 => ?_) (fun c1 => ?_)
  · have H := H.1 c1
    refine mx_iconst dX0_isElevator_16 ic_0 ?_
    refine mx_zretK rfl dX0_isElevator_17 (Or.inl rfl) ?_
    refine mx_if_ne (tgt := 14) dX0_turns_5 rfl (fun _ => absurd ‹_› (by decide)) (fun _ => ?_)
    refine mx_aload_n dX0_turns_8 rfl rfl ?_
    refine mx_iconst dX0_turns_9 ic_2 ?_
    refine mx_callV 0 (y' := mi_X0_none) (vs := [iv (2 : Int32)]) (st := []) (al' := [some (rv a0), some (iv (2 : Int32))]) cl_0 V_X0_none (Or.inl q733) dX0_turns_10 rfl rfl (Nat.le_of_ble_eq_true rfl) (Nat.le_of_ble_eq_true rfl) (ly0_k La0_h) ?_
    refine mx_aload_n dX0_none_0 rfl rfl ?_
    refine mx_iload_n dX0_none_1 rfl rfl ?_
    refine mx_putI 0 20 (ref := "PrairiePool") cl_0 (Nat.le_of_ble_eq_true rfl) (Or.inl q480) (Or.inl rfl) dX0_none_2 (Or.inl rfl) rfl (ly0_k La0_h) ?_
    refine mx_nmI  (fun h2 eh2 Xh2 Kh2 Lh2 => ?_)
    have H := H h2 eh2 Xh2
    have La0_h2 := La0_h.ext Xh2
    refine mx_iconst dX0_none_5 ic_m1 ?_
    refine mx_iretK rfl dX0_none_6 ?_
    exact mx_iret rfl dX0_turns_13 H
  · have H := H.2 c1
    refine mx_iload_n dX0_isElevator_4 rfl rfl ?_
    refine mx_aload_n dX0_isElevator_5 rfl rfl ?_
    refine mx_get 0 15 (ref := "PrairiePool") cl_0 (Nat.le_of_ble_eq_true rfl) (Or.inl q475) (Or.inl rfl) dX0_isElevator_6 (fv_0_15 _ _) (ly0_k La0_h) ?_
    refine mx_icmp_ge (tgt := 16) dX0_isElevator_9 rfl (fun c3 => ?_) (fun c3 => ?_)
    · have H := H.1 c3
      refine mx_iconst dX0_isElevator_16 ic_0 ?_
      refine mx_zretK rfl dX0_isElevator_17 (Or.inl rfl) ?_
      refine mx_if_ne (tgt := 14) dX0_turns_5 rfl (fun _ => absurd ‹_› (by decide)) (fun _ => ?_)
      refine mx_aload_n dX0_turns_8 rfl rfl ?_
      refine mx_iconst dX0_turns_9 ic_2 ?_
      refine mx_callV 0 (y' := mi_X0_none) (vs := [iv (2 : Int32)]) (st := []) (al' := [some (rv a0), some (iv (2 : Int32))]) cl_0 V_X0_none (Or.inl q733) dX0_turns_10 rfl rfl (Nat.le_of_ble_eq_true rfl) (Nat.le_of_ble_eq_true rfl) (ly0_k La0_h) ?_
      refine mx_aload_n dX0_none_0 rfl rfl ?_
      refine mx_iload_n dX0_none_1 rfl rfl ?_
      refine mx_putI 0 20 (ref := "PrairiePool") cl_0 (Nat.le_of_ble_eq_true rfl) (Or.inl q480) (Or.inl rfl) dX0_none_2 (Or.inl rfl) rfl (ly0_k La0_h) ?_
      refine mx_nmI  (fun h4 eh4 Xh4 Kh4 Lh4 => ?_)
      have H := H h4 eh4 Xh4
      have La0_h4 := La0_h.ext Xh4
      refine mx_iconst dX0_none_5 ic_m1 ?_
      refine mx_iretK rfl dX0_none_6 ?_
      exact mx_iret rfl dX0_turns_13 H
    · have H := H.2 c3
      refine mx_iconst dX0_isElevator_12 ic_1 ?_
      refine mx_goto (tgt := 17) dX0_isElevator_13 rfl ?_
      refine mx_zretK rfl dX0_isElevator_17 (Or.inr rfl) ?_
      refine mx_if_ne (tgt := 14) dX0_turns_5 rfl (fun _ => ?_) (fun _ => absurd ‹_› (by decide))
      refine mx_iload_n dX0_turns_14 rfl rfl ?_
      refine mx_callS (y' := mi_X0_isWeek) (vs := [iv x1]) (st := []) (al' := [some (iv x1)]) S_X0_isWeek q841 dX0_turns_15 rfl rfl (Nat.le_of_ble_eq_true rfl) (Nat.le_of_ble_eq_true rfl) ?_
      refine mx_iload_n dX0_isWeek_0 rfl rfl ?_
      refine mx_if_lt (tgt := 15) dX0_isWeek_1 rfl (fun c5 => ?_) (fun c5 => ?_)
      · have H := H.1 c5
        refine mx_iconst dX0_isWeek_15 ic_0 ?_
        refine mx_zretK rfl dX0_isWeek_16 (Or.inl rfl) ?_
        refine mx_if_eq (tgt := 32) dX0_turns_18 rfl (fun _ => ?_) (fun _ => absurd ‹_› (by decide))
        refine mx_aload_n dX0_turns_32 rfl rfl ?_
        refine mx_iconst dX0_turns_33 ic_5 ?_
        refine mx_callV 0 (y' := mi_X0_none) (vs := [iv (5 : Int32)]) (st := []) (al' := [some (rv a0), some (iv (5 : Int32))]) cl_0 V_X0_none (Or.inl q733) dX0_turns_34 rfl rfl (Nat.le_of_ble_eq_true rfl) (Nat.le_of_ble_eq_true rfl) (ly0_k La0_h) ?_
        refine mx_aload_n dX0_none_0 rfl rfl ?_
        refine mx_iload_n dX0_none_1 rfl rfl ?_
        refine mx_putI 0 20 (ref := "PrairiePool") cl_0 (Nat.le_of_ble_eq_true rfl) (Or.inl q480) (Or.inl rfl) dX0_none_2 (Or.inl rfl) rfl (ly0_k La0_h) ?_
        refine mx_nmI  (fun h6 eh6 Xh6 Kh6 Lh6 => ?_)
        have H := H h6 eh6 Xh6
        have La0_h6 := La0_h.ext Xh6
        refine mx_iconst dX0_none_5 ic_m1 ?_
        refine mx_iretK rfl dX0_none_6 ?_
        exact mx_iret rfl dX0_turns_37 H
      · have H := H.2 c5
        refine mx_iload_n dX0_isWeek_4 rfl rfl ?_
        refine mx_sipush dX0_isWeek_5 is_520 ?_
        refine mx_icmp_ge (tgt := 15) dX0_isWeek_8 rfl (fun c7 => ?_) (fun c7 => ?_)
        · have H := H.1 c7
          refine mx_iconst dX0_isWeek_15 ic_0 ?_
          refine mx_zretK rfl dX0_isWeek_16 (Or.inl rfl) ?_
          refine mx_if_eq (tgt := 32) dX0_turns_18 rfl (fun _ => ?_) (fun _ => absurd ‹_› (by decide))
          refine mx_aload_n dX0_turns_32 rfl rfl ?_
          refine mx_iconst dX0_turns_33 ic_5 ?_
          refine mx_callV 0 (y' := mi_X0_none) (vs := [iv (5 : Int32)]) (st := []) (al' := [some (rv a0), some (iv (5 : Int32))]) cl_0 V_X0_none (Or.inl q733) dX0_turns_34 rfl rfl (Nat.le_of_ble_eq_true rfl) (Nat.le_of_ble_eq_true rfl) (ly0_k La0_h) ?_
          refine mx_aload_n dX0_none_0 rfl rfl ?_
          refine mx_iload_n dX0_none_1 rfl rfl ?_
          refine mx_putI 0 20 (ref := "PrairiePool") cl_0 (Nat.le_of_ble_eq_true rfl) (Or.inl q480) (Or.inl rfl) dX0_none_2 (Or.inl rfl) rfl (ly0_k La0_h) ?_
          refine mx_nmI  (fun h8 eh8 Xh8 Kh8 Lh8 => ?_)
          have H := H h8 eh8 Xh8
          have La0_h8 := La0_h.ext Xh8
          refine mx_iconst dX0_none_5 ic_m1 ?_
          refine mx_iretK rfl dX0_none_6 ?_
          exact mx_iret rfl dX0_turns_37 H
        · have H := H.2 c7
          refine mx_iconst dX0_isWeek_11 ic_1 ?_
          refine mx_goto (tgt := 16) dX0_isWeek_12 rfl ?_
          refine mx_zretK rfl dX0_isWeek_16 (Or.inr rfl) ?_
          refine mx_if_eq (tgt := 32) dX0_turns_18 rfl (fun _ => absurd ‹_› (by decide)) (fun _ => ?_)
          refine mx_iload_n dX0_turns_21 rfl rfl ?_
          refine mx_iconst dX0_turns_22 ic_1 ?_
          refine mx_icmp_lt (tgt := 32) dX0_turns_23 rfl (fun c9 => ?_) (fun c9 => ?_)
          · have H := H.1 c9
            refine mx_aload_n dX0_turns_32 rfl rfl ?_
            refine mx_iconst dX0_turns_33 ic_5 ?_
            refine mx_callV 0 (y' := mi_X0_none) (vs := [iv (5 : Int32)]) (st := []) (al' := [some (rv a0), some (iv (5 : Int32))]) cl_0 V_X0_none (Or.inl q733) dX0_turns_34 rfl rfl (Nat.le_of_ble_eq_true rfl) (Nat.le_of_ble_eq_true rfl) (ly0_k La0_h) ?_
            refine mx_aload_n dX0_none_0 rfl rfl ?_
            refine mx_iload_n dX0_none_1 rfl rfl ?_
            refine mx_putI 0 20 (ref := "PrairiePool") cl_0 (Nat.le_of_ble_eq_true rfl) (Or.inl q480) (Or.inl rfl) dX0_none_2 (Or.inl rfl) rfl (ly0_k La0_h) ?_
            refine mx_nmI  (fun h10 eh10 Xh10 Kh10 Lh10 => ?_)
            have H := H h10 eh10 Xh10
            have La0_h10 := La0_h.ext Xh10
            refine mx_iconst dX0_none_5 ic_m1 ?_
            refine mx_iretK rfl dX0_none_6 ?_
            exact mx_iret rfl dX0_turns_37 H
          · have H := H.2 c9
            refine mx_iload_n dX0_turns_26 rfl rfl ?_
            refine mx_bipush dX0_turns_27 ib_20 ?_
            refine mx_icmp_le (tgt := 38) dX0_turns_29 rfl (fun c11 => ?_) (fun c11 => ?_)
            · have H := H.1 c11
              refine mx_aload_n dX0_turns_38 rfl rfl ?_
              refine mx_iload_n dX0_turns_39 rfl rfl ?_
              refine mx_callV 0 (y' := mi_X0_plays) (vs := [iv x1]) (st := []) (al' := [some (rv a0), some (iv x1), none]) cl_0 V_X0_plays (Or.inl q1069) dX0_turns_40 rfl rfl (Nat.le_of_ble_eq_true rfl) (Nat.le_of_ble_eq_true rfl) (ly0_k La0_h) ?_
              refine ma_kv H (fun h12 Xh12 H => ?_) (fun x1 h1 X1 H => mt_out rfl H)
              have H := H Xh12
              have La0_h12 := La0_h.ext Xh12
              refine mx_aload_n dX0_turns_43 rfl rfl ?_
              refine mx_aload_n dX0_turns_44 rfl rfl ?_
              refine mx_iload_n dX0_turns_45 rfl rfl ?_
              refine mx_callV 0 (y' := mi_X0_lawOf) (vs := [iv x1]) (st := [rv a0]) (al' := [some (rv a0), some (iv x1), none, none]) cl_0 V_X0_lawOf (Or.inl q994) dX0_turns_46 rfl rfl (Nat.le_of_ble_eq_true rfl) (Nat.le_of_ble_eq_true rfl) (ly0_k La0_h12) ?_
              refine ma_kr H (fun r15 h14 Xh14 H => ?_) (fun x1 h1 X1 H => mt_out rfl H)
              have H := H Xh14
              have La0_h14 := La0_h12.ext Xh14
              refine mx_putO 0 23 (ref := "PrairiePool") cl_0 (Nat.le_of_ble_eq_true rfl) (Or.inl q483) (Or.inl rfl) dX0_turns_49 (Or.inl rfl) rfl (Or.inl rfl) (ly0_k La0_h14) ?_
              refine mx_nmR (ah_ext.wR (Or.inl (by rw [(ly0_k La0_h14)]; rfl))) (fun h16 eh16 Xh16 Kh16 Lh16 => ?_)
              have H := H h16 eh16 Xh16
              have La0_h16 := La0_h14.ext Xh16
              refine mx_iconst dX0_turns_52 ic_0 ?_
              refine mx_istore (al' := [some (rv a0), some (iv x1), some (iv x2), some (iv x3), some (iv (0 : Int32)), none, none, none, none, none, none, none]) dX0_turns_53 (Nat.le_of_ble_eq_true rfl) rfl ?_
              exact mx_weak (al' := [some (rv a0), some (iv x1), some (iv x2), some (iv x3), some (iv (0 : Int32)), none, none, none, none, none, none, none]) ⟨rfl, ⟨rfl, ⟨rfl, ⟨rfl, ⟨rfl, trivial⟩⟩⟩⟩⟩ H
            · have H := H.2 c11
              refine mx_aload_n dX0_turns_32 rfl rfl ?_
              refine mx_iconst dX0_turns_33 ic_5 ?_
              refine mx_callV 0 (y' := mi_X0_none) (vs := [iv (5 : Int32)]) (st := []) (al' := [some (rv a0), some (iv (5 : Int32))]) cl_0 V_X0_none (Or.inl q733) dX0_turns_34 rfl rfl (Nat.le_of_ble_eq_true rfl) (Nat.le_of_ble_eq_true rfl) (ly0_k La0_h) ?_
              refine mx_aload_n dX0_none_0 rfl rfl ?_
              refine mx_iload_n dX0_none_1 rfl rfl ?_
              refine mx_putI 0 20 (ref := "PrairiePool") cl_0 (Nat.le_of_ble_eq_true rfl) (Or.inl q480) (Or.inl rfl) dX0_none_2 (Or.inl rfl) rfl (ly0_k La0_h) ?_
              refine mx_nmI  (fun h17 eh17 Xh17 Kh17 Lh17 => ?_)
              have H := H h17 eh17 Xh17
              have La0_h17 := La0_h.ext Xh17
              refine mx_iconst dX0_none_5 ic_m1 ?_
              refine mx_iretK rfl dX0_none_6 ?_
              exact mx_iret rfl dX0_turns_37 H
theorem v_X0_turns_55 {G : ma_G} {d : Nat} {a0 : Nat} {x1 : Int32} {x2 : Int32} {x3 : Int32} {x4 : Int32} {h : ah_T} {Q : Option ma_V → ah_T → Prop} {E : Nat → ah_T → Prop} (La0_h : LY0 h a0) (H : ((8 : Int32) ≤ x4 → MX G mi_X0_turns (d + 1) 96 [some (rv a0), some (iv x1), some (iv x2), some (iv x3), some (iv (0 : Int32)), none, none, none, none, none, none, none] [] h Q E) ∧ (¬ (8 : Int32) ≤ x4 → vp_in x4 8 ∧ ∀ h3 : ah_T, h3 = ah_wI h (a0 + 1441) x4.toNatClampNeg (0 : Int32) → ah_ext h h3 → ∀ h4 : ah_T, h4 = ah_wI h3 (a0 + 1442) x4.toNatClampNeg (ah_I h (a0 + 97) x4.toNatClampNeg) → ah_ext h3 h4 → MX G mi_X0_turns (d + 1) 55 [some (rv a0), some (iv x1), some (iv x2), some (iv x3), some (iv (x4 + (1 : Int32))), none, none, none, none, none, none, none] [] h4 Q E)) : MX G mi_X0_turns (d + 1) 55 [some (rv a0), some (iv x1), some (iv x2), some (iv x3), some (iv x4), none, none, none, none, none, none, none] [] h Q E := by
  refine mx_iload dX0_turns_55 rfl ?_
  refine mx_bipush dX0_turns_57 ib_8 ?_
  refine mx_icmp_ge (tgt := 93) dX0_turns_59 rfl (fun c1 => ?_) (fun c1 => ?_)
  · have H := H.1 c1
    refine mx_iconst dX0_turns_93 ic_0 ?_
    refine mx_istore (al' := [some (rv a0), some (iv x1), some (iv x2), some (iv x3), some (iv (0 : Int32)), none, none, none, none, none, none, none]) dX0_turns_94 (Nat.le_of_ble_eq_true rfl) rfl ?_
    exact mx_weak (al' := [some (rv a0), some (iv x1), some (iv x2), some (iv x3), some (iv (0 : Int32)), none, none, none, none, none, none, none]) ⟨rfl, ⟨rfl, ⟨rfl, ⟨rfl, ⟨rfl, trivial⟩⟩⟩⟩⟩ H
  · have H := H.2 c1
    refine mx_aload_n dX0_turns_62 rfl rfl ?_
    refine mx_get 0 29 (ref := "PrairiePool") cl_0 (Nat.le_of_ble_eq_true rfl) (Or.inl q489) (Or.inl rfl) dX0_turns_63 (fv_0_29 _ _) (ly0_k La0_h) ?_
    refine mx_tr (ly0_R_0_29 La0_h) ?_
    refine mx_iload dX0_turns_66 rfl ?_
    refine mx_iconst dX0_turns_68 ic_0 ?_
    obtain ⟨k2, H⟩ := H
    refine my_iast dX0_turns_69 rfl (ly0_A_1441 La0_h k2) ?_
    refine mx_nmI  (fun h3 eh3 Xh3 Kh3 Lh3 => ?_)
    have H := H h3 eh3 Xh3
    have La0_h3 := La0_h.ext Xh3
    refine mx_aload_n dX0_turns_70 rfl rfl ?_
    refine mx_get 0 30 (ref := "PrairiePool") cl_0 (Nat.le_of_ble_eq_true rfl) (Or.inl q490) (Or.inl rfl) dX0_turns_71 (fv_0_30 _ _) (ly0_k La0_h3) ?_
    refine mx_tr (ly0_R_0_30 La0_h3) ?_
    refine mx_iload dX0_turns_74 rfl ?_
    refine mx_aload_n dX0_turns_76 rfl rfl ?_
    refine mx_get 0 8 (ref := "PrairiePool") cl_0 (Nat.le_of_ble_eq_true rfl) (Or.inl q468) (Or.inl rfl) dX0_turns_77 (fv_0_8 _ _) (ly0_k La0_h3) ?_
    refine mx_tr (ly0_R_0_8 La0_h3) ?_
    refine mx_get 1 5 (ref := "PrairiePool$Play") cl_1 (Nat.le_of_ble_eq_true rfl) (Or.inr ⟨_, q243⟩) (Or.inl rfl) dX0_turns_80 (fv_1_5 _ _) (ly0_K_9 La0_h3) ?_
    refine mx_tr (ly0_R_9_5 La0_h3) ?_
    refine mx_iload dX0_turns_83 rfl ?_
    refine my_iald dX0_turns_85 rfl (ly0_A_97 La0_h3 k2) ?_
    refine mx_ti (ah_skIA eh3 (by omega)) ?_
    refine my_iast dX0_turns_86 rfl (ly0_A_1442 La0_h3 k2) ?_
    refine mx_nmI  (fun h4 eh4 Xh4 Kh4 Lh4 => ?_)
    have H := H h4 eh4 Xh4
    have Kh4 := Kh4.trans Kh3
    have Lh4 := Lh4.trans Lh3
    have La0_h4 := La0_h3.ext Xh4
    refine mx_iinc (al' := [some (rv a0), some (iv x1), some (iv x2), some (iv x3), some (iv (x4 + (1 : Int32))), none, none, none, none, none, none, none]) dX0_turns_87 rfl ic_1 rfl ?_
    refine mx_goto (tgt := 55) dX0_turns_90 rfl ?_
    exact mx_weak (al' := [some (rv a0), some (iv x1), some (iv x2), some (iv x3), some (iv (x4 + (1 : Int32))), none, none, none, none, none, none, none]) ⟨rfl, ⟨rfl, ⟨rfl, ⟨rfl, ⟨rfl, trivial⟩⟩⟩⟩⟩ H
theorem v_X0_turns_96 {G : ma_G} {d : Nat} {a0 : Nat} {x1 : Int32} {x2 : Int32} {x3 : Int32} {x4 : Int32} {h : ah_T} {Q : Option ma_V → ah_T → Prop} {E : Nat → ah_T → Prop} (La0_h : LY0 h a0) (H : (x2 ≤ x4 → vp_in x3 8 ∧ ∀ h3 : ah_T, h3 = ah_wI h a0 20 (0 : Int32) → ah_ext h h3 → Q (some (iv (ah_I h (a0 + 1441) x3.toNatClampNeg))) h3) ∧ (¬ x2 ≤ x4 → MX G mi_X0_turns (d + 1) 111 [some (rv a0), some (iv x1), some (iv x2), some (iv x3), some (iv x4), some (iv (-1 : Int32)), some (jv (0 : Int64)), none, some (iv (0 : Int32)), none, none, none] [] h Q E)) : MX G mi_X0_turns (d + 1) 96 [some (rv a0), some (iv x1), some (iv x2), some (iv x3), some (iv x4), none, none, none, none, none, none, none] [] h Q E := by
  refine mx_iload dX0_turns_96 rfl ?_
  refine mx_iload_n dX0_turns_98 rfl rfl ?_
  refine mx_icmp_ge (tgt := 291) dX0_turns_99 rfl (fun c1 => ?_) (fun c1 => ?_)
  · have H := H.1 c1
    refine mx_aload_n dX0_turns_291 rfl rfl ?_
    refine mx_aload_n dX0_turns_292 rfl rfl ?_
    refine mx_get 0 29 (ref := "PrairiePool") cl_0 (Nat.le_of_ble_eq_true rfl) (Or.inl q489) (Or.inl rfl) dX0_turns_293 (fv_0_29 _ _) (ly0_k La0_h) ?_
    refine mx_tr (ly0_R_0_29 La0_h) ?_
    refine mx_iload_n dX0_turns_296 rfl rfl ?_
    obtain ⟨k2, H⟩ := H
    refine my_iald dX0_turns_297 rfl (ly0_A_1441 La0_h k2) ?_
    refine mx_callV 0 (y' := mi_X0_gives) (vs := [iv (ah_I h (a0 + 1441) x3.toNatClampNeg)]) (st := []) (al' := [some (rv a0), some (iv (ah_I h (a0 + 1441) x3.toNatClampNeg))]) cl_0 V_X0_gives (Or.inl q801) dX0_turns_298 rfl rfl (Nat.le_of_ble_eq_true rfl) (Nat.le_of_ble_eq_true rfl) (ly0_k La0_h) ?_
    refine mx_aload_n dX0_gives_0 rfl rfl ?_
    refine mx_iconst dX0_gives_1 ic_0 ?_
    refine mx_putI 0 20 (ref := "PrairiePool") cl_0 (Nat.le_of_ble_eq_true rfl) (Or.inl q480) (Or.inl rfl) dX0_gives_2 (Or.inl rfl) rfl (ly0_k La0_h) ?_
    refine mx_nmI  (fun h3 eh3 Xh3 Kh3 Lh3 => ?_)
    have H := H h3 eh3 Xh3
    have La0_h3 := La0_h.ext Xh3
    refine mx_iload_n dX0_gives_5 rfl rfl ?_
    refine mx_iretK rfl dX0_gives_6 ?_
    exact mx_iret rfl dX0_turns_301 H
  · have H := H.2 c1
    refine mx_iconst dX0_turns_102 ic_m1 ?_
    refine mx_istore (al' := [some (rv a0), some (iv x1), some (iv x2), some (iv x3), some (iv x4), some (iv (-1 : Int32)), none, none, none, none, none, none]) dX0_turns_103 (Nat.le_of_ble_eq_true rfl) rfl ?_
    refine mx_lconst dX0_turns_105 lc_0 ?_
    refine mx_lstore (al' := [some (rv a0), some (iv x1), some (iv x2), some (iv x3), some (iv x4), some (iv (-1 : Int32)), some (jv (0 : Int64)), none, none, none, none, none]) dX0_turns_106 (Nat.le_of_ble_eq_true rfl) rfl ?_
    refine mx_iconst dX0_turns_108 ic_0 ?_
    refine mx_istore (al' := [some (rv a0), some (iv x1), some (iv x2), some (iv x3), some (iv x4), some (iv (-1 : Int32)), some (jv (0 : Int64)), none, some (iv (0 : Int32)), none, none, none]) dX0_turns_109 (Nat.le_of_ble_eq_true rfl) rfl ?_
    exact mx_weak (al' := [some (rv a0), some (iv x1), some (iv x2), some (iv x3), some (iv x4), some (iv (-1 : Int32)), some (jv (0 : Int64)), none, some (iv (0 : Int32)), none, none, none]) ⟨rfl, ⟨rfl, ⟨rfl, ⟨rfl, ⟨rfl, ⟨rfl, ⟨rfl, ⟨rfl, trivial⟩⟩⟩⟩⟩⟩⟩⟩ H
theorem v_X0_turns_111 {G : ma_G} {d : Nat} {a0 : Nat} {x1 : Int32} {x2 : Int32} {x3 : Int32} {x4 : Int32} {x5 : Int32} {x6 : Int64} {x8 : Int32} {h : ah_T} {Q : Option ma_V → ah_T → Prop} {E : Nat → ah_T → Prop} (La0_h : LY0 h a0) (H : ((ah_I h a0 15) ≤ x8 → (¬ x5 = (-1 : Int32) → vp_in x5 8 ∧ ∀ h4 : ah_T, h4 = ah_wI h (a0 + 1441) x5.toNatClampNeg ((ah_I h (a0 + 1441) x5.toNatClampNeg) + (1 : Int32)) → ah_ext h h4 → ∀ h5 : ah_T, h5 = ah_wI h4 (a0 + 1442) x5.toNatClampNeg (iMax (0 : Int32) ((ah_I h (a0 + 1442) x5.toNatClampNeg) - (1000 : Int32))) → ah_ext h4 h5 → MX G mi_X0_turns (d + 1) 96 [some (rv a0), some (iv x1), some (iv x2), some (iv x3), some (iv (x4 + (1 : Int32))), none, none, none, none, none, none, none] [] h5 Q E) ∧ (x5 = (-1 : Int32) → vp_in x3 8 ∧ ∀ h7 : ah_T, h7 = ah_wI h a0 20 (0 : Int32) → ah_ext h h7 → Q (some (iv (ah_I h (a0 + 1441) x3.toNatClampNeg))) h7)) ∧ (¬ (ah_I h a0 15) ≤ x8 → vp_in x8 8 ∧ (¬ (ah_I h (a0 + 1442) x8.toNatClampNeg) = 0 → MX G mi_X0_clear d 0 [some (rv a0), none] [] h (Qr fun r11 h10 => ah_ext h h10 → aok h10 41 r11 (2 : Int32) ∧ ∀ h13 : ah_T, h13 = ah_wJ h10 r11 2 x1.toInt64 → ah_ext h10 h13 → aok h10 41 r11 (3 : Int32) ∧ ∀ h15 : ah_T, h15 = ah_wJ h13 r11 3 (x1 / (52 : Int32)).toInt64 → ah_ext h13 h15 → ah_kd h10 (ah_R h10 (a0 + 3) x8.toNatClampNeg) = 11 ∧ aok h10 41 r11 (7 : Int32) ∧ ∀ h18 : ah_T, h18 = ah_wJ h15 r11 7 (ah_I h10 (ah_R h10 (a0 + 3) x8.toNatClampNeg) 0).toInt64 → ah_ext h15 h18 → aok h10 41 r11 (8 : Int32) ∧ ∀ h20 : ah_T, h20 = ah_wJ h18 r11 8 (ah_I h10 (a0 + 1441) x8.toNatClampNeg).toInt64 → ah_ext h18 h20 → aok h10 41 r11 (9 : Int32) ∧ ∀ h22 : ah_T, h22 = ah_wJ h20 r11 9 (ah_I h10 (a0 + 1442) x8.toNatClampNeg).toInt64 → ah_ext h20 h22 → MX G mi_X0_asks d 0 [some (rv a0), some (jv (1953854062 : Int64)), none, some (jv (0 : Int64)), none, some (jv (-1000000 : Int64)), none, some (jv (1000000 : Int64)), none, none] [] h22 (Ql fun r24 h23 => ah_ext h22 h23 → (x5 = (-1 : Int32) → MX G mi_X0_turns (d + 1) 111 [some (rv a0), some (iv x1), some (iv x2), some (iv x3), some (iv x4), some (iv x8), some (jv r24), none, some (iv (x8 + (1 : Int32))), none, none, none] [] h23 Q E) ∧ (¬ x5 = (-1 : Int32) → (x6 < r24 → MX G mi_X0_turns (d + 1) 111 [some (rv a0), some (iv x1), some (iv x2), some (iv x3), some (iv x4), some (iv x8), some (jv r24), none, some (iv (x8 + (1 : Int32))), none, none, none] [] h23 Q E) ∧ (¬ x6 < r24 → MX G mi_X0_turns (d + 1) 111 [some (rv a0), some (iv x1), some (iv x2), some (iv x3), some (iv x4), some (iv x5), some (jv x6), none, some (iv (x8 + (1 : Int32))), none, none, none] [] h23 Q E))) E) E) ∧ ((ah_I h (a0 + 1442) x8.toNatClampNeg) = 0 → MX G mi_X0_turns (d + 1) 111 [some (rv a0), some (iv x1), some (iv x2), some (iv x3), some (iv x4), some (iv x5), some (jv x6), none, some (iv (x8 + (1 : Int32))), none, none, none] [] h Q E))) : MX G mi_X0_turns (d + 1) 111 [some (rv a0), some (iv x1), some (iv x2), some (iv x3), some (iv x4), some (iv x5), some (jv x6), none, some (iv x8), none, none, none] [] h Q E := by
  refine mx_iload dX0_turns_111 rfl ?_
  refine mx_aload_n dX0_turns_113 rfl rfl ?_
  refine mx_get 0 15 (ref := "PrairiePool") cl_0 (Nat.le_of_ble_eq_true rfl) (Or.inl q475) (Or.inl rfl) dX0_turns_114 (fv_0_15 _ _) (ly0_k La0_h) ?_
  refine mx_icmp_ge (tgt := 243) dX0_turns_117 rfl (fun c1 => ?_) (fun c1 => ?_)
  · have H := H.1 c1
    refine mx_iload dX0_turns_243 rfl ?_
    refine mx_iconst dX0_turns_245 ic_m1 ?_
    refine mx_icmp_ne (tgt := 252) dX0_turns_246 rfl (fun c2 => ?_) (fun c2 => ?_)
    · have H := H.1 c2
      refine mx_aload_n dX0_turns_252 rfl rfl ?_
      refine mx_get 0 29 (ref := "PrairiePool") cl_0 (Nat.le_of_ble_eq_true rfl) (Or.inl q489) (Or.inl rfl) dX0_turns_253 (fv_0_29 _ _) (ly0_k La0_h) ?_
      refine mx_tr (ly0_R_0_29 La0_h) ?_
      refine mx_iload dX0_turns_256 rfl ?_
      refine mx_dup2_ir dX0_turns_258 ?_
      obtain ⟨k3, H⟩ := H
      refine my_iald dX0_turns_259 rfl (ly0_A_1441 La0_h k3) ?_
      refine mx_iconst dX0_turns_260 ic_1 ?_
      refine mx_iadd dX0_turns_261 ?_
      refine my_iast dX0_turns_262 rfl (ly0_A_1441 La0_h k3) ?_
      refine mx_nmI  (fun h4 eh4 Xh4 Kh4 Lh4 => ?_)
      have H := H h4 eh4 Xh4
      have La0_h4 := La0_h.ext Xh4
      refine mx_aload_n dX0_turns_263 rfl rfl ?_
      refine mx_get 0 30 (ref := "PrairiePool") cl_0 (Nat.le_of_ble_eq_true rfl) (Or.inl q490) (Or.inl rfl) dX0_turns_264 (fv_0_30 _ _) (ly0_k La0_h4) ?_
      refine mx_tr (ly0_R_0_30 La0_h4) ?_
      refine mx_iload dX0_turns_267 rfl ?_
      refine mx_iconst dX0_turns_269 ic_0 ?_
      refine mx_aload_n dX0_turns_270 rfl rfl ?_
      refine mx_get 0 30 (ref := "PrairiePool") cl_0 (Nat.le_of_ble_eq_true rfl) (Or.inl q490) (Or.inl rfl) dX0_turns_271 (fv_0_30 _ _) (ly0_k La0_h4) ?_
      refine mx_tr (ly0_R_0_30 La0_h4) ?_
      refine mx_iload dX0_turns_274 rfl ?_
      refine my_iald dX0_turns_276 rfl (ly0_A_1442 La0_h4 k3) ?_
      refine mx_ti (ah_skIA eh4 (by omega)) ?_
      refine mx_sipush dX0_turns_277 is_1000 ?_
      refine mx_isub dX0_turns_280 ?_
      refine mx_callS (y' := mi_J8_max_2) (vs := [iv (0 : Int32), iv ((ah_I h (a0 + 1442) x5.toNatClampNeg) - (1000 : Int32))]) (st := [iv x5, rv (a0 + 1442)]) (al' := [some (iv (0 : Int32)), some (iv ((ah_I h (a0 + 1442) x5.toNatClampNeg) - (1000 : Int32)))]) S_J8_max_2 q1512 dX0_turns_281 rfl rfl (Nat.le_of_ble_eq_true rfl) (Nat.le_of_ble_eq_true rfl) ?_
      refine pv_J8_max_2 ?_
      refine my_iast dX0_turns_284 rfl (ly0_A_1442 La0_h4 k3) ?_
      refine mx_nmI  (fun h5 eh5 Xh5 Kh5 Lh5 => ?_)
      have H := H h5 eh5 Xh5
      have Kh5 := Kh5.trans Kh4
      have Lh5 := Lh5.trans Lh4
      have La0_h5 := La0_h4.ext Xh5
      refine mx_iinc (al' := [some (rv a0), some (iv x1), some (iv x2), some (iv x3), some (iv (x4 + (1 : Int32))), some (iv x5), some (jv x6), none, some (iv x8), none, none, none]) dX0_turns_285 rfl ic_1 rfl ?_
      refine mx_goto (tgt := 96) dX0_turns_288 rfl ?_
      exact mx_weak (al' := [some (rv a0), some (iv x1), some (iv x2), some (iv x3), some (iv (x4 + (1 : Int32))), none, none, none, none, none, none, none]) ⟨rfl, ⟨rfl, ⟨rfl, ⟨rfl, ⟨rfl, trivial⟩⟩⟩⟩⟩ H
    · have H := H.2 c2
      refine mx_goto (tgt := 291) dX0_turns_249 rfl ?_
      refine mx_aload_n dX0_turns_291 rfl rfl ?_
      refine mx_aload_n dX0_turns_292 rfl rfl ?_
      refine mx_get 0 29 (ref := "PrairiePool") cl_0 (Nat.le_of_ble_eq_true rfl) (Or.inl q489) (Or.inl rfl) dX0_turns_293 (fv_0_29 _ _) (ly0_k La0_h) ?_
      refine mx_tr (ly0_R_0_29 La0_h) ?_
      refine mx_iload_n dX0_turns_296 rfl rfl ?_
      obtain ⟨k6, H⟩ := H
      refine my_iald dX0_turns_297 rfl (ly0_A_1441 La0_h k6) ?_
      refine mx_callV 0 (y' := mi_X0_gives) (vs := [iv (ah_I h (a0 + 1441) x3.toNatClampNeg)]) (st := []) (al' := [some (rv a0), some (iv (ah_I h (a0 + 1441) x3.toNatClampNeg))]) cl_0 V_X0_gives (Or.inl q801) dX0_turns_298 rfl rfl (Nat.le_of_ble_eq_true rfl) (Nat.le_of_ble_eq_true rfl) (ly0_k La0_h) ?_
      refine mx_aload_n dX0_gives_0 rfl rfl ?_
      refine mx_iconst dX0_gives_1 ic_0 ?_
      refine mx_putI 0 20 (ref := "PrairiePool") cl_0 (Nat.le_of_ble_eq_true rfl) (Or.inl q480) (Or.inl rfl) dX0_gives_2 (Or.inl rfl) rfl (ly0_k La0_h) ?_
      refine mx_nmI  (fun h7 eh7 Xh7 Kh7 Lh7 => ?_)
      have H := H h7 eh7 Xh7
      have La0_h7 := La0_h.ext Xh7
      refine mx_iload_n dX0_gives_5 rfl rfl ?_
      refine mx_iretK rfl dX0_gives_6 ?_
      exact mx_iret rfl dX0_turns_301 H
  · have H := H.2 c1
    refine mx_aload_n dX0_turns_120 rfl rfl ?_
    refine mx_get 0 30 (ref := "PrairiePool") cl_0 (Nat.le_of_ble_eq_true rfl) (Or.inl q490) (Or.inl rfl) dX0_turns_121 (fv_0_30 _ _) (ly0_k La0_h) ?_
    refine mx_tr (ly0_R_0_30 La0_h) ?_
    refine mx_iload dX0_turns_124 rfl ?_
    obtain ⟨k8, H⟩ := H
    refine my_iald dX0_turns_126 rfl (ly0_A_1442 La0_h k8) ?_
    refine mx_if_ne (tgt := 133) dX0_turns_127 rfl (fun c9 => ?_) (fun c9 => ?_)
    · have H := H.1 c9
      refine mx_aload_n dX0_turns_133 rfl rfl ?_
      refine mx_callV 0 (y' := mi_X0_clear) (vs := []) (st := []) (al' := [some (rv a0), none]) cl_0 V_X0_clear (Or.inl q998) dX0_turns_134 rfl rfl (Nat.le_of_ble_eq_true rfl) (Nat.le_of_ble_eq_true rfl) (ly0_k La0_h) ?_
      refine ma_kr H (fun r11 h10 Xh10 H => ?_) (fun x1 h1 X1 H => mt_out rfl H)
      have H := H Xh10
      have La0_h10 := La0_h.ext Xh10
      refine mx_astore (al' := [some (rv a0), some (iv x1), some (iv x2), some (iv x3), some (iv x4), some (iv x5), some (jv x6), none, some (iv x8), some (rv r11), none, none]) dX0_turns_137 (Nat.le_of_ble_eq_true rfl) rfl ?_
      refine mx_aload dX0_turns_139 rfl ?_
      refine mx_iconst dX0_turns_141 ic_2 ?_
      refine mx_iload_n dX0_turns_142 rfl rfl ?_
      refine mx_i2l dX0_turns_143 ?_
      obtain ⟨k12, H⟩ := H
      refine my_last dX0_turns_144 cn_2 k12 ?_
      refine mx_nmJ  (fun h13 eh13 Xh13 Kh13 Lh13 => ?_)
      have H := H h13 eh13 Xh13
      have La0_h13 := La0_h10.ext Xh13
      refine mx_aload dX0_turns_145 rfl ?_
      refine mx_iconst dX0_turns_147 ic_3 ?_
      refine mx_iload_n dX0_turns_148 rfl rfl ?_
      refine mx_bipush dX0_turns_149 ib_52 ?_
      refine mx_idiv dX0_turns_151 (by decide) ?_
      refine mx_i2l dX0_turns_152 ?_
      obtain ⟨k14, H⟩ := H
      refine my_last dX0_turns_153 cn_3 (ma_aok Kh13 Lh13 (k14)) ?_
      refine mx_nmJ  (fun h15 eh15 Xh15 Kh15 Lh15 => ?_)
      have H := H h15 eh15 Xh15
      have Kh15 := Kh15.trans Kh13
      have Lh15 := Lh15.trans Lh13
      have La0_h15 := La0_h13.ext Xh15
      refine mx_aload dX0_turns_154 rfl ?_
      refine mx_bipush dX0_turns_156 ib_7 ?_
      refine mx_aload_n dX0_turns_158 rfl rfl ?_
      refine mx_get 0 2 (ref := "PrairiePool") cl_0 (Nat.le_of_ble_eq_true rfl) (Or.inl q462) (Or.inl rfl) dX0_turns_159 (fv_0_2 _ _) (ly0_k La0_h15) ?_
      refine mx_tr (ly0_R_0_2 La0_h15) ?_
      refine mx_iload dX0_turns_162 rfl ?_
      refine my_aald 7 dX0_turns_164 (by decide) rfl (ly0_A_3 La0_h15 k8) ?_
      refine mx_tr ((ah_RJ eh15).trans (ah_RJ eh13)) ?_
      obtain ⟨k16, H⟩ := H
      refine mx_get 10 0 (ref := "PrairiePool$Elevator") cl_10 (Nat.le_of_ble_eq_true rfl) (Or.inl q816) (Or.inl rfl) dX0_turns_165 (fv_10_0 _ _) (ma_kde Kh15 (k16)) ?_
      refine mx_ti ((ah_IJ eh15).trans (ah_IJ eh13)) ?_
      refine mx_i2l dX0_turns_168 ?_
      obtain ⟨k17, H⟩ := H
      refine my_last dX0_turns_169 cn_7 (ma_aok Kh15 Lh15 (k17)) ?_
      refine mx_nmJ  (fun h18 eh18 Xh18 Kh18 Lh18 => ?_)
      have H := H h18 eh18 Xh18
      have Kh18 := Kh18.trans Kh15
      have Lh18 := Lh18.trans Lh15
      have La0_h18 := La0_h15.ext Xh18
      refine mx_aload dX0_turns_170 rfl ?_
      refine mx_bipush dX0_turns_172 ib_8 ?_
      refine mx_aload_n dX0_turns_174 rfl rfl ?_
      refine mx_get 0 29 (ref := "PrairiePool") cl_0 (Nat.le_of_ble_eq_true rfl) (Or.inl q489) (Or.inl rfl) dX0_turns_175 (fv_0_29 _ _) (ly0_k La0_h18) ?_
      refine mx_tr (ly0_R_0_29 La0_h18) ?_
      refine mx_iload dX0_turns_178 rfl ?_
      refine my_iald dX0_turns_180 rfl (ly0_A_1441 La0_h18 k8) ?_
      refine mx_ti (((ah_IJ eh18).trans (ah_IJ eh15)).trans (ah_IJ eh13)) ?_
      refine mx_i2l dX0_turns_181 ?_
      obtain ⟨k19, H⟩ := H
      refine my_last dX0_turns_182 cn_8 (ma_aok Kh18 Lh18 (k19)) ?_
      refine mx_nmJ  (fun h20 eh20 Xh20 Kh20 Lh20 => ?_)
      have H := H h20 eh20 Xh20
      have Kh20 := Kh20.trans Kh18
      have Lh20 := Lh20.trans Lh18
      have La0_h20 := La0_h18.ext Xh20
      refine mx_aload dX0_turns_183 rfl ?_
      refine mx_bipush dX0_turns_185 ib_9 ?_
      refine mx_aload_n dX0_turns_187 rfl rfl ?_
      refine mx_get 0 30 (ref := "PrairiePool") cl_0 (Nat.le_of_ble_eq_true rfl) (Or.inl q490) (Or.inl rfl) dX0_turns_188 (fv_0_30 _ _) (ly0_k La0_h20) ?_
      refine mx_tr (ly0_R_0_30 La0_h20) ?_
      refine mx_iload dX0_turns_191 rfl ?_
      refine my_iald dX0_turns_193 rfl (ly0_A_1442 La0_h20 k8) ?_
      refine mx_ti ((((ah_IJ eh20).trans (ah_IJ eh18)).trans (ah_IJ eh15)).trans (ah_IJ eh13)) ?_
      refine mx_i2l dX0_turns_194 ?_
      obtain ⟨k21, H⟩ := H
      refine my_last dX0_turns_195 cn_9 (ma_aok Kh20 Lh20 (k21)) ?_
      refine mx_nmJ  (fun h22 eh22 Xh22 Kh22 Lh22 => ?_)
      have H := H h22 eh22 Xh22
      have Kh22 := Kh22.trans Kh20
      have Lh22 := Lh22.trans Lh20
      have La0_h22 := La0_h20.ext Xh22
      refine mx_aload_n dX0_turns_196 rfl rfl ?_
      refine mx_ldc2 q1511 dX0_turns_197 ?_
      refine mx_lconst dX0_turns_200 lc_0 ?_
      refine mx_ldc2 q1014 dX0_turns_201 ?_
      refine mx_ldc2 q809 dX0_turns_204 ?_
      refine mx_callV 0 (y' := mi_X0_asks) (vs := [jv (1953854062 : Int64), jv (0 : Int64), jv (-1000000 : Int64), jv (1000000 : Int64)]) (st := []) (al' := [some (rv a0), some (jv (1953854062 : Int64)), none, some (jv (0 : Int64)), none, some (jv (-1000000 : Int64)), none, some (jv (1000000 : Int64)), none, none]) cl_0 V_X0_asks (Or.inl q1015) dX0_turns_207 rfl rfl (Nat.le_of_ble_eq_true rfl) (Nat.le_of_ble_eq_true rfl) (ly0_k La0_h22) ?_
      refine ma_kl H (fun r24 h23 Xh23 H => ?_) (fun x1 h1 X1 H => mt_out rfl H)
      have H := H Xh23
      have k25 := ma_aokx Xh23 ((ma_aok Kh22 Lh22 (k12)))
      have k26 := Xh23.kd ((ma_kde Kh22 (k12.1)))
      have k27 := ma_aokx Xh23 ((ma_aok Kh22 Lh22 (k14)))
      have k28 := Xh23.kd ((ma_kde Kh22 (k16)))
      have k29 := ma_aokx Xh23 ((ma_aok Kh22 Lh22 (k17)))
      have k30 := ma_aokx Xh23 ((ma_aok Kh22 Lh22 (k19)))
      have k31 := ma_aokx Xh23 ((ma_aok Kh22 Lh22 (k21)))
      have La0_h23 := La0_h22.ext Xh23
      refine mx_lstore (al' := [some (rv a0), some (iv x1), some (iv x2), some (iv x3), some (iv x4), some (iv x5), some (jv x6), none, some (iv x8), some (rv r11), some (jv r24), none]) dX0_turns_210 (Nat.le_of_ble_eq_true rfl) rfl ?_
      refine mx_iload dX0_turns_212 rfl ?_
      refine mx_iconst dX0_turns_214 ic_m1 ?_
      refine mx_icmp_eq (tgt := 229) dX0_turns_215 rfl (fun c32 => ?_) (fun c32 => ?_)
      · have H := H.1 c32
        refine mx_iload dX0_turns_229 rfl ?_
        refine mx_istore (al' := [some (rv a0), some (iv x1), some (iv x2), some (iv x3), some (iv x4), some (iv x8), some (jv x6), none, some (iv x8), some (rv r11), some (jv r24), none]) dX0_turns_231 (Nat.le_of_ble_eq_true rfl) rfl ?_
        refine mx_lload dX0_turns_233 rfl ?_
        refine mx_lstore (al' := [some (rv a0), some (iv x1), some (iv x2), some (iv x3), some (iv x4), some (iv x8), some (jv r24), none, some (iv x8), some (rv r11), some (jv r24), none]) dX0_turns_235 (Nat.le_of_ble_eq_true rfl) rfl ?_
        refine mx_iinc (al' := [some (rv a0), some (iv x1), some (iv x2), some (iv x3), some (iv x4), some (iv x8), some (jv r24), none, some (iv (x8 + (1 : Int32))), some (rv r11), some (jv r24), none]) dX0_turns_237 rfl ic_1 rfl ?_
        refine mx_goto (tgt := 111) dX0_turns_240 rfl ?_
        exact mx_weak (al' := [some (rv a0), some (iv x1), some (iv x2), some (iv x3), some (iv x4), some (iv x8), some (jv r24), none, some (iv (x8 + (1 : Int32))), none, none, none]) ⟨rfl, ⟨rfl, ⟨rfl, ⟨rfl, ⟨rfl, ⟨rfl, ⟨rfl, ⟨rfl, trivial⟩⟩⟩⟩⟩⟩⟩⟩ H
      · have H := H.2 c32
        refine mx_lload dX0_turns_218 rfl ?_
        refine mx_lload dX0_turns_220 rfl ?_
        refine mx_lif_gt (tgt := 229) dX0_turns_222 dX0_turns_223 rfl (fun c33 => ?_) (fun c33 => ?_)
        · have H := H.1 c33
          refine mx_iload dX0_turns_229 rfl ?_
          refine mx_istore (al' := [some (rv a0), some (iv x1), some (iv x2), some (iv x3), some (iv x4), some (iv x8), some (jv x6), none, some (iv x8), some (rv r11), some (jv r24), none]) dX0_turns_231 (Nat.le_of_ble_eq_true rfl) rfl ?_
          refine mx_lload dX0_turns_233 rfl ?_
          refine mx_lstore (al' := [some (rv a0), some (iv x1), some (iv x2), some (iv x3), some (iv x4), some (iv x8), some (jv r24), none, some (iv x8), some (rv r11), some (jv r24), none]) dX0_turns_235 (Nat.le_of_ble_eq_true rfl) rfl ?_
          refine mx_iinc (al' := [some (rv a0), some (iv x1), some (iv x2), some (iv x3), some (iv x4), some (iv x8), some (jv r24), none, some (iv (x8 + (1 : Int32))), some (rv r11), some (jv r24), none]) dX0_turns_237 rfl ic_1 rfl ?_
          refine mx_goto (tgt := 111) dX0_turns_240 rfl ?_
          exact mx_weak (al' := [some (rv a0), some (iv x1), some (iv x2), some (iv x3), some (iv x4), some (iv x8), some (jv r24), none, some (iv (x8 + (1 : Int32))), none, none, none]) ⟨rfl, ⟨rfl, ⟨rfl, ⟨rfl, ⟨rfl, ⟨rfl, ⟨rfl, ⟨rfl, trivial⟩⟩⟩⟩⟩⟩⟩⟩ H
        · have H := H.2 c33
          refine mx_goto (tgt := 237) dX0_turns_226 rfl ?_
          refine mx_iinc (al' := [some (rv a0), some (iv x1), some (iv x2), some (iv x3), some (iv x4), some (iv x5), some (jv x6), none, some (iv (x8 + (1 : Int32))), some (rv r11), some (jv r24), none]) dX0_turns_237 rfl ic_1 rfl ?_
          refine mx_goto (tgt := 111) dX0_turns_240 rfl ?_
          exact mx_weak (al' := [some (rv a0), some (iv x1), some (iv x2), some (iv x3), some (iv x4), some (iv x5), some (jv x6), none, some (iv (x8 + (1 : Int32))), none, none, none]) ⟨rfl, ⟨rfl, ⟨rfl, ⟨rfl, ⟨rfl, ⟨rfl, ⟨rfl, ⟨rfl, trivial⟩⟩⟩⟩⟩⟩⟩⟩ H
    · have H := H.2 c9
      refine mx_goto (tgt := 237) dX0_turns_130 rfl ?_
      refine mx_iinc (al' := [some (rv a0), some (iv x1), some (iv x2), some (iv x3), some (iv x4), some (iv x5), some (jv x6), none, some (iv (x8 + (1 : Int32))), none, none, none]) dX0_turns_237 rfl ic_1 rfl ?_
      refine mx_goto (tgt := 111) dX0_turns_240 rfl ?_
      exact mx_weak (al' := [some (rv a0), some (iv x1), some (iv x2), some (iv x3), some (iv x4), some (iv x5), some (jv x6), none, some (iv (x8 + (1 : Int32))), none, none, none]) ⟨rfl, ⟨rfl, ⟨rfl, ⟨rfl, ⟨rfl, ⟨rfl, ⟨rfl, ⟨rfl, trivial⟩⟩⟩⟩⟩⟩⟩⟩ H
theorem dX0_sign_0 : decode mi_X0_sign.2.1 0 = .ok (.aload_n 0, 1) := by decide +kernel
theorem dX0_sign_1 : decode mi_X0_sign.2.1 1 = .ok (.iload_n 1, 1) := by decide +kernel
theorem dX0_sign_2 : decode mi_X0_sign.2.1 2 = .ok (.invokevirtual 275, 3) := by decide +kernel
theorem dX0_sign_5 : decode mi_X0_sign.2.1 5 = .ok (.ifCond .ne 9, 3) := by decide +kernel
theorem dX0_sign_8 : decode mi_X0_sign.2.1 8 = .ok (.aload_n 0, 1) := by decide +kernel
theorem dX0_sign_9 : decode mi_X0_sign.2.1 9 = .ok (.iconst 2, 1) := by decide +kernel
theorem dX0_sign_10 : decode mi_X0_sign.2.1 10 = .ok (.invokevirtual 188, 3) := by decide +kernel
theorem dX0_sign_13 : decode mi_X0_sign.2.1 13 = .ok (.ireturn, 1) := by decide +kernel
theorem dX0_sign_14 : decode mi_X0_sign.2.1 14 = .ok (.iload_n 2, 1) := by decide +kernel
theorem dX0_sign_15 : decode mi_X0_sign.2.1 15 = .ok (.invokestatic 304, 3) := by decide +kernel
theorem dX0_sign_18 : decode mi_X0_sign.2.1 18 = .ok (.ifCond .eq 15, 3) := by decide +kernel
theorem dX0_sign_21 : decode mi_X0_sign.2.1 21 = .ok (.iload_n 3, 1) := by decide +kernel
theorem dX0_sign_22 : decode mi_X0_sign.2.1 22 = .ok (.invokestatic 304, 3) := by decide +kernel
theorem dX0_sign_25 : decode mi_X0_sign.2.1 25 = .ok (.ifCond .eq 8, 3) := by decide +kernel
theorem dX0_sign_28 : decode mi_X0_sign.2.1 28 = .ok (.iload_n 2, 1) := by decide +kernel
theorem dX0_sign_29 : decode mi_X0_sign.2.1 29 = .ok (.iload_n 3, 1) := by decide +kernel
theorem dX0_sign_30 : decode mi_X0_sign.2.1 30 = .ok (.if_icmp .le 9, 3) := by decide +kernel
theorem dX0_sign_33 : decode mi_X0_sign.2.1 33 = .ok (.aload_n 0, 1) := by decide +kernel
theorem dX0_sign_34 : decode mi_X0_sign.2.1 34 = .ok (.iconst 5, 1) := by decide +kernel
theorem dX0_sign_35 : decode mi_X0_sign.2.1 35 = .ok (.invokevirtual 188, 3) := by decide +kernel
theorem dX0_sign_38 : decode mi_X0_sign.2.1 38 = .ok (.ireturn, 1) := by decide +kernel
theorem dX0_sign_39 : decode mi_X0_sign.2.1 39 = .ok (.aload_n 0, 1) := by decide +kernel
theorem dX0_sign_40 : decode mi_X0_sign.2.1 40 = .ok (.getfield 17, 3) := by decide +kernel
theorem dX0_sign_43 : decode mi_X0_sign.2.1 43 = .ok (.iload_n 1, 1) := by decide +kernel
theorem dX0_sign_44 : decode mi_X0_sign.2.1 44 = .ok (.aaload, 1) := by decide +kernel
theorem dX0_sign_45 : decode mi_X0_sign.2.1 45 = .ok (.iload_n 2, 1) := by decide +kernel
theorem dX0_sign_46 : decode mi_X0_sign.2.1 46 = .ok (.putfield 527, 3) := by decide +kernel
theorem dX0_sign_49 : decode mi_X0_sign.2.1 49 = .ok (.aload_n 0, 1) := by decide +kernel
theorem dX0_sign_50 : decode mi_X0_sign.2.1 50 = .ok (.getfield 17, 3) := by decide +kernel
theorem dX0_sign_53 : decode mi_X0_sign.2.1 53 = .ok (.iload_n 1, 1) := by decide +kernel
theorem dX0_sign_54 : decode mi_X0_sign.2.1 54 = .ok (.aaload, 1) := by decide +kernel
theorem dX0_sign_55 : decode mi_X0_sign.2.1 55 = .ok (.iload_n 3, 1) := by decide +kernel
theorem dX0_sign_56 : decode mi_X0_sign.2.1 56 = .ok (.putfield 530, 3) := by decide +kernel
theorem dX0_sign_59 : decode mi_X0_sign.2.1 59 = .ok (.aload_n 0, 1) := by decide +kernel
theorem dX0_sign_60 : decode mi_X0_sign.2.1 60 = .ok (.iconst 0, 1) := by decide +kernel
theorem dX0_sign_61 : decode mi_X0_sign.2.1 61 = .ok (.invokevirtual 188, 3) := by decide +kernel
theorem dX0_sign_64 : decode mi_X0_sign.2.1 64 = .ok (.ireturn, 1) := by decide +kernel
theorem v_X0_sign {G : ma_G} {d : Nat} {a0 : Nat} {x1 : Int32} {x2 : Int32} {x3 : Int32} {h : ah_T} {Q : Option ma_V → ah_T → Prop} {E : Nat → ah_T → Prop} (La0_h : LY0 h a0) (H : (x1 < 0 → ∀ h2 : ah_T, h2 = ah_wI h a0 20 (2 : Int32) → ah_ext h h2 → Q (some (iv (0 : Int32))) h2) ∧ (¬ x1 < 0 → ((ah_I h a0 14) ≤ x1 → ∀ h4 : ah_T, h4 = ah_wI h a0 20 (2 : Int32) → ah_ext h h4 → Q (some (iv (0 : Int32))) h4) ∧ (¬ (ah_I h a0 14) ≤ x1 → (x2 < 0 → ∀ h6 : ah_T, h6 = ah_wI h a0 20 (5 : Int32) → ah_ext h h6 → Q (some (iv (0 : Int32))) h6) ∧ (¬ x2 < 0 → ((10 : Int32) ≤ x2 → ∀ h8 : ah_T, h8 = ah_wI h a0 20 (5 : Int32) → ah_ext h h8 → Q (some (iv (0 : Int32))) h8) ∧ (¬ (10 : Int32) ≤ x2 → (x3 < 0 → ∀ h10 : ah_T, h10 = ah_wI h a0 20 (5 : Int32) → ah_ext h h10 → Q (some (iv (0 : Int32))) h10) ∧ (¬ x3 < 0 → ((10 : Int32) ≤ x3 → ∀ h12 : ah_T, h12 = ah_wI h a0 20 (5 : Int32) → ah_ext h h12 → Q (some (iv (0 : Int32))) h12) ∧ (¬ (10 : Int32) ≤ x3 → (x2 ≤ x3 → vp_in x1 20 ∧ ah_kd h (ah_R h (a0 + 2) x1.toNatClampNeg) = 10 ∧ ∀ h16 : ah_T, h16 = ah_wI h (ah_R h (a0 + 2) x1.toNatClampNeg) 4 x2 → ah_ext h h16 → ∀ h17 : ah_T, h17 = ah_wI h16 (ah_R h (a0 + 2) x1.toNatClampNeg) 5 x3 → ah_ext h16 h17 → ∀ h18 : ah_T, h18 = ah_wI h17 a0 20 (0 : Int32) → ah_ext h17 h18 → Q (some (iv (1 : Int32))) h18) ∧ (¬ x2 ≤ x3 → ∀ h19 : ah_T, h19 = ah_wI h a0 20 (5 : Int32) → ah_ext h h19 → Q (some (iv (0 : Int32))) h19)))))))) : MX G mi_X0_sign (d + 1) 0 [some (rv a0), some (iv x1), some (iv x2), some (iv x3)] [] h Q E := by
  refine mx_aload_n dX0_sign_0 rfl rfl ?_
  refine mx_iload_n dX0_sign_1 rfl rfl ?_
  refine mx_callV 0 (y' := mi_X0_isFarm) (vs := [iv x1]) (st := []) (al' := [some (rv a0), some (iv x1)]) cl_0 V_X0_isFarm (Or.inl q827) dX0_sign_2 rfl rfl (Nat.le_of_ble_eq_true rfl) (Nat.le_of_ble_eq_true rfl) (ly0_k La0_h) ?_
  refine mx_iload_n dX0_isFarm_0 rfl rfl ?_
  refine mx_if_lt (tgt := 16) dX0_isFarm_1 rfl (fun c1 => ?_) (fun c1 => ?_)
  · have H := H.1 c1
    refine mx_iconst dX0_isFarm_16 ic_0 ?_
    refine mx_zretK rfl dX0_isFarm_17 (Or.inl rfl) ?_
    refine mx_if_ne (tgt := 14) dX0_sign_5 rfl (fun _ => absurd ‹_› (by decide)) (fun _ => ?_)
    refine mx_aload_n dX0_sign_8 rfl rfl ?_
    refine mx_iconst dX0_sign_9 ic_2 ?_
    refine mx_callV 0 (y' := mi_X0_is) (vs := [iv (2 : Int32)]) (st := []) (al' := [some (rv a0), some (iv (2 : Int32))]) cl_0 V_X0_is (Or.inl q664) dX0_sign_10 rfl rfl (Nat.le_of_ble_eq_true rfl) (Nat.le_of_ble_eq_true rfl) (ly0_k La0_h) ?_
    refine mx_aload_n dX0_is_0 rfl rfl ?_
    refine mx_iload_n dX0_is_1 rfl rfl ?_
    refine mx_putI 0 20 (ref := "PrairiePool") cl_0 (Nat.le_of_ble_eq_true rfl) (Or.inl q480) (Or.inl rfl) dX0_is_2 (Or.inl rfl) rfl (ly0_k La0_h) ?_
    refine mx_nmI  (fun h2 eh2 Xh2 Kh2 Lh2 => ?_)
    have H := H h2 eh2 Xh2
    have La0_h2 := La0_h.ext Xh2
    refine mx_iload_n dX0_is_5 rfl rfl ?_
    refine mx_if_ne (tgt := 13) dX0_is_6 rfl (fun _ => ?_) (fun _ => absurd ‹_› (by decide))
    refine mx_iconst dX0_is_13 ic_0 ?_
    refine mx_zretK rfl dX0_is_14 (Or.inl rfl) ?_
    exact mx_zret rfl dX0_sign_13 (Or.inl rfl) H
  · have H := H.2 c1
    refine mx_iload_n dX0_isFarm_4 rfl rfl ?_
    refine mx_aload_n dX0_isFarm_5 rfl rfl ?_
    refine mx_get 0 14 (ref := "PrairiePool") cl_0 (Nat.le_of_ble_eq_true rfl) (Or.inl q474) (Or.inl rfl) dX0_isFarm_6 (fv_0_14 _ _) (ly0_k La0_h) ?_
    refine mx_icmp_ge (tgt := 16) dX0_isFarm_9 rfl (fun c3 => ?_) (fun c3 => ?_)
    · have H := H.1 c3
      refine mx_iconst dX0_isFarm_16 ic_0 ?_
      refine mx_zretK rfl dX0_isFarm_17 (Or.inl rfl) ?_
      refine mx_if_ne (tgt := 14) dX0_sign_5 rfl (fun _ => absurd ‹_› (by decide)) (fun _ => ?_)
      refine mx_aload_n dX0_sign_8 rfl rfl ?_
      refine mx_iconst dX0_sign_9 ic_2 ?_
      refine mx_callV 0 (y' := mi_X0_is) (vs := [iv (2 : Int32)]) (st := []) (al' := [some (rv a0), some (iv (2 : Int32))]) cl_0 V_X0_is (Or.inl q664) dX0_sign_10 rfl rfl (Nat.le_of_ble_eq_true rfl) (Nat.le_of_ble_eq_true rfl) (ly0_k La0_h) ?_
      refine mx_aload_n dX0_is_0 rfl rfl ?_
      refine mx_iload_n dX0_is_1 rfl rfl ?_
      refine mx_putI 0 20 (ref := "PrairiePool") cl_0 (Nat.le_of_ble_eq_true rfl) (Or.inl q480) (Or.inl rfl) dX0_is_2 (Or.inl rfl) rfl (ly0_k La0_h) ?_
      refine mx_nmI  (fun h4 eh4 Xh4 Kh4 Lh4 => ?_)
      have H := H h4 eh4 Xh4
      have La0_h4 := La0_h.ext Xh4
      refine mx_iload_n dX0_is_5 rfl rfl ?_
      refine mx_if_ne (tgt := 13) dX0_is_6 rfl (fun _ => ?_) (fun _ => absurd ‹_› (by decide))
      refine mx_iconst dX0_is_13 ic_0 ?_
      refine mx_zretK rfl dX0_is_14 (Or.inl rfl) ?_
      exact mx_zret rfl dX0_sign_13 (Or.inl rfl) H
    · have H := H.2 c3
      refine mx_iconst dX0_isFarm_12 ic_1 ?_
      refine mx_goto (tgt := 17) dX0_isFarm_13 rfl ?_
      refine mx_zretK rfl dX0_isFarm_17 (Or.inr rfl) ?_
      refine mx_if_ne (tgt := 14) dX0_sign_5 rfl (fun _ => ?_) (fun _ => absurd ‹_› (by decide))
      refine mx_iload_n dX0_sign_14 rfl rfl ?_
      refine mx_callS (y' := mi_X0_isYear) (vs := [iv x2]) (st := []) (al' := [some (iv x2)]) S_X0_isYear q896 dX0_sign_15 rfl rfl (Nat.le_of_ble_eq_true rfl) (Nat.le_of_ble_eq_true rfl) ?_
      refine mx_iload_n dX0_isYear_0 rfl rfl ?_
      refine mx_if_lt (tgt := 14) dX0_isYear_1 rfl (fun c5 => ?_) (fun c5 => ?_)
      · have H := H.1 c5
        refine mx_iconst dX0_isYear_14 ic_0 ?_
        refine mx_zretK rfl dX0_isYear_15 (Or.inl rfl) ?_
        refine mx_if_eq (tgt := 33) dX0_sign_18 rfl (fun _ => ?_) (fun _ => absurd ‹_› (by decide))
        refine mx_aload_n dX0_sign_33 rfl rfl ?_
        refine mx_iconst dX0_sign_34 ic_5 ?_
        refine mx_callV 0 (y' := mi_X0_is) (vs := [iv (5 : Int32)]) (st := []) (al' := [some (rv a0), some (iv (5 : Int32))]) cl_0 V_X0_is (Or.inl q664) dX0_sign_35 rfl rfl (Nat.le_of_ble_eq_true rfl) (Nat.le_of_ble_eq_true rfl) (ly0_k La0_h) ?_
        refine mx_aload_n dX0_is_0 rfl rfl ?_
        refine mx_iload_n dX0_is_1 rfl rfl ?_
        refine mx_putI 0 20 (ref := "PrairiePool") cl_0 (Nat.le_of_ble_eq_true rfl) (Or.inl q480) (Or.inl rfl) dX0_is_2 (Or.inl rfl) rfl (ly0_k La0_h) ?_
        refine mx_nmI  (fun h6 eh6 Xh6 Kh6 Lh6 => ?_)
        have H := H h6 eh6 Xh6
        have La0_h6 := La0_h.ext Xh6
        refine mx_iload_n dX0_is_5 rfl rfl ?_
        refine mx_if_ne (tgt := 13) dX0_is_6 rfl (fun _ => ?_) (fun _ => absurd ‹_› (by decide))
        refine mx_iconst dX0_is_13 ic_0 ?_
        refine mx_zretK rfl dX0_is_14 (Or.inl rfl) ?_
        exact mx_zret rfl dX0_sign_38 (Or.inl rfl) H
      · have H := H.2 c5
        refine mx_iload_n dX0_isYear_4 rfl rfl ?_
        refine mx_bipush dX0_isYear_5 ib_10 ?_
        refine mx_icmp_ge (tgt := 14) dX0_isYear_7 rfl (fun c7 => ?_) (fun c7 => ?_)
        · have H := H.1 c7
          refine mx_iconst dX0_isYear_14 ic_0 ?_
          refine mx_zretK rfl dX0_isYear_15 (Or.inl rfl) ?_
          refine mx_if_eq (tgt := 33) dX0_sign_18 rfl (fun _ => ?_) (fun _ => absurd ‹_› (by decide))
          refine mx_aload_n dX0_sign_33 rfl rfl ?_
          refine mx_iconst dX0_sign_34 ic_5 ?_
          refine mx_callV 0 (y' := mi_X0_is) (vs := [iv (5 : Int32)]) (st := []) (al' := [some (rv a0), some (iv (5 : Int32))]) cl_0 V_X0_is (Or.inl q664) dX0_sign_35 rfl rfl (Nat.le_of_ble_eq_true rfl) (Nat.le_of_ble_eq_true rfl) (ly0_k La0_h) ?_
          refine mx_aload_n dX0_is_0 rfl rfl ?_
          refine mx_iload_n dX0_is_1 rfl rfl ?_
          refine mx_putI 0 20 (ref := "PrairiePool") cl_0 (Nat.le_of_ble_eq_true rfl) (Or.inl q480) (Or.inl rfl) dX0_is_2 (Or.inl rfl) rfl (ly0_k La0_h) ?_
          refine mx_nmI  (fun h8 eh8 Xh8 Kh8 Lh8 => ?_)
          have H := H h8 eh8 Xh8
          have La0_h8 := La0_h.ext Xh8
          refine mx_iload_n dX0_is_5 rfl rfl ?_
          refine mx_if_ne (tgt := 13) dX0_is_6 rfl (fun _ => ?_) (fun _ => absurd ‹_› (by decide))
          refine mx_iconst dX0_is_13 ic_0 ?_
          refine mx_zretK rfl dX0_is_14 (Or.inl rfl) ?_
          exact mx_zret rfl dX0_sign_38 (Or.inl rfl) H
        · have H := H.2 c7
          refine mx_iconst dX0_isYear_10 ic_1 ?_
          refine mx_goto (tgt := 15) dX0_isYear_11 rfl ?_
          refine mx_zretK rfl dX0_isYear_15 (Or.inr rfl) ?_
          refine mx_if_eq (tgt := 33) dX0_sign_18 rfl (fun _ => absurd ‹_› (by decide)) (fun _ => ?_)
          refine mx_iload_n dX0_sign_21 rfl rfl ?_
          refine mx_callS (y' := mi_X0_isYear) (vs := [iv x3]) (st := []) (al' := [some (iv x3)]) S_X0_isYear q896 dX0_sign_22 rfl rfl (Nat.le_of_ble_eq_true rfl) (Nat.le_of_ble_eq_true rfl) ?_
          refine mx_iload_n dX0_isYear_0 rfl rfl ?_
          refine mx_if_lt (tgt := 14) dX0_isYear_1 rfl (fun c9 => ?_) (fun c9 => ?_)
          · have H := H.1 c9
            refine mx_iconst dX0_isYear_14 ic_0 ?_
            refine mx_zretK rfl dX0_isYear_15 (Or.inl rfl) ?_
            refine mx_if_eq (tgt := 33) dX0_sign_25 rfl (fun _ => ?_) (fun _ => absurd ‹_› (by decide))
            refine mx_aload_n dX0_sign_33 rfl rfl ?_
            refine mx_iconst dX0_sign_34 ic_5 ?_
            refine mx_callV 0 (y' := mi_X0_is) (vs := [iv (5 : Int32)]) (st := []) (al' := [some (rv a0), some (iv (5 : Int32))]) cl_0 V_X0_is (Or.inl q664) dX0_sign_35 rfl rfl (Nat.le_of_ble_eq_true rfl) (Nat.le_of_ble_eq_true rfl) (ly0_k La0_h) ?_
            refine mx_aload_n dX0_is_0 rfl rfl ?_
            refine mx_iload_n dX0_is_1 rfl rfl ?_
            refine mx_putI 0 20 (ref := "PrairiePool") cl_0 (Nat.le_of_ble_eq_true rfl) (Or.inl q480) (Or.inl rfl) dX0_is_2 (Or.inl rfl) rfl (ly0_k La0_h) ?_
            refine mx_nmI  (fun h10 eh10 Xh10 Kh10 Lh10 => ?_)
            have H := H h10 eh10 Xh10
            have La0_h10 := La0_h.ext Xh10
            refine mx_iload_n dX0_is_5 rfl rfl ?_
            refine mx_if_ne (tgt := 13) dX0_is_6 rfl (fun _ => ?_) (fun _ => absurd ‹_› (by decide))
            refine mx_iconst dX0_is_13 ic_0 ?_
            refine mx_zretK rfl dX0_is_14 (Or.inl rfl) ?_
            exact mx_zret rfl dX0_sign_38 (Or.inl rfl) H
          · have H := H.2 c9
            refine mx_iload_n dX0_isYear_4 rfl rfl ?_
            refine mx_bipush dX0_isYear_5 ib_10 ?_
            refine mx_icmp_ge (tgt := 14) dX0_isYear_7 rfl (fun c11 => ?_) (fun c11 => ?_)
            · have H := H.1 c11
              refine mx_iconst dX0_isYear_14 ic_0 ?_
              refine mx_zretK rfl dX0_isYear_15 (Or.inl rfl) ?_
              refine mx_if_eq (tgt := 33) dX0_sign_25 rfl (fun _ => ?_) (fun _ => absurd ‹_› (by decide))
              refine mx_aload_n dX0_sign_33 rfl rfl ?_
              refine mx_iconst dX0_sign_34 ic_5 ?_
              refine mx_callV 0 (y' := mi_X0_is) (vs := [iv (5 : Int32)]) (st := []) (al' := [some (rv a0), some (iv (5 : Int32))]) cl_0 V_X0_is (Or.inl q664) dX0_sign_35 rfl rfl (Nat.le_of_ble_eq_true rfl) (Nat.le_of_ble_eq_true rfl) (ly0_k La0_h) ?_
              refine mx_aload_n dX0_is_0 rfl rfl ?_
              refine mx_iload_n dX0_is_1 rfl rfl ?_
              refine mx_putI 0 20 (ref := "PrairiePool") cl_0 (Nat.le_of_ble_eq_true rfl) (Or.inl q480) (Or.inl rfl) dX0_is_2 (Or.inl rfl) rfl (ly0_k La0_h) ?_
              refine mx_nmI  (fun h12 eh12 Xh12 Kh12 Lh12 => ?_)
              have H := H h12 eh12 Xh12
              have La0_h12 := La0_h.ext Xh12
              refine mx_iload_n dX0_is_5 rfl rfl ?_
              refine mx_if_ne (tgt := 13) dX0_is_6 rfl (fun _ => ?_) (fun _ => absurd ‹_› (by decide))
              refine mx_iconst dX0_is_13 ic_0 ?_
              refine mx_zretK rfl dX0_is_14 (Or.inl rfl) ?_
              exact mx_zret rfl dX0_sign_38 (Or.inl rfl) H
            · have H := H.2 c11
              refine mx_iconst dX0_isYear_10 ic_1 ?_
              refine mx_goto (tgt := 15) dX0_isYear_11 rfl ?_
              refine mx_zretK rfl dX0_isYear_15 (Or.inr rfl) ?_
              refine mx_if_eq (tgt := 33) dX0_sign_25 rfl (fun _ => absurd ‹_› (by decide)) (fun _ => ?_)
              refine mx_iload_n dX0_sign_28 rfl rfl ?_
              refine mx_iload_n dX0_sign_29 rfl rfl ?_
              refine mx_icmp_le (tgt := 39) dX0_sign_30 rfl (fun c13 => ?_) (fun c13 => ?_)
              · have H := H.1 c13
                refine mx_aload_n dX0_sign_39 rfl rfl ?_
                refine mx_get 0 1 (ref := "PrairiePool") cl_0 (Nat.le_of_ble_eq_true rfl) (Or.inl q461) (Or.inl rfl) dX0_sign_40 (fv_0_1 _ _) (ly0_k La0_h) ?_
                refine mx_tr (ly0_R_0_1 La0_h) ?_
                refine mx_iload_n dX0_sign_43 rfl rfl ?_
                obtain ⟨k14, H⟩ := H
                refine my_aald 6 dX0_sign_44 (by decide) rfl (ly0_A_2 La0_h k14) ?_
                refine mx_iload_n dX0_sign_45 rfl rfl ?_
                obtain ⟨k15, H⟩ := H
                refine mx_putI 9 4 (ref := "PrairiePool$Farm") cl_9 (Nat.le_of_ble_eq_true rfl) (Or.inr ⟨_, q777⟩) (Or.inl rfl) dX0_sign_46 (Or.inl rfl) rfl k15 ?_
                refine mx_nmI  (fun h16 eh16 Xh16 Kh16 Lh16 => ?_)
                have H := H h16 eh16 Xh16
                have La0_h16 := La0_h.ext Xh16
                refine mx_aload_n dX0_sign_49 rfl rfl ?_
                refine mx_get 0 1 (ref := "PrairiePool") cl_0 (Nat.le_of_ble_eq_true rfl) (Or.inl q461) (Or.inl rfl) dX0_sign_50 (fv_0_1 _ _) (ly0_k La0_h16) ?_
                refine mx_tr (ly0_R_0_1 La0_h16) ?_
                refine mx_iload_n dX0_sign_53 rfl rfl ?_
                refine my_aald 6 dX0_sign_54 (by decide) rfl (ly0_A_2 La0_h16 k14) ?_
                refine mx_tr (ah_RI eh16) ?_
                refine mx_iload_n dX0_sign_55 rfl rfl ?_
                refine mx_putI 9 5 (ref := "PrairiePool$Farm") cl_9 (Nat.le_of_ble_eq_true rfl) (Or.inr ⟨_, q779⟩) (Or.inl rfl) dX0_sign_56 (Or.inl rfl) rfl (ma_kde Kh16 (k15)) ?_
                refine mx_nmI  (fun h17 eh17 Xh17 Kh17 Lh17 => ?_)
                have H := H h17 eh17 Xh17
                have Kh17 := Kh17.trans Kh16
                have Lh17 := Lh17.trans Lh16
                have La0_h17 := La0_h16.ext Xh17
                refine mx_aload_n dX0_sign_59 rfl rfl ?_
                refine mx_iconst dX0_sign_60 ic_0 ?_
                refine mx_callV 0 (y' := mi_X0_is) (vs := [iv (0 : Int32)]) (st := []) (al' := [some (rv a0), some (iv (0 : Int32))]) cl_0 V_X0_is (Or.inl q664) dX0_sign_61 rfl rfl (Nat.le_of_ble_eq_true rfl) (Nat.le_of_ble_eq_true rfl) (ly0_k La0_h17) ?_
                refine mx_aload_n dX0_is_0 rfl rfl ?_
                refine mx_iload_n dX0_is_1 rfl rfl ?_
                refine mx_putI 0 20 (ref := "PrairiePool") cl_0 (Nat.le_of_ble_eq_true rfl) (Or.inl q480) (Or.inl rfl) dX0_is_2 (Or.inl rfl) rfl (ly0_k La0_h17) ?_
                refine mx_nmI  (fun h18 eh18 Xh18 Kh18 Lh18 => ?_)
                have H := H h18 eh18 Xh18
                have Kh18 := Kh18.trans Kh17
                have Lh18 := Lh18.trans Lh17
                have La0_h18 := La0_h17.ext Xh18
                refine mx_iload_n dX0_is_5 rfl rfl ?_
                refine mx_if_ne (tgt := 13) dX0_is_6 rfl (fun _ => absurd ‹_› (by decide)) (fun _ => ?_)
                refine mx_iconst dX0_is_9 ic_1 ?_
                refine mx_goto (tgt := 14) dX0_is_10 rfl ?_
                refine mx_zretK rfl dX0_is_14 (Or.inr rfl) ?_
                exact mx_zret rfl dX0_sign_64 (Or.inr rfl) H
              · have H := H.2 c13
                refine mx_aload_n dX0_sign_33 rfl rfl ?_
                refine mx_iconst dX0_sign_34 ic_5 ?_
                refine mx_callV 0 (y' := mi_X0_is) (vs := [iv (5 : Int32)]) (st := []) (al' := [some (rv a0), some (iv (5 : Int32))]) cl_0 V_X0_is (Or.inl q664) dX0_sign_35 rfl rfl (Nat.le_of_ble_eq_true rfl) (Nat.le_of_ble_eq_true rfl) (ly0_k La0_h) ?_
                refine mx_aload_n dX0_is_0 rfl rfl ?_
                refine mx_iload_n dX0_is_1 rfl rfl ?_
                refine mx_putI 0 20 (ref := "PrairiePool") cl_0 (Nat.le_of_ble_eq_true rfl) (Or.inl q480) (Or.inl rfl) dX0_is_2 (Or.inl rfl) rfl (ly0_k La0_h) ?_
                refine mx_nmI  (fun h19 eh19 Xh19 Kh19 Lh19 => ?_)
                have H := H h19 eh19 Xh19
                have La0_h19 := La0_h.ext Xh19
                refine mx_iload_n dX0_is_5 rfl rfl ?_
                refine mx_if_ne (tgt := 13) dX0_is_6 rfl (fun _ => ?_) (fun _ => absurd ‹_› (by decide))
                refine mx_iconst dX0_is_13 ic_0 ?_
                refine mx_zretK rfl dX0_is_14 (Or.inl rfl) ?_
                exact mx_zret rfl dX0_sign_38 (Or.inl rfl) H
theorem dX0_let_0 : decode mi_X0_let.2.1 0 = .ok (.aload_n 0, 1) := by decide +kernel
theorem dX0_let_1 : decode mi_X0_let.2.1 1 = .ok (.iload_n 1, 1) := by decide +kernel
theorem dX0_let_2 : decode mi_X0_let.2.1 2 = .ok (.invokevirtual 275, 3) := by decide +kernel
theorem dX0_let_5 : decode mi_X0_let.2.1 5 = .ok (.ifCond .ne 9, 3) := by decide +kernel
theorem dX0_let_8 : decode mi_X0_let.2.1 8 = .ok (.aload_n 0, 1) := by decide +kernel
theorem dX0_let_9 : decode mi_X0_let.2.1 9 = .ok (.iconst 2, 1) := by decide +kernel
theorem dX0_let_10 : decode mi_X0_let.2.1 10 = .ok (.invokevirtual 188, 3) := by decide +kernel
theorem dX0_let_13 : decode mi_X0_let.2.1 13 = .ok (.ireturn, 1) := by decide +kernel
theorem dX0_let_14 : decode mi_X0_let.2.1 14 = .ok (.iload_n 2, 1) := by decide +kernel
theorem dX0_let_15 : decode mi_X0_let.2.1 15 = .ok (.invokestatic 304, 3) := by decide +kernel
theorem dX0_let_18 : decode mi_X0_let.2.1 18 = .ok (.ifCond .ne 9, 3) := by decide +kernel
theorem dX0_let_21 : decode mi_X0_let.2.1 21 = .ok (.aload_n 0, 1) := by decide +kernel
theorem dX0_let_22 : decode mi_X0_let.2.1 22 = .ok (.iconst 5, 1) := by decide +kernel
theorem dX0_let_23 : decode mi_X0_let.2.1 23 = .ok (.invokevirtual 188, 3) := by decide +kernel
theorem dX0_let_26 : decode mi_X0_let.2.1 26 = .ok (.ireturn, 1) := by decide +kernel
theorem dX0_let_27 : decode mi_X0_let.2.1 27 = .ok (.aload_n 0, 1) := by decide +kernel
theorem dX0_let_28 : decode mi_X0_let.2.1 28 = .ok (.getfield 17, 3) := by decide +kernel
theorem dX0_let_31 : decode mi_X0_let.2.1 31 = .ok (.iload_n 1, 1) := by decide +kernel
theorem dX0_let_32 : decode mi_X0_let.2.1 32 = .ok (.aaload, 1) := by decide +kernel
theorem dX0_let_33 : decode mi_X0_let.2.1 33 = .ok (.getfield 533, 3) := by decide +kernel
theorem dX0_let_36 : decode mi_X0_let.2.1 36 = .ok (.iload_n 2, 1) := by decide +kernel
theorem dX0_let_37 : decode mi_X0_let.2.1 37 = .ok (.iload_n 3, 1) := by decide +kernel
theorem dX0_let_38 : decode mi_X0_let.2.1 38 = .ok (.bastore, 1) := by decide +kernel
theorem dX0_let_39 : decode mi_X0_let.2.1 39 = .ok (.aload_n 0, 1) := by decide +kernel
theorem dX0_let_40 : decode mi_X0_let.2.1 40 = .ok (.iconst 0, 1) := by decide +kernel
theorem dX0_let_41 : decode mi_X0_let.2.1 41 = .ok (.invokevirtual 188, 3) := by decide +kernel
theorem dX0_let_44 : decode mi_X0_let.2.1 44 = .ok (.ireturn, 1) := by decide +kernel
theorem v_X0_let {G : ma_G} {d : Nat} {a0 : Nat} {x1 : Int32} {x2 : Int32} {x3 : Int32} {h : ah_T} {Q : Option ma_V → ah_T → Prop} {E : Nat → ah_T → Prop} (La0_h : LY0 h a0) (H : (x1 < 0 → ∀ h2 : ah_T, h2 = ah_wI h a0 20 (2 : Int32) → ah_ext h h2 → Q (some (iv (0 : Int32))) h2) ∧ (¬ x1 < 0 → ((ah_I h a0 14) ≤ x1 → ∀ h4 : ah_T, h4 = ah_wI h a0 20 (2 : Int32) → ah_ext h h4 → Q (some (iv (0 : Int32))) h4) ∧ (¬ (ah_I h a0 14) ≤ x1 → (x2 < 0 → ∀ h6 : ah_T, h6 = ah_wI h a0 20 (5 : Int32) → ah_ext h h6 → Q (some (iv (0 : Int32))) h6) ∧ (¬ x2 < 0 → ((10 : Int32) ≤ x2 → ∀ h8 : ah_T, h8 = ah_wI h a0 20 (5 : Int32) → ah_ext h h8 → Q (some (iv (0 : Int32))) h8) ∧ (¬ (10 : Int32) ≤ x2 → vp_in x1 20 ∧ ah_kd h (ah_R h (a0 + 2) x1.toNatClampNeg) = 10 ∧ aok h 44 (ah_R h (ah_R h (a0 + 2) x1.toNatClampNeg) 7) x2 ∧ ∀ h12 : ah_T, h12 = ah_wI h (ah_R h (ah_R h (a0 + 2) x1.toNatClampNeg) 7) x2.toNatClampNeg (vp_nar .boolean x3) → ah_ext h h12 → ∀ h13 : ah_T, h13 = ah_wI h12 a0 20 (0 : Int32) → ah_ext h12 h13 → Q (some (iv (1 : Int32))) h13))))) : MX G mi_X0_let (d + 1) 0 [some (rv a0), some (iv x1), some (iv x2), some (iv x3)] [] h Q E := by
  refine mx_aload_n dX0_let_0 rfl rfl ?_
  refine mx_iload_n dX0_let_1 rfl rfl ?_
  refine mx_callV 0 (y' := mi_X0_isFarm) (vs := [iv x1]) (st := []) (al' := [some (rv a0), some (iv x1)]) cl_0 V_X0_isFarm (Or.inl q827) dX0_let_2 rfl rfl (Nat.le_of_ble_eq_true rfl) (Nat.le_of_ble_eq_true rfl) (ly0_k La0_h) ?_
  refine mx_iload_n dX0_isFarm_0 rfl rfl ?_
  refine mx_if_lt (tgt := 16) dX0_isFarm_1 rfl (fun c1 => ?_) (fun c1 => ?_)
  · have H := H.1 c1
    refine mx_iconst dX0_isFarm_16 ic_0 ?_
    refine mx_zretK rfl dX0_isFarm_17 (Or.inl rfl) ?_
    refine mx_if_ne (tgt := 14) dX0_let_5 rfl (fun _ => absurd ‹_› (by decide)) (fun _ => ?_)
    refine mx_aload_n dX0_let_8 rfl rfl ?_
    refine mx_iconst dX0_let_9 ic_2 ?_
    refine mx_callV 0 (y' := mi_X0_is) (vs := [iv (2 : Int32)]) (st := []) (al' := [some (rv a0), some (iv (2 : Int32))]) cl_0 V_X0_is (Or.inl q664) dX0_let_10 rfl rfl (Nat.le_of_ble_eq_true rfl) (Nat.le_of_ble_eq_true rfl) (ly0_k La0_h) ?_
    refine mx_aload_n dX0_is_0 rfl rfl ?_
    refine mx_iload_n dX0_is_1 rfl rfl ?_
    refine mx_putI 0 20 (ref := "PrairiePool") cl_0 (Nat.le_of_ble_eq_true rfl) (Or.inl q480) (Or.inl rfl) dX0_is_2 (Or.inl rfl) rfl (ly0_k La0_h) ?_
    refine mx_nmI  (fun h2 eh2 Xh2 Kh2 Lh2 => ?_)
    have H := H h2 eh2 Xh2
    have La0_h2 := La0_h.ext Xh2
    refine mx_iload_n dX0_is_5 rfl rfl ?_
    refine mx_if_ne (tgt := 13) dX0_is_6 rfl (fun _ => ?_) (fun _ => absurd ‹_› (by decide))
    refine mx_iconst dX0_is_13 ic_0 ?_
    refine mx_zretK rfl dX0_is_14 (Or.inl rfl) ?_
    exact mx_zret rfl dX0_let_13 (Or.inl rfl) H
  · have H := H.2 c1
    refine mx_iload_n dX0_isFarm_4 rfl rfl ?_
    refine mx_aload_n dX0_isFarm_5 rfl rfl ?_
    refine mx_get 0 14 (ref := "PrairiePool") cl_0 (Nat.le_of_ble_eq_true rfl) (Or.inl q474) (Or.inl rfl) dX0_isFarm_6 (fv_0_14 _ _) (ly0_k La0_h) ?_
    refine mx_icmp_ge (tgt := 16) dX0_isFarm_9 rfl (fun c3 => ?_) (fun c3 => ?_)
    · have H := H.1 c3
      refine mx_iconst dX0_isFarm_16 ic_0 ?_
      refine mx_zretK rfl dX0_isFarm_17 (Or.inl rfl) ?_
      refine mx_if_ne (tgt := 14) dX0_let_5 rfl (fun _ => absurd ‹_› (by decide)) (fun _ => ?_)
      refine mx_aload_n dX0_let_8 rfl rfl ?_
      refine mx_iconst dX0_let_9 ic_2 ?_
      refine mx_callV 0 (y' := mi_X0_is) (vs := [iv (2 : Int32)]) (st := []) (al' := [some (rv a0), some (iv (2 : Int32))]) cl_0 V_X0_is (Or.inl q664) dX0_let_10 rfl rfl (Nat.le_of_ble_eq_true rfl) (Nat.le_of_ble_eq_true rfl) (ly0_k La0_h) ?_
      refine mx_aload_n dX0_is_0 rfl rfl ?_
      refine mx_iload_n dX0_is_1 rfl rfl ?_
      refine mx_putI 0 20 (ref := "PrairiePool") cl_0 (Nat.le_of_ble_eq_true rfl) (Or.inl q480) (Or.inl rfl) dX0_is_2 (Or.inl rfl) rfl (ly0_k La0_h) ?_
      refine mx_nmI  (fun h4 eh4 Xh4 Kh4 Lh4 => ?_)
      have H := H h4 eh4 Xh4
      have La0_h4 := La0_h.ext Xh4
      refine mx_iload_n dX0_is_5 rfl rfl ?_
      refine mx_if_ne (tgt := 13) dX0_is_6 rfl (fun _ => ?_) (fun _ => absurd ‹_› (by decide))
      refine mx_iconst dX0_is_13 ic_0 ?_
      refine mx_zretK rfl dX0_is_14 (Or.inl rfl) ?_
      exact mx_zret rfl dX0_let_13 (Or.inl rfl) H
    · have H := H.2 c3
      refine mx_iconst dX0_isFarm_12 ic_1 ?_
      refine mx_goto (tgt := 17) dX0_isFarm_13 rfl ?_
      refine mx_zretK rfl dX0_isFarm_17 (Or.inr rfl) ?_
      refine mx_if_ne (tgt := 14) dX0_let_5 rfl (fun _ => ?_) (fun _ => absurd ‹_› (by decide))
      refine mx_iload_n dX0_let_14 rfl rfl ?_
      refine mx_callS (y' := mi_X0_isYear) (vs := [iv x2]) (st := []) (al' := [some (iv x2)]) S_X0_isYear q896 dX0_let_15 rfl rfl (Nat.le_of_ble_eq_true rfl) (Nat.le_of_ble_eq_true rfl) ?_
      refine mx_iload_n dX0_isYear_0 rfl rfl ?_
      refine mx_if_lt (tgt := 14) dX0_isYear_1 rfl (fun c5 => ?_) (fun c5 => ?_)
      · have H := H.1 c5
        refine mx_iconst dX0_isYear_14 ic_0 ?_
        refine mx_zretK rfl dX0_isYear_15 (Or.inl rfl) ?_
        refine mx_if_ne (tgt := 27) dX0_let_18 rfl (fun _ => absurd ‹_› (by decide)) (fun _ => ?_)
        refine mx_aload_n dX0_let_21 rfl rfl ?_
        refine mx_iconst dX0_let_22 ic_5 ?_
        refine mx_callV 0 (y' := mi_X0_is) (vs := [iv (5 : Int32)]) (st := []) (al' := [some (rv a0), some (iv (5 : Int32))]) cl_0 V_X0_is (Or.inl q664) dX0_let_23 rfl rfl (Nat.le_of_ble_eq_true rfl) (Nat.le_of_ble_eq_true rfl) (ly0_k La0_h) ?_
        refine mx_aload_n dX0_is_0 rfl rfl ?_
        refine mx_iload_n dX0_is_1 rfl rfl ?_
        refine mx_putI 0 20 (ref := "PrairiePool") cl_0 (Nat.le_of_ble_eq_true rfl) (Or.inl q480) (Or.inl rfl) dX0_is_2 (Or.inl rfl) rfl (ly0_k La0_h) ?_
        refine mx_nmI  (fun h6 eh6 Xh6 Kh6 Lh6 => ?_)
        have H := H h6 eh6 Xh6
        have La0_h6 := La0_h.ext Xh6
        refine mx_iload_n dX0_is_5 rfl rfl ?_
        refine mx_if_ne (tgt := 13) dX0_is_6 rfl (fun _ => ?_) (fun _ => absurd ‹_› (by decide))
        refine mx_iconst dX0_is_13 ic_0 ?_
        refine mx_zretK rfl dX0_is_14 (Or.inl rfl) ?_
        exact mx_zret rfl dX0_let_26 (Or.inl rfl) H
      · have H := H.2 c5
        refine mx_iload_n dX0_isYear_4 rfl rfl ?_
        refine mx_bipush dX0_isYear_5 ib_10 ?_
        refine mx_icmp_ge (tgt := 14) dX0_isYear_7 rfl (fun c7 => ?_) (fun c7 => ?_)
        · have H := H.1 c7
          refine mx_iconst dX0_isYear_14 ic_0 ?_
          refine mx_zretK rfl dX0_isYear_15 (Or.inl rfl) ?_
          refine mx_if_ne (tgt := 27) dX0_let_18 rfl (fun _ => absurd ‹_› (by decide)) (fun _ => ?_)
          refine mx_aload_n dX0_let_21 rfl rfl ?_
          refine mx_iconst dX0_let_22 ic_5 ?_
          refine mx_callV 0 (y' := mi_X0_is) (vs := [iv (5 : Int32)]) (st := []) (al' := [some (rv a0), some (iv (5 : Int32))]) cl_0 V_X0_is (Or.inl q664) dX0_let_23 rfl rfl (Nat.le_of_ble_eq_true rfl) (Nat.le_of_ble_eq_true rfl) (ly0_k La0_h) ?_
          refine mx_aload_n dX0_is_0 rfl rfl ?_
          refine mx_iload_n dX0_is_1 rfl rfl ?_
          refine mx_putI 0 20 (ref := "PrairiePool") cl_0 (Nat.le_of_ble_eq_true rfl) (Or.inl q480) (Or.inl rfl) dX0_is_2 (Or.inl rfl) rfl (ly0_k La0_h) ?_
          refine mx_nmI  (fun h8 eh8 Xh8 Kh8 Lh8 => ?_)
          have H := H h8 eh8 Xh8
          have La0_h8 := La0_h.ext Xh8
          refine mx_iload_n dX0_is_5 rfl rfl ?_
          refine mx_if_ne (tgt := 13) dX0_is_6 rfl (fun _ => ?_) (fun _ => absurd ‹_› (by decide))
          refine mx_iconst dX0_is_13 ic_0 ?_
          refine mx_zretK rfl dX0_is_14 (Or.inl rfl) ?_
          exact mx_zret rfl dX0_let_26 (Or.inl rfl) H
        · have H := H.2 c7
          refine mx_iconst dX0_isYear_10 ic_1 ?_
          refine mx_goto (tgt := 15) dX0_isYear_11 rfl ?_
          refine mx_zretK rfl dX0_isYear_15 (Or.inr rfl) ?_
          refine mx_if_ne (tgt := 27) dX0_let_18 rfl (fun _ => ?_) (fun _ => absurd ‹_› (by decide))
          refine mx_aload_n dX0_let_27 rfl rfl ?_
          refine mx_get 0 1 (ref := "PrairiePool") cl_0 (Nat.le_of_ble_eq_true rfl) (Or.inl q461) (Or.inl rfl) dX0_let_28 (fv_0_1 _ _) (ly0_k La0_h) ?_
          refine mx_tr (ly0_R_0_1 La0_h) ?_
          refine mx_iload_n dX0_let_31 rfl rfl ?_
          obtain ⟨k9, H⟩ := H
          refine my_aald 6 dX0_let_32 (by decide) rfl (ly0_A_2 La0_h k9) ?_
          obtain ⟨k10, H⟩ := H
          refine mx_get 9 7 (ref := "PrairiePool$Farm") cl_9 (Nat.le_of_ble_eq_true rfl) (Or.inr ⟨_, q783⟩) (Or.inl rfl) dX0_let_33 (fv_9_7 _ _) k10 ?_
          refine mx_iload_n dX0_let_36 rfl rfl ?_
          refine mx_iload_n dX0_let_37 rfl rfl ?_
          obtain ⟨k11, H⟩ := H
          refine my_zast dX0_let_38 rfl k11 ?_
          refine mx_nmI  (fun h12 eh12 Xh12 Kh12 Lh12 => ?_)
          have H := H h12 eh12 Xh12
          have La0_h12 := La0_h.ext Xh12
          refine mx_aload_n dX0_let_39 rfl rfl ?_
          refine mx_iconst dX0_let_40 ic_0 ?_
          refine mx_callV 0 (y' := mi_X0_is) (vs := [iv (0 : Int32)]) (st := []) (al' := [some (rv a0), some (iv (0 : Int32))]) cl_0 V_X0_is (Or.inl q664) dX0_let_41 rfl rfl (Nat.le_of_ble_eq_true rfl) (Nat.le_of_ble_eq_true rfl) (ly0_k La0_h12) ?_
          refine mx_aload_n dX0_is_0 rfl rfl ?_
          refine mx_iload_n dX0_is_1 rfl rfl ?_
          refine mx_putI 0 20 (ref := "PrairiePool") cl_0 (Nat.le_of_ble_eq_true rfl) (Or.inl q480) (Or.inl rfl) dX0_is_2 (Or.inl rfl) rfl (ly0_k La0_h12) ?_
          refine mx_nmI  (fun h13 eh13 Xh13 Kh13 Lh13 => ?_)
          have H := H h13 eh13 Xh13
          have Kh13 := Kh13.trans Kh12
          have Lh13 := Lh13.trans Lh12
          have La0_h13 := La0_h12.ext Xh13
          refine mx_iload_n dX0_is_5 rfl rfl ?_
          refine mx_if_ne (tgt := 13) dX0_is_6 rfl (fun _ => absurd ‹_› (by decide)) (fun _ => ?_)
          refine mx_iconst dX0_is_9 ic_1 ?_
          refine mx_goto (tgt := 14) dX0_is_10 rfl ?_
          refine mx_zretK rfl dX0_is_14 (Or.inr rfl) ?_
          exact mx_zret rfl dX0_let_44 (Or.inr rfl) H
theorem dX0_outside_0 : decode mi_X0_outside.2.1 0 = .ok (.aload_n 0, 1) := by decide +kernel
theorem dX0_outside_1 : decode mi_X0_outside.2.1 1 = .ok (.iload_n 1, 1) := by decide +kernel
theorem dX0_outside_2 : decode mi_X0_outside.2.1 2 = .ok (.invokevirtual 275, 3) := by decide +kernel
theorem dX0_outside_5 : decode mi_X0_outside.2.1 5 = .ok (.ifCond .ne 9, 3) := by decide +kernel
theorem dX0_outside_8 : decode mi_X0_outside.2.1 8 = .ok (.aload_n 0, 1) := by decide +kernel
theorem dX0_outside_9 : decode mi_X0_outside.2.1 9 = .ok (.iconst 2, 1) := by decide +kernel
theorem dX0_outside_10 : decode mi_X0_outside.2.1 10 = .ok (.invokevirtual 205, 3) := by decide +kernel
theorem dX0_outside_13 : decode mi_X0_outside.2.1 13 = .ok (.ireturn, 1) := by decide +kernel
theorem dX0_outside_14 : decode mi_X0_outside.2.1 14 = .ok (.iload_n 2, 1) := by decide +kernel
theorem dX0_outside_15 : decode mi_X0_outside.2.1 15 = .ok (.invokestatic 260, 3) := by decide +kernel
theorem dX0_outside_18 : decode mi_X0_outside.2.1 18 = .ok (.ifCond .eq 28, 3) := by decide +kernel
theorem dX0_outside_21 : decode mi_X0_outside.2.1 21 = .ok (.iload_n 3, 1) := by decide +kernel
theorem dX0_outside_22 : decode mi_X0_outside.2.1 22 = .ok (.i2l, 1) := by decide +kernel
theorem dX0_outside_23 : decode mi_X0_outside.2.1 23 = .ok (.lconst 1, 1) := by decide +kernel
theorem dX0_outside_24 : decode mi_X0_outside.2.1 24 = .ok (.ldc2_w 281, 3) := by decide +kernel
theorem dX0_outside_27 : decode mi_X0_outside.2.1 27 = .ok (.invokestatic 241, 3) := by decide +kernel
theorem dX0_outside_30 : decode mi_X0_outside.2.1 30 = .ok (.ifCond .eq 16, 3) := by decide +kernel
theorem dX0_outside_33 : decode mi_X0_outside.2.1 33 = .ok (.iload 4, 2) := by decide +kernel
theorem dX0_outside_35 : decode mi_X0_outside.2.1 35 = .ok (.i2l, 1) := by decide +kernel
theorem dX0_outside_36 : decode mi_X0_outside.2.1 36 = .ok (.lconst 0, 1) := by decide +kernel
theorem dX0_outside_37 : decode mi_X0_outside.2.1 37 = .ok (.ldc2_w 283, 3) := by decide +kernel
theorem dX0_outside_40 : decode mi_X0_outside.2.1 40 = .ok (.invokestatic 241, 3) := by decide +kernel
theorem dX0_outside_43 : decode mi_X0_outside.2.1 43 = .ok (.ifCond .ne 9, 3) := by decide +kernel
theorem dX0_outside_46 : decode mi_X0_outside.2.1 46 = .ok (.aload_n 0, 1) := by decide +kernel
theorem dX0_outside_47 : decode mi_X0_outside.2.1 47 = .ok (.iconst 5, 1) := by decide +kernel
theorem dX0_outside_48 : decode mi_X0_outside.2.1 48 = .ok (.invokevirtual 205, 3) := by decide +kernel
theorem dX0_outside_51 : decode mi_X0_outside.2.1 51 = .ok (.ireturn, 1) := by decide +kernel
theorem dX0_outside_52 : decode mi_X0_outside.2.1 52 = .ok (.aload_n 0, 1) := by decide +kernel
theorem dX0_outside_53 : decode mi_X0_outside.2.1 53 = .ok (.getfield 537, 3) := by decide +kernel
theorem dX0_outside_56 : decode mi_X0_outside.2.1 56 = .ok (.bipush 60, 2) := by decide +kernel
theorem dX0_outside_58 : decode mi_X0_outside.2.1 58 = .ok (.if_icmp .ne 10, 3) := by decide +kernel
theorem dX0_outside_61 : decode mi_X0_outside.2.1 61 = .ok (.aload_n 0, 1) := by decide +kernel
theorem dX0_outside_62 : decode mi_X0_outside.2.1 62 = .ok (.bipush 7, 2) := by decide +kernel
theorem dX0_outside_64 : decode mi_X0_outside.2.1 64 = .ok (.invokevirtual 205, 3) := by decide +kernel
theorem dX0_outside_67 : decode mi_X0_outside.2.1 67 = .ok (.ireturn, 1) := by decide +kernel
theorem dX0_outside_68 : decode mi_X0_outside.2.1 68 = .ok (.aload_n 0, 1) := by decide +kernel
theorem dX0_outside_69 : decode mi_X0_outside.2.1 69 = .ok (.getfield 112, 3) := by decide +kernel
theorem dX0_outside_72 : decode mi_X0_outside.2.1 72 = .ok (.aload_n 0, 1) := by decide +kernel
theorem dX0_outside_73 : decode mi_X0_outside.2.1 73 = .ok (.getfield 537, 3) := by decide +kernel
theorem dX0_outside_76 : decode mi_X0_outside.2.1 76 = .ok (.iload_n 1, 1) := by decide +kernel
theorem dX0_outside_77 : decode mi_X0_outside.2.1 77 = .ok (.iastore, 1) := by decide +kernel
theorem dX0_outside_78 : decode mi_X0_outside.2.1 78 = .ok (.aload_n 0, 1) := by decide +kernel
theorem dX0_outside_79 : decode mi_X0_outside.2.1 79 = .ok (.getfield 115, 3) := by decide +kernel
theorem dX0_outside_82 : decode mi_X0_outside.2.1 82 = .ok (.aload_n 0, 1) := by decide +kernel
theorem dX0_outside_83 : decode mi_X0_outside.2.1 83 = .ok (.getfield 537, 3) := by decide +kernel
theorem dX0_outside_86 : decode mi_X0_outside.2.1 86 = .ok (.iload_n 2, 1) := by decide +kernel
theorem dX0_outside_87 : decode mi_X0_outside.2.1 87 = .ok (.iastore, 1) := by decide +kernel
theorem dX0_outside_88 : decode mi_X0_outside.2.1 88 = .ok (.aload_n 0, 1) := by decide +kernel
theorem dX0_outside_89 : decode mi_X0_outside.2.1 89 = .ok (.getfield 118, 3) := by decide +kernel
theorem dX0_outside_92 : decode mi_X0_outside.2.1 92 = .ok (.aload_n 0, 1) := by decide +kernel
theorem dX0_outside_93 : decode mi_X0_outside.2.1 93 = .ok (.getfield 537, 3) := by decide +kernel
theorem dX0_outside_96 : decode mi_X0_outside.2.1 96 = .ok (.iload_n 3, 1) := by decide +kernel
theorem dX0_outside_97 : decode mi_X0_outside.2.1 97 = .ok (.iastore, 1) := by decide +kernel
theorem dX0_outside_98 : decode mi_X0_outside.2.1 98 = .ok (.aload_n 0, 1) := by decide +kernel
theorem dX0_outside_99 : decode mi_X0_outside.2.1 99 = .ok (.getfield 121, 3) := by decide +kernel
theorem dX0_outside_102 : decode mi_X0_outside.2.1 102 = .ok (.aload_n 0, 1) := by decide +kernel
theorem dX0_outside_103 : decode mi_X0_outside.2.1 103 = .ok (.getfield 537, 3) := by decide +kernel
theorem dX0_outside_106 : decode mi_X0_outside.2.1 106 = .ok (.iload 4, 2) := by decide +kernel
theorem dX0_outside_108 : decode mi_X0_outside.2.1 108 = .ok (.iastore, 1) := by decide +kernel
theorem dX0_outside_109 : decode mi_X0_outside.2.1 109 = .ok (.aload_n 0, 1) := by decide +kernel
theorem dX0_outside_110 : decode mi_X0_outside.2.1 110 = .ok (.dup, 1) := by decide +kernel
theorem dX0_outside_111 : decode mi_X0_outside.2.1 111 = .ok (.getfield 537, 3) := by decide +kernel
theorem dX0_outside_114 : decode mi_X0_outside.2.1 114 = .ok (.iconst 1, 1) := by decide +kernel
theorem dX0_outside_115 : decode mi_X0_outside.2.1 115 = .ok (.iadd, 1) := by decide +kernel
theorem dX0_outside_116 : decode mi_X0_outside.2.1 116 = .ok (.putfield 537, 3) := by decide +kernel
theorem dX0_outside_119 : decode mi_X0_outside.2.1 119 = .ok (.aload_n 0, 1) := by decide +kernel
theorem dX0_outside_120 : decode mi_X0_outside.2.1 120 = .ok (.aload_n 0, 1) := by decide +kernel
theorem dX0_outside_121 : decode mi_X0_outside.2.1 121 = .ok (.getfield 537, 3) := by decide +kernel
theorem dX0_outside_124 : decode mi_X0_outside.2.1 124 = .ok (.iconst 1, 1) := by decide +kernel
theorem dX0_outside_125 : decode mi_X0_outside.2.1 125 = .ok (.isub, 1) := by decide +kernel
theorem dX0_outside_126 : decode mi_X0_outside.2.1 126 = .ok (.invokevirtual 250, 3) := by decide +kernel
theorem dX0_outside_129 : decode mi_X0_outside.2.1 129 = .ok (.ireturn, 1) := by decide +kernel
theorem v_X0_outside {G : ma_G} {d : Nat} {a0 : Nat} {x1 : Int32} {x2 : Int32} {x3 : Int32} {x4 : Int32} {h : ah_T} {Q : Option ma_V → ah_T → Prop} {E : Nat → ah_T → Prop} (La0_h : LY0 h a0) (H : (x1 < 0 → ∀ h2 : ah_T, h2 = ah_wI h a0 20 (2 : Int32) → ah_ext h h2 → Q (some (iv (-1 : Int32))) h2) ∧ (¬ x1 < 0 → ((ah_I h a0 14) ≤ x1 → ∀ h4 : ah_T, h4 = ah_wI h a0 20 (2 : Int32) → ah_ext h h4 → Q (some (iv (-1 : Int32))) h4) ∧ (¬ (ah_I h a0 14) ≤ x1 → (x2 < 0 → ∀ h6 : ah_T, h6 = ah_wI h a0 20 (5 : Int32) → ah_ext h h6 → Q (some (iv (-1 : Int32))) h6) ∧ (¬ x2 < 0 → ((520 : Int32) ≤ x2 → ∀ h8 : ah_T, h8 = ah_wI h a0 20 (5 : Int32) → ah_ext h h8 → Q (some (iv (-1 : Int32))) h8) ∧ (¬ (520 : Int32) ≤ x2 → (x3.toInt64 < (1 : Int64) → ∀ h10 : ah_T, h10 = ah_wI h a0 20 (5 : Int32) → ah_ext h h10 → Q (some (iv (-1 : Int32))) h10) ∧ (¬ x3.toInt64 < (1 : Int64) → ((10000 : Int64) < x3.toInt64 → ∀ h12 : ah_T, h12 = ah_wI h a0 20 (5 : Int32) → ah_ext h h12 → Q (some (iv (-1 : Int32))) h12) ∧ (¬ (10000 : Int64) < x3.toInt64 → (x4.toInt64 < (0 : Int64) → ∀ h14 : ah_T, h14 = ah_wI h a0 20 (5 : Int32) → ah_ext h h14 → Q (some (iv (-1 : Int32))) h14) ∧ (¬ x4.toInt64 < (0 : Int64) → ((1000 : Int64) < x4.toInt64 → ∀ h16 : ah_T, h16 = ah_wI h a0 20 (5 : Int32) → ah_ext h h16 → Q (some (iv (-1 : Int32))) h16) ∧ (¬ (1000 : Int64) < x4.toInt64 → (¬ (ah_I h a0 36) = (60 : Int32) → vp_in (ah_I h a0 36) 60 ∧ ∀ h19 : ah_T, h19 = ah_wI h (a0 + 1443) (ah_I h a0 36).toNatClampNeg x1 → ah_ext h h19 → ∀ h20 : ah_T, h20 = ah_wI h19 (a0 + 1444) (ah_I h a0 36).toNatClampNeg x2 → ah_ext h19 h20 → ∀ h21 : ah_T, h21 = ah_wI h20 (a0 + 1445) (ah_I h a0 36).toNatClampNeg x3 → ah_ext h20 h21 → ∀ h22 : ah_T, h22 = ah_wI h21 (a0 + 1446) (ah_I h a0 36).toNatClampNeg x4 → ah_ext h21 h22 → ∀ h23 : ah_T, h23 = ah_wI h22 a0 36 ((ah_I h a0 36) + (1 : Int32)) → ah_ext h22 h23 → ∀ h24 : ah_T, h24 = ah_wI h23 a0 20 (0 : Int32) → ah_ext h23 h24 → Q (some (iv (((ah_I h a0 36) + (1 : Int32)) - (1 : Int32)))) h24) ∧ ((ah_I h a0 36) = (60 : Int32) → ∀ h25 : ah_T, h25 = ah_wI h a0 20 (7 : Int32) → ah_ext h h25 → Q (some (iv (-1 : Int32))) h25)))))))))) : MX G mi_X0_outside (d + 1) 0 [some (rv a0), some (iv x1), some (iv x2), some (iv x3), some (iv x4)] [] h Q E := by
  refine mx_aload_n dX0_outside_0 rfl rfl ?_
  refine mx_iload_n dX0_outside_1 rfl rfl ?_
  refine mx_callV 0 (y' := mi_X0_isFarm) (vs := [iv x1]) (st := []) (al' := [some (rv a0), some (iv x1)]) cl_0 V_X0_isFarm (Or.inl q827) dX0_outside_2 rfl rfl (Nat.le_of_ble_eq_true rfl) (Nat.le_of_ble_eq_true rfl) (ly0_k La0_h) ?_
  refine mx_iload_n dX0_isFarm_0 rfl rfl ?_
  refine mx_if_lt (tgt := 16) dX0_isFarm_1 rfl (fun c1 => ?_) (fun c1 => ?_)
  · have H := H.1 c1
    refine mx_iconst dX0_isFarm_16 ic_0 ?_
    refine mx_zretK rfl dX0_isFarm_17 (Or.inl rfl) ?_
    refine mx_if_ne (tgt := 14) dX0_outside_5 rfl (fun _ => absurd ‹_› (by decide)) (fun _ => ?_)
    refine mx_aload_n dX0_outside_8 rfl rfl ?_
    refine mx_iconst dX0_outside_9 ic_2 ?_
    refine mx_callV 0 (y' := mi_X0_none) (vs := [iv (2 : Int32)]) (st := []) (al' := [some (rv a0), some (iv (2 : Int32))]) cl_0 V_X0_none (Or.inl q733) dX0_outside_10 rfl rfl (Nat.le_of_ble_eq_true rfl) (Nat.le_of_ble_eq_true rfl) (ly0_k La0_h) ?_
    refine mx_aload_n dX0_none_0 rfl rfl ?_
    refine mx_iload_n dX0_none_1 rfl rfl ?_
    refine mx_putI 0 20 (ref := "PrairiePool") cl_0 (Nat.le_of_ble_eq_true rfl) (Or.inl q480) (Or.inl rfl) dX0_none_2 (Or.inl rfl) rfl (ly0_k La0_h) ?_
    refine mx_nmI  (fun h2 eh2 Xh2 Kh2 Lh2 => ?_)
    have H := H h2 eh2 Xh2
    have La0_h2 := La0_h.ext Xh2
    refine mx_iconst dX0_none_5 ic_m1 ?_
    refine mx_iretK rfl dX0_none_6 ?_
    exact mx_iret rfl dX0_outside_13 H
  · have H := H.2 c1
    refine mx_iload_n dX0_isFarm_4 rfl rfl ?_
    refine mx_aload_n dX0_isFarm_5 rfl rfl ?_
    refine mx_get 0 14 (ref := "PrairiePool") cl_0 (Nat.le_of_ble_eq_true rfl) (Or.inl q474) (Or.inl rfl) dX0_isFarm_6 (fv_0_14 _ _) (ly0_k La0_h) ?_
    refine mx_icmp_ge (tgt := 16) dX0_isFarm_9 rfl (fun c3 => ?_) (fun c3 => ?_)
    · have H := H.1 c3
      refine mx_iconst dX0_isFarm_16 ic_0 ?_
      refine mx_zretK rfl dX0_isFarm_17 (Or.inl rfl) ?_
      refine mx_if_ne (tgt := 14) dX0_outside_5 rfl (fun _ => absurd ‹_› (by decide)) (fun _ => ?_)
      refine mx_aload_n dX0_outside_8 rfl rfl ?_
      refine mx_iconst dX0_outside_9 ic_2 ?_
      refine mx_callV 0 (y' := mi_X0_none) (vs := [iv (2 : Int32)]) (st := []) (al' := [some (rv a0), some (iv (2 : Int32))]) cl_0 V_X0_none (Or.inl q733) dX0_outside_10 rfl rfl (Nat.le_of_ble_eq_true rfl) (Nat.le_of_ble_eq_true rfl) (ly0_k La0_h) ?_
      refine mx_aload_n dX0_none_0 rfl rfl ?_
      refine mx_iload_n dX0_none_1 rfl rfl ?_
      refine mx_putI 0 20 (ref := "PrairiePool") cl_0 (Nat.le_of_ble_eq_true rfl) (Or.inl q480) (Or.inl rfl) dX0_none_2 (Or.inl rfl) rfl (ly0_k La0_h) ?_
      refine mx_nmI  (fun h4 eh4 Xh4 Kh4 Lh4 => ?_)
      have H := H h4 eh4 Xh4
      have La0_h4 := La0_h.ext Xh4
      refine mx_iconst dX0_none_5 ic_m1 ?_
      refine mx_iretK rfl dX0_none_6 ?_
      exact mx_iret rfl dX0_outside_13 H
    · have H := H.2 c3
      refine mx_iconst dX0_isFarm_12 ic_1 ?_
      refine mx_goto (tgt := 17) dX0_isFarm_13 rfl ?_
      refine mx_zretK rfl dX0_isFarm_17 (Or.inr rfl) ?_
      refine mx_if_ne (tgt := 14) dX0_outside_5 rfl (fun _ => ?_) (fun _ => absurd ‹_› (by decide))
      refine mx_iload_n dX0_outside_14 rfl rfl ?_
      refine mx_callS (y' := mi_X0_isWeek) (vs := [iv x2]) (st := []) (al' := [some (iv x2)]) S_X0_isWeek q841 dX0_outside_15 rfl rfl (Nat.le_of_ble_eq_true rfl) (Nat.le_of_ble_eq_true rfl) ?_
      refine mx_iload_n dX0_isWeek_0 rfl rfl ?_
      refine mx_if_lt (tgt := 15) dX0_isWeek_1 rfl (fun c5 => ?_) (fun c5 => ?_)
      · have H := H.1 c5
        refine mx_iconst dX0_isWeek_15 ic_0 ?_
        refine mx_zretK rfl dX0_isWeek_16 (Or.inl rfl) ?_
        refine mx_if_eq (tgt := 46) dX0_outside_18 rfl (fun _ => ?_) (fun _ => absurd ‹_› (by decide))
        refine mx_aload_n dX0_outside_46 rfl rfl ?_
        refine mx_iconst dX0_outside_47 ic_5 ?_
        refine mx_callV 0 (y' := mi_X0_none) (vs := [iv (5 : Int32)]) (st := []) (al' := [some (rv a0), some (iv (5 : Int32))]) cl_0 V_X0_none (Or.inl q733) dX0_outside_48 rfl rfl (Nat.le_of_ble_eq_true rfl) (Nat.le_of_ble_eq_true rfl) (ly0_k La0_h) ?_
        refine mx_aload_n dX0_none_0 rfl rfl ?_
        refine mx_iload_n dX0_none_1 rfl rfl ?_
        refine mx_putI 0 20 (ref := "PrairiePool") cl_0 (Nat.le_of_ble_eq_true rfl) (Or.inl q480) (Or.inl rfl) dX0_none_2 (Or.inl rfl) rfl (ly0_k La0_h) ?_
        refine mx_nmI  (fun h6 eh6 Xh6 Kh6 Lh6 => ?_)
        have H := H h6 eh6 Xh6
        have La0_h6 := La0_h.ext Xh6
        refine mx_iconst dX0_none_5 ic_m1 ?_
        refine mx_iretK rfl dX0_none_6 ?_
        exact mx_iret rfl dX0_outside_51 H
      · have H := H.2 c5
        refine mx_iload_n dX0_isWeek_4 rfl rfl ?_
        refine mx_sipush dX0_isWeek_5 is_520 ?_
        refine mx_icmp_ge (tgt := 15) dX0_isWeek_8 rfl (fun c7 => ?_) (fun c7 => ?_)
        · have H := H.1 c7
          refine mx_iconst dX0_isWeek_15 ic_0 ?_
          refine mx_zretK rfl dX0_isWeek_16 (Or.inl rfl) ?_
          refine mx_if_eq (tgt := 46) dX0_outside_18 rfl (fun _ => ?_) (fun _ => absurd ‹_› (by decide))
          refine mx_aload_n dX0_outside_46 rfl rfl ?_
          refine mx_iconst dX0_outside_47 ic_5 ?_
          refine mx_callV 0 (y' := mi_X0_none) (vs := [iv (5 : Int32)]) (st := []) (al' := [some (rv a0), some (iv (5 : Int32))]) cl_0 V_X0_none (Or.inl q733) dX0_outside_48 rfl rfl (Nat.le_of_ble_eq_true rfl) (Nat.le_of_ble_eq_true rfl) (ly0_k La0_h) ?_
          refine mx_aload_n dX0_none_0 rfl rfl ?_
          refine mx_iload_n dX0_none_1 rfl rfl ?_
          refine mx_putI 0 20 (ref := "PrairiePool") cl_0 (Nat.le_of_ble_eq_true rfl) (Or.inl q480) (Or.inl rfl) dX0_none_2 (Or.inl rfl) rfl (ly0_k La0_h) ?_
          refine mx_nmI  (fun h8 eh8 Xh8 Kh8 Lh8 => ?_)
          have H := H h8 eh8 Xh8
          have La0_h8 := La0_h.ext Xh8
          refine mx_iconst dX0_none_5 ic_m1 ?_
          refine mx_iretK rfl dX0_none_6 ?_
          exact mx_iret rfl dX0_outside_51 H
        · have H := H.2 c7
          refine mx_iconst dX0_isWeek_11 ic_1 ?_
          refine mx_goto (tgt := 16) dX0_isWeek_12 rfl ?_
          refine mx_zretK rfl dX0_isWeek_16 (Or.inr rfl) ?_
          refine mx_if_eq (tgt := 46) dX0_outside_18 rfl (fun _ => absurd ‹_› (by decide)) (fun _ => ?_)
          refine mx_iload_n dX0_outside_21 rfl rfl ?_
          refine mx_i2l dX0_outside_22 ?_
          refine mx_lconst dX0_outside_23 lc_1 ?_
          refine mx_ldc2 q835 dX0_outside_24 ?_
          refine mx_callS (y' := mi_X0_isFrom) (vs := [jv x3.toInt64, jv (1 : Int64), jv (10000 : Int64)]) (st := []) (al' := [some (jv x3.toInt64), none, some (jv (1 : Int64)), none, some (jv (10000 : Int64)), none]) S_X0_isFrom q758 dX0_outside_27 rfl rfl (Nat.le_of_ble_eq_true rfl) (Nat.le_of_ble_eq_true rfl) ?_
          refine mx_lload_n dX0_isFrom_0 rfl rfl ?_
          refine mx_lload_n dX0_isFrom_1 rfl rfl ?_
          refine mx_lif_lt (tgt := 17) dX0_isFrom_2 dX0_isFrom_3 rfl (fun c9 => ?_) (fun c9 => ?_)
          · have H := H.1 c9
            refine mx_iconst dX0_isFrom_17 ic_0 ?_
            refine mx_zretK rfl dX0_isFrom_18 (Or.inl rfl) ?_
            refine mx_if_eq (tgt := 46) dX0_outside_30 rfl (fun _ => ?_) (fun _ => absurd ‹_› (by decide))
            refine mx_aload_n dX0_outside_46 rfl rfl ?_
            refine mx_iconst dX0_outside_47 ic_5 ?_
            refine mx_callV 0 (y' := mi_X0_none) (vs := [iv (5 : Int32)]) (st := []) (al' := [some (rv a0), some (iv (5 : Int32))]) cl_0 V_X0_none (Or.inl q733) dX0_outside_48 rfl rfl (Nat.le_of_ble_eq_true rfl) (Nat.le_of_ble_eq_true rfl) (ly0_k La0_h) ?_
            refine mx_aload_n dX0_none_0 rfl rfl ?_
            refine mx_iload_n dX0_none_1 rfl rfl ?_
            refine mx_putI 0 20 (ref := "PrairiePool") cl_0 (Nat.le_of_ble_eq_true rfl) (Or.inl q480) (Or.inl rfl) dX0_none_2 (Or.inl rfl) rfl (ly0_k La0_h) ?_
            refine mx_nmI  (fun h10 eh10 Xh10 Kh10 Lh10 => ?_)
            have H := H h10 eh10 Xh10
            have La0_h10 := La0_h.ext Xh10
            refine mx_iconst dX0_none_5 ic_m1 ?_
            refine mx_iretK rfl dX0_none_6 ?_
            exact mx_iret rfl dX0_outside_51 H
          · have H := H.2 c9
            refine mx_lload_n dX0_isFrom_6 rfl rfl ?_
            refine mx_lload dX0_isFrom_7 rfl ?_
            refine mx_lif_gt (tgt := 17) dX0_isFrom_9 dX0_isFrom_10 rfl (fun c11 => ?_) (fun c11 => ?_)
            · have H := H.1 c11
              refine mx_iconst dX0_isFrom_17 ic_0 ?_
              refine mx_zretK rfl dX0_isFrom_18 (Or.inl rfl) ?_
              refine mx_if_eq (tgt := 46) dX0_outside_30 rfl (fun _ => ?_) (fun _ => absurd ‹_› (by decide))
              refine mx_aload_n dX0_outside_46 rfl rfl ?_
              refine mx_iconst dX0_outside_47 ic_5 ?_
              refine mx_callV 0 (y' := mi_X0_none) (vs := [iv (5 : Int32)]) (st := []) (al' := [some (rv a0), some (iv (5 : Int32))]) cl_0 V_X0_none (Or.inl q733) dX0_outside_48 rfl rfl (Nat.le_of_ble_eq_true rfl) (Nat.le_of_ble_eq_true rfl) (ly0_k La0_h) ?_
              refine mx_aload_n dX0_none_0 rfl rfl ?_
              refine mx_iload_n dX0_none_1 rfl rfl ?_
              refine mx_putI 0 20 (ref := "PrairiePool") cl_0 (Nat.le_of_ble_eq_true rfl) (Or.inl q480) (Or.inl rfl) dX0_none_2 (Or.inl rfl) rfl (ly0_k La0_h) ?_
              refine mx_nmI  (fun h12 eh12 Xh12 Kh12 Lh12 => ?_)
              have H := H h12 eh12 Xh12
              have La0_h12 := La0_h.ext Xh12
              refine mx_iconst dX0_none_5 ic_m1 ?_
              refine mx_iretK rfl dX0_none_6 ?_
              exact mx_iret rfl dX0_outside_51 H
            · have H := H.2 c11
              refine mx_iconst dX0_isFrom_13 ic_1 ?_
              refine mx_goto (tgt := 18) dX0_isFrom_14 rfl ?_
              refine mx_zretK rfl dX0_isFrom_18 (Or.inr rfl) ?_
              refine mx_if_eq (tgt := 46) dX0_outside_30 rfl (fun _ => absurd ‹_› (by decide)) (fun _ => ?_)
              refine mx_iload dX0_outside_33 rfl ?_
              refine mx_i2l dX0_outside_35 ?_
              refine mx_lconst dX0_outside_36 lc_0 ?_
              refine mx_ldc2 q836 dX0_outside_37 ?_
              refine mx_callS (y' := mi_X0_isFrom) (vs := [jv x4.toInt64, jv (0 : Int64), jv (1000 : Int64)]) (st := []) (al' := [some (jv x4.toInt64), none, some (jv (0 : Int64)), none, some (jv (1000 : Int64)), none]) S_X0_isFrom q758 dX0_outside_40 rfl rfl (Nat.le_of_ble_eq_true rfl) (Nat.le_of_ble_eq_true rfl) ?_
              refine mx_lload_n dX0_isFrom_0 rfl rfl ?_
              refine mx_lload_n dX0_isFrom_1 rfl rfl ?_
              refine mx_lif_lt (tgt := 17) dX0_isFrom_2 dX0_isFrom_3 rfl (fun c13 => ?_) (fun c13 => ?_)
              · have H := H.1 c13
                refine mx_iconst dX0_isFrom_17 ic_0 ?_
                refine mx_zretK rfl dX0_isFrom_18 (Or.inl rfl) ?_
                refine mx_if_ne (tgt := 52) dX0_outside_43 rfl (fun _ => absurd ‹_› (by decide)) (fun _ => ?_)
                refine mx_aload_n dX0_outside_46 rfl rfl ?_
                refine mx_iconst dX0_outside_47 ic_5 ?_
                refine mx_callV 0 (y' := mi_X0_none) (vs := [iv (5 : Int32)]) (st := []) (al' := [some (rv a0), some (iv (5 : Int32))]) cl_0 V_X0_none (Or.inl q733) dX0_outside_48 rfl rfl (Nat.le_of_ble_eq_true rfl) (Nat.le_of_ble_eq_true rfl) (ly0_k La0_h) ?_
                refine mx_aload_n dX0_none_0 rfl rfl ?_
                refine mx_iload_n dX0_none_1 rfl rfl ?_
                refine mx_putI 0 20 (ref := "PrairiePool") cl_0 (Nat.le_of_ble_eq_true rfl) (Or.inl q480) (Or.inl rfl) dX0_none_2 (Or.inl rfl) rfl (ly0_k La0_h) ?_
                refine mx_nmI  (fun h14 eh14 Xh14 Kh14 Lh14 => ?_)
                have H := H h14 eh14 Xh14
                have La0_h14 := La0_h.ext Xh14
                refine mx_iconst dX0_none_5 ic_m1 ?_
                refine mx_iretK rfl dX0_none_6 ?_
                exact mx_iret rfl dX0_outside_51 H
              · have H := H.2 c13
                refine mx_lload_n dX0_isFrom_6 rfl rfl ?_
                refine mx_lload dX0_isFrom_7 rfl ?_
                refine mx_lif_gt (tgt := 17) dX0_isFrom_9 dX0_isFrom_10 rfl (fun c15 => ?_) (fun c15 => ?_)
                · have H := H.1 c15
                  refine mx_iconst dX0_isFrom_17 ic_0 ?_
                  refine mx_zretK rfl dX0_isFrom_18 (Or.inl rfl) ?_
                  refine mx_if_ne (tgt := 52) dX0_outside_43 rfl (fun _ => absurd ‹_› (by decide)) (fun _ => ?_)
                  refine mx_aload_n dX0_outside_46 rfl rfl ?_
                  refine mx_iconst dX0_outside_47 ic_5 ?_
                  refine mx_callV 0 (y' := mi_X0_none) (vs := [iv (5 : Int32)]) (st := []) (al' := [some (rv a0), some (iv (5 : Int32))]) cl_0 V_X0_none (Or.inl q733) dX0_outside_48 rfl rfl (Nat.le_of_ble_eq_true rfl) (Nat.le_of_ble_eq_true rfl) (ly0_k La0_h) ?_
                  refine mx_aload_n dX0_none_0 rfl rfl ?_
                  refine mx_iload_n dX0_none_1 rfl rfl ?_
                  refine mx_putI 0 20 (ref := "PrairiePool") cl_0 (Nat.le_of_ble_eq_true rfl) (Or.inl q480) (Or.inl rfl) dX0_none_2 (Or.inl rfl) rfl (ly0_k La0_h) ?_
                  refine mx_nmI  (fun h16 eh16 Xh16 Kh16 Lh16 => ?_)
                  have H := H h16 eh16 Xh16
                  have La0_h16 := La0_h.ext Xh16
                  refine mx_iconst dX0_none_5 ic_m1 ?_
                  refine mx_iretK rfl dX0_none_6 ?_
                  exact mx_iret rfl dX0_outside_51 H
                · have H := H.2 c15
                  refine mx_iconst dX0_isFrom_13 ic_1 ?_
                  refine mx_goto (tgt := 18) dX0_isFrom_14 rfl ?_
                  refine mx_zretK rfl dX0_isFrom_18 (Or.inr rfl) ?_
                  refine mx_if_ne (tgt := 52) dX0_outside_43 rfl (fun _ => ?_) (fun _ => absurd ‹_› (by decide))
                  refine mx_aload_n dX0_outside_52 rfl rfl ?_
                  refine mx_get 0 36 (ref := "PrairiePool") cl_0 (Nat.le_of_ble_eq_true rfl) (Or.inl q496) (Or.inl rfl) dX0_outside_53 (fv_0_36 _ _) (ly0_k La0_h) ?_
                  refine mx_bipush dX0_outside_56 ib_60 ?_
                  refine mx_icmp_ne (tgt := 68) dX0_outside_58 rfl (fun c17 => ?_) (fun c17 => ?_)
                  · have H := H.1 c17
                    refine mx_aload_n dX0_outside_68 rfl rfl ?_
                    refine mx_get 0 31 (ref := "PrairiePool") cl_0 (Nat.le_of_ble_eq_true rfl) (Or.inl q491) (Or.inl rfl) dX0_outside_69 (fv_0_31 _ _) (ly0_k La0_h) ?_
                    refine mx_tr (ly0_R_0_31 La0_h) ?_
                    refine mx_aload_n dX0_outside_72 rfl rfl ?_
                    refine mx_get 0 36 (ref := "PrairiePool") cl_0 (Nat.le_of_ble_eq_true rfl) (Or.inl q496) (Or.inl rfl) dX0_outside_73 (fv_0_36 _ _) (ly0_k La0_h) ?_
                    refine mx_iload_n dX0_outside_76 rfl rfl ?_
                    obtain ⟨k18, H⟩ := H
                    refine my_iast dX0_outside_77 rfl (ly0_A_1443 La0_h k18) ?_
                    refine mx_nmI  (fun h19 eh19 Xh19 Kh19 Lh19 => ?_)
                    have H := H h19 eh19 Xh19
                    have La0_h19 := La0_h.ext Xh19
                    refine mx_aload_n dX0_outside_78 rfl rfl ?_
                    refine mx_get 0 32 (ref := "PrairiePool") cl_0 (Nat.le_of_ble_eq_true rfl) (Or.inl q492) (Or.inl rfl) dX0_outside_79 (fv_0_32 _ _) (ly0_k La0_h19) ?_
                    refine mx_tr (ly0_R_0_32 La0_h19) ?_
                    refine mx_aload_n dX0_outside_82 rfl rfl ?_
                    refine mx_get 0 36 (ref := "PrairiePool") cl_0 (Nat.le_of_ble_eq_true rfl) (Or.inl q496) (Or.inl rfl) dX0_outside_83 (fv_0_36 _ _) (ly0_k La0_h19) ?_
                    refine mx_ti (ah_skIA eh19 (by omega)) ?_
                    refine mx_iload_n dX0_outside_86 rfl rfl ?_
                    refine my_iast dX0_outside_87 rfl (ly0_A_1444 La0_h19 k18) ?_
                    refine mx_nmI  (fun h20 eh20 Xh20 Kh20 Lh20 => ?_)
                    have H := H h20 eh20 Xh20
                    have Kh20 := Kh20.trans Kh19
                    have Lh20 := Lh20.trans Lh19
                    have La0_h20 := La0_h19.ext Xh20
                    refine mx_aload_n dX0_outside_88 rfl rfl ?_
                    refine mx_get 0 33 (ref := "PrairiePool") cl_0 (Nat.le_of_ble_eq_true rfl) (Or.inl q493) (Or.inl rfl) dX0_outside_89 (fv_0_33 _ _) (ly0_k La0_h20) ?_
                    refine mx_tr (ly0_R_0_33 La0_h20) ?_
                    refine mx_aload_n dX0_outside_92 rfl rfl ?_
                    refine mx_get 0 36 (ref := "PrairiePool") cl_0 (Nat.le_of_ble_eq_true rfl) (Or.inl q496) (Or.inl rfl) dX0_outside_93 (fv_0_36 _ _) (ly0_k La0_h20) ?_
                    refine mx_ti ((ah_skIA eh20 (by omega)).trans (ah_skIA eh19 (by omega))) ?_
                    refine mx_iload_n dX0_outside_96 rfl rfl ?_
                    refine my_iast dX0_outside_97 rfl (ly0_A_1445 La0_h20 k18) ?_
                    refine mx_nmI  (fun h21 eh21 Xh21 Kh21 Lh21 => ?_)
                    have H := H h21 eh21 Xh21
                    have Kh21 := Kh21.trans Kh20
                    have Lh21 := Lh21.trans Lh20
                    have La0_h21 := La0_h20.ext Xh21
                    refine mx_aload_n dX0_outside_98 rfl rfl ?_
                    refine mx_get 0 34 (ref := "PrairiePool") cl_0 (Nat.le_of_ble_eq_true rfl) (Or.inl q494) (Or.inl rfl) dX0_outside_99 (fv_0_34 _ _) (ly0_k La0_h21) ?_
                    refine mx_tr (ly0_R_0_34 La0_h21) ?_
                    refine mx_aload_n dX0_outside_102 rfl rfl ?_
                    refine mx_get 0 36 (ref := "PrairiePool") cl_0 (Nat.le_of_ble_eq_true rfl) (Or.inl q496) (Or.inl rfl) dX0_outside_103 (fv_0_36 _ _) (ly0_k La0_h21) ?_
                    refine mx_ti (((ah_skIA eh21 (by omega)).trans (ah_skIA eh20 (by omega))).trans (ah_skIA eh19 (by omega))) ?_
                    refine mx_iload dX0_outside_106 rfl ?_
                    refine my_iast dX0_outside_108 rfl (ly0_A_1446 La0_h21 k18) ?_
                    refine mx_nmI  (fun h22 eh22 Xh22 Kh22 Lh22 => ?_)
                    have H := H h22 eh22 Xh22
                    have Kh22 := Kh22.trans Kh21
                    have Lh22 := Lh22.trans Lh21
                    have La0_h22 := La0_h21.ext Xh22
                    refine mx_aload_n dX0_outside_109 rfl rfl ?_
                    refine mx_dup_r dX0_outside_110 ?_
                    refine mx_get 0 36 (ref := "PrairiePool") cl_0 (Nat.le_of_ble_eq_true rfl) (Or.inl q496) (Or.inl rfl) dX0_outside_111 (fv_0_36 _ _) (ly0_k La0_h22) ?_
                    refine mx_ti ((((ah_skIA eh22 (by omega)).trans (ah_skIA eh21 (by omega))).trans (ah_skIA eh20 (by omega))).trans (ah_skIA eh19 (by omega))) ?_
                    refine mx_iconst dX0_outside_114 ic_1 ?_
                    refine mx_iadd dX0_outside_115 ?_
                    refine mx_putI 0 36 (ref := "PrairiePool") cl_0 (Nat.le_of_ble_eq_true rfl) (Or.inl q496) (Or.inl rfl) dX0_outside_116 (Or.inl rfl) rfl (ly0_k La0_h22) ?_
                    refine mx_nmI  (fun h23 eh23 Xh23 Kh23 Lh23 => ?_)
                    have H := H h23 eh23 Xh23
                    have Kh23 := Kh23.trans Kh22
                    have Lh23 := Lh23.trans Lh22
                    have La0_h23 := La0_h22.ext Xh23
                    refine mx_aload_n dX0_outside_119 rfl rfl ?_
                    refine mx_aload_n dX0_outside_120 rfl rfl ?_
                    refine mx_get 0 36 (ref := "PrairiePool") cl_0 (Nat.le_of_ble_eq_true rfl) (Or.inl q496) (Or.inl rfl) dX0_outside_121 (fv_0_36 _ _) (ly0_k La0_h23) ?_
                    refine mx_ti (ah_hitI eh23) ?_
                    refine mx_iconst dX0_outside_124 ic_1 ?_
                    refine mx_isub dX0_outside_125 ?_
                    refine mx_callV 0 (y' := mi_X0_gives) (vs := [iv (((ah_I h a0 36) + (1 : Int32)) - (1 : Int32))]) (st := []) (al' := [some (rv a0), some (iv (((ah_I h a0 36) + (1 : Int32)) - (1 : Int32)))]) cl_0 V_X0_gives (Or.inl q801) dX0_outside_126 rfl rfl (Nat.le_of_ble_eq_true rfl) (Nat.le_of_ble_eq_true rfl) (ly0_k La0_h23) ?_
                    refine mx_aload_n dX0_gives_0 rfl rfl ?_
                    refine mx_iconst dX0_gives_1 ic_0 ?_
                    refine mx_putI 0 20 (ref := "PrairiePool") cl_0 (Nat.le_of_ble_eq_true rfl) (Or.inl q480) (Or.inl rfl) dX0_gives_2 (Or.inl rfl) rfl (ly0_k La0_h23) ?_
                    refine mx_nmI  (fun h24 eh24 Xh24 Kh24 Lh24 => ?_)
                    have H := H h24 eh24 Xh24
                    have Kh24 := Kh24.trans Kh23
                    have Lh24 := Lh24.trans Lh23
                    have La0_h24 := La0_h23.ext Xh24
                    refine mx_iload_n dX0_gives_5 rfl rfl ?_
                    refine mx_iretK rfl dX0_gives_6 ?_
                    exact mx_iret rfl dX0_outside_129 H
                  · have H := H.2 c17
                    refine mx_aload_n dX0_outside_61 rfl rfl ?_
                    refine mx_bipush dX0_outside_62 ib_7 ?_
                    refine mx_callV 0 (y' := mi_X0_none) (vs := [iv (7 : Int32)]) (st := []) (al' := [some (rv a0), some (iv (7 : Int32))]) cl_0 V_X0_none (Or.inl q733) dX0_outside_64 rfl rfl (Nat.le_of_ble_eq_true rfl) (Nat.le_of_ble_eq_true rfl) (ly0_k La0_h) ?_
                    refine mx_aload_n dX0_none_0 rfl rfl ?_
                    refine mx_iload_n dX0_none_1 rfl rfl ?_
                    refine mx_putI 0 20 (ref := "PrairiePool") cl_0 (Nat.le_of_ble_eq_true rfl) (Or.inl q480) (Or.inl rfl) dX0_none_2 (Or.inl rfl) rfl (ly0_k La0_h) ?_
                    refine mx_nmI  (fun h25 eh25 Xh25 Kh25 Lh25 => ?_)
                    have H := H h25 eh25 Xh25
                    have La0_h25 := La0_h.ext Xh25
                    refine mx_iconst dX0_none_5 ic_m1 ?_
                    refine mx_iretK rfl dX0_none_6 ?_
                    exact mx_iret rfl dX0_outside_67 H
theorem dX0_breach_0 : decode mi_X0_breach.2.1 0 = .ok (.iload_n 1, 1) := by decide +kernel
theorem dX0_breach_1 : decode mi_X0_breach.2.1 1 = .ok (.ifCond .lt 11, 3) := by decide +kernel
theorem dX0_breach_4 : decode mi_X0_breach.2.1 4 = .ok (.iload_n 1, 1) := by decide +kernel
theorem dX0_breach_5 : decode mi_X0_breach.2.1 5 = .ok (.aload_n 0, 1) := by decide +kernel
theorem dX0_breach_6 : decode mi_X0_breach.2.1 6 = .ok (.getfield 537, 3) := by decide +kernel
theorem dX0_breach_9 : decode mi_X0_breach.2.1 9 = .ok (.if_icmp .lt 10, 3) := by decide +kernel
theorem dX0_breach_12 : decode mi_X0_breach.2.1 12 = .ok (.aload_n 0, 1) := by decide +kernel
theorem dX0_breach_13 : decode mi_X0_breach.2.1 13 = .ok (.bipush 8, 2) := by decide +kernel
theorem dX0_breach_15 : decode mi_X0_breach.2.1 15 = .ok (.invokevirtual 205, 3) := by decide +kernel
theorem dX0_breach_18 : decode mi_X0_breach.2.1 18 = .ok (.ireturn, 1) := by decide +kernel
theorem dX0_breach_19 : decode mi_X0_breach.2.1 19 = .ok (.aload_n 0, 1) := by decide +kernel
theorem dX0_breach_20 : decode mi_X0_breach.2.1 20 = .ok (.aload_n 0, 1) := by decide +kernel
theorem dX0_breach_21 : decode mi_X0_breach.2.1 21 = .ok (.iload_n 1, 1) := by decide +kernel
theorem dX0_breach_22 : decode mi_X0_breach.2.1 22 = .ok (.invokevirtual 551, 3) := by decide +kernel
theorem dX0_breach_25 : decode mi_X0_breach.2.1 25 = .ok (.lconst 0, 1) := by decide +kernel
theorem dX0_breach_26 : decode mi_X0_breach.2.1 26 = .ok (.lcmp, 1) := by decide +kernel
theorem dX0_breach_27 : decode mi_X0_breach.2.1 27 = .ok (.ifCond .le 7, 3) := by decide +kernel
theorem dX0_breach_30 : decode mi_X0_breach.2.1 30 = .ok (.iconst 1, 1) := by decide +kernel
theorem dX0_breach_31 : decode mi_X0_breach.2.1 31 = .ok (.goto 4, 3) := by decide +kernel
theorem dX0_breach_34 : decode mi_X0_breach.2.1 34 = .ok (.iconst 0, 1) := by decide +kernel
theorem dX0_breach_35 : decode mi_X0_breach.2.1 35 = .ok (.invokevirtual 250, 3) := by decide +kernel
theorem dX0_breach_38 : decode mi_X0_breach.2.1 38 = .ok (.ireturn, 1) := by decide +kernel
theorem v_X0_breach {G : ma_G} {d : Nat} {a0 : Nat} {x1 : Int32} {h : ah_T} {Q : Option ma_V → ah_T → Prop} {E : Nat → ah_T → Prop} (La0_h : LY0 h a0) (H : (x1 < 0 → ∀ h2 : ah_T, h2 = ah_wI h a0 20 (8 : Int32) → ah_ext h h2 → Q (some (iv (-1 : Int32))) h2) ∧ (¬ x1 < 0 → (x1 < (ah_I h a0 36) → MX G mi_X0_breachOf d 0 [some (rv a0), some (iv x1), none, none, none] [] h (Ql fun r5 h4 => ah_ext h h4 → (r5 ≤ (0 : Int64) → ∀ h7 : ah_T, h7 = ah_wI h4 a0 20 (0 : Int32) → ah_ext h4 h7 → Q (some (iv (0 : Int32))) h7) ∧ (¬ r5 ≤ (0 : Int64) → ∀ h8 : ah_T, h8 = ah_wI h4 a0 20 (0 : Int32) → ah_ext h4 h8 → Q (some (iv (1 : Int32))) h8)) E) ∧ (¬ x1 < (ah_I h a0 36) → ∀ h9 : ah_T, h9 = ah_wI h a0 20 (8 : Int32) → ah_ext h h9 → Q (some (iv (-1 : Int32))) h9))) : MX G mi_X0_breach (d + 1) 0 [some (rv a0), some (iv x1)] [] h Q E := by
  refine mx_iload_n dX0_breach_0 rfl rfl ?_
  refine mx_if_lt (tgt := 12) dX0_breach_1 rfl (fun c1 => ?_) (fun c1 => ?_)
  · have H := H.1 c1
    refine mx_aload_n dX0_breach_12 rfl rfl ?_
    refine mx_bipush dX0_breach_13 ib_8 ?_
    refine mx_callV 0 (y' := mi_X0_none) (vs := [iv (8 : Int32)]) (st := []) (al' := [some (rv a0), some (iv (8 : Int32))]) cl_0 V_X0_none (Or.inl q733) dX0_breach_15 rfl rfl (Nat.le_of_ble_eq_true rfl) (Nat.le_of_ble_eq_true rfl) (ly0_k La0_h) ?_
    refine mx_aload_n dX0_none_0 rfl rfl ?_
    refine mx_iload_n dX0_none_1 rfl rfl ?_
    refine mx_putI 0 20 (ref := "PrairiePool") cl_0 (Nat.le_of_ble_eq_true rfl) (Or.inl q480) (Or.inl rfl) dX0_none_2 (Or.inl rfl) rfl (ly0_k La0_h) ?_
    refine mx_nmI  (fun h2 eh2 Xh2 Kh2 Lh2 => ?_)
    have H := H h2 eh2 Xh2
    have La0_h2 := La0_h.ext Xh2
    refine mx_iconst dX0_none_5 ic_m1 ?_
    refine mx_iretK rfl dX0_none_6 ?_
    exact mx_iret rfl dX0_breach_18 H
  · have H := H.2 c1
    refine mx_iload_n dX0_breach_4 rfl rfl ?_
    refine mx_aload_n dX0_breach_5 rfl rfl ?_
    refine mx_get 0 36 (ref := "PrairiePool") cl_0 (Nat.le_of_ble_eq_true rfl) (Or.inl q496) (Or.inl rfl) dX0_breach_6 (fv_0_36 _ _) (ly0_k La0_h) ?_
    refine mx_icmp_lt (tgt := 19) dX0_breach_9 rfl (fun c3 => ?_) (fun c3 => ?_)
    · have H := H.1 c3
      refine mx_aload_n dX0_breach_19 rfl rfl ?_
      refine mx_aload_n dX0_breach_20 rfl rfl ?_
      refine mx_iload_n dX0_breach_21 rfl rfl ?_
      refine mx_callV 0 (y' := mi_X0_breachOf) (vs := [iv x1]) (st := [rv a0]) (al' := [some (rv a0), some (iv x1), none, none, none]) cl_0 V_X0_breachOf (Or.inl q1529) dX0_breach_22 rfl rfl (Nat.le_of_ble_eq_true rfl) (Nat.le_of_ble_eq_true rfl) (ly0_k La0_h) ?_
      refine ma_kl H (fun r5 h4 Xh4 H => ?_) (fun x1 h1 X1 H => mt_out rfl H)
      have H := H Xh4
      have La0_h4 := La0_h.ext Xh4
      refine mx_lconst dX0_breach_25 lc_0 ?_
      refine mx_lif_le (tgt := 34) dX0_breach_26 dX0_breach_27 rfl (fun c6 => ?_) (fun c6 => ?_)
      · have H := H.1 c6
        refine mx_iconst dX0_breach_34 ic_0 ?_
        refine mx_callV 0 (y' := mi_X0_gives) (vs := [iv (0 : Int32)]) (st := []) (al' := [some (rv a0), some (iv (0 : Int32))]) cl_0 V_X0_gives (Or.inl q801) dX0_breach_35 rfl rfl (Nat.le_of_ble_eq_true rfl) (Nat.le_of_ble_eq_true rfl) (ly0_k La0_h4) ?_
        refine mx_aload_n dX0_gives_0 rfl rfl ?_
        refine mx_iconst dX0_gives_1 ic_0 ?_
        refine mx_putI 0 20 (ref := "PrairiePool") cl_0 (Nat.le_of_ble_eq_true rfl) (Or.inl q480) (Or.inl rfl) dX0_gives_2 (Or.inl rfl) rfl (ly0_k La0_h4) ?_
        refine mx_nmI  (fun h7 eh7 Xh7 Kh7 Lh7 => ?_)
        have H := H h7 eh7 Xh7
        have La0_h7 := La0_h4.ext Xh7
        refine mx_iload_n dX0_gives_5 rfl rfl ?_
        refine mx_iretK rfl dX0_gives_6 ?_
        exact mx_iret rfl dX0_breach_38 H
      · have H := H.2 c6
        refine mx_iconst dX0_breach_30 ic_1 ?_
        refine mx_goto (tgt := 35) dX0_breach_31 rfl ?_
        refine mx_callV 0 (y' := mi_X0_gives) (vs := [iv (1 : Int32)]) (st := []) (al' := [some (rv a0), some (iv (1 : Int32))]) cl_0 V_X0_gives (Or.inl q801) dX0_breach_35 rfl rfl (Nat.le_of_ble_eq_true rfl) (Nat.le_of_ble_eq_true rfl) (ly0_k La0_h4) ?_
        refine mx_aload_n dX0_gives_0 rfl rfl ?_
        refine mx_iconst dX0_gives_1 ic_0 ?_
        refine mx_putI 0 20 (ref := "PrairiePool") cl_0 (Nat.le_of_ble_eq_true rfl) (Or.inl q480) (Or.inl rfl) dX0_gives_2 (Or.inl rfl) rfl (ly0_k La0_h4) ?_
        refine mx_nmI  (fun h8 eh8 Xh8 Kh8 Lh8 => ?_)
        have H := H h8 eh8 Xh8
        have La0_h8 := La0_h4.ext Xh8
        refine mx_iload_n dX0_gives_5 rfl rfl ?_
        refine mx_iretK rfl dX0_gives_6 ?_
        exact mx_iret rfl dX0_breach_38 H
    · have H := H.2 c3
      refine mx_aload_n dX0_breach_12 rfl rfl ?_
      refine mx_bipush dX0_breach_13 ib_8 ?_
      refine mx_callV 0 (y' := mi_X0_none) (vs := [iv (8 : Int32)]) (st := []) (al' := [some (rv a0), some (iv (8 : Int32))]) cl_0 V_X0_none (Or.inl q733) dX0_breach_15 rfl rfl (Nat.le_of_ble_eq_true rfl) (Nat.le_of_ble_eq_true rfl) (ly0_k La0_h) ?_
      refine mx_aload_n dX0_none_0 rfl rfl ?_
      refine mx_iload_n dX0_none_1 rfl rfl ?_
      refine mx_putI 0 20 (ref := "PrairiePool") cl_0 (Nat.le_of_ble_eq_true rfl) (Or.inl q480) (Or.inl rfl) dX0_none_2 (Or.inl rfl) rfl (ly0_k La0_h) ?_
      refine mx_nmI  (fun h9 eh9 Xh9 Kh9 Lh9 => ?_)
      have H := H h9 eh9 Xh9
      have La0_h9 := La0_h.ext Xh9
      refine mx_iconst dX0_none_5 ic_m1 ?_
      refine mx_iretK rfl dX0_none_6 ?_
      exact mx_iret rfl dX0_breach_18 H
theorem dX0_breachOf_0 : decode mi_X0_breachOf.2.1 0 = .ok (.aload_n 0, 1) := by decide +kernel
theorem dX0_breachOf_1 : decode mi_X0_breachOf.2.1 1 = .ok (.getfield 17, 3) := by decide +kernel
theorem dX0_breachOf_4 : decode mi_X0_breachOf.2.1 4 = .ok (.aload_n 0, 1) := by decide +kernel
theorem dX0_breachOf_5 : decode mi_X0_breachOf.2.1 5 = .ok (.getfield 112, 3) := by decide +kernel
theorem dX0_breachOf_8 : decode mi_X0_breachOf.2.1 8 = .ok (.iload_n 1, 1) := by decide +kernel
theorem dX0_breachOf_9 : decode mi_X0_breachOf.2.1 9 = .ok (.iaload, 1) := by decide +kernel
theorem dX0_breachOf_10 : decode mi_X0_breachOf.2.1 10 = .ok (.aaload, 1) := by decide +kernel
theorem dX0_breachOf_11 : decode mi_X0_breachOf.2.1 11 = .ok (.astore_n 2, 1) := by decide +kernel
theorem dX0_breachOf_12 : decode mi_X0_breachOf.2.1 12 = .ok (.aload_n 0, 1) := by decide +kernel
theorem dX0_breachOf_13 : decode mi_X0_breachOf.2.1 13 = .ok (.getfield 115, 3) := by decide +kernel
theorem dX0_breachOf_16 : decode mi_X0_breachOf.2.1 16 = .ok (.iload_n 1, 1) := by decide +kernel
theorem dX0_breachOf_17 : decode mi_X0_breachOf.2.1 17 = .ok (.iaload, 1) := by decide +kernel
theorem dX0_breachOf_18 : decode mi_X0_breachOf.2.1 18 = .ok (.bipush 52, 2) := by decide +kernel
theorem dX0_breachOf_20 : decode mi_X0_breachOf.2.1 20 = .ok (.idiv, 1) := by decide +kernel
theorem dX0_breachOf_21 : decode mi_X0_breachOf.2.1 21 = .ok (.istore_n 3, 1) := by decide +kernel
theorem dX0_breachOf_22 : decode mi_X0_breachOf.2.1 22 = .ok (.aload_n 2, 1) := by decide +kernel
theorem dX0_breachOf_23 : decode mi_X0_breachOf.2.1 23 = .ok (.iload_n 3, 1) := by decide +kernel
theorem dX0_breachOf_24 : decode mi_X0_breachOf.2.1 24 = .ok (.invokevirtual 540, 3) := by decide +kernel
theorem dX0_breachOf_27 : decode mi_X0_breachOf.2.1 27 = .ok (.ifCond .eq 12, 3) := by decide +kernel
theorem dX0_breachOf_30 : decode mi_X0_breachOf.2.1 30 = .ok (.aload_n 2, 1) := by decide +kernel
theorem dX0_breachOf_31 : decode mi_X0_breachOf.2.1 31 = .ok (.getfield 533, 3) := by decide +kernel
theorem dX0_breachOf_34 : decode mi_X0_breachOf.2.1 34 = .ok (.iload_n 3, 1) := by decide +kernel
theorem dX0_breachOf_35 : decode mi_X0_breachOf.2.1 35 = .ok (.baload, 1) := by decide +kernel
theorem dX0_breachOf_36 : decode mi_X0_breachOf.2.1 36 = .ok (.ifCond .eq 5, 3) := by decide +kernel
theorem dX0_breachOf_39 : decode mi_X0_breachOf.2.1 39 = .ok (.lconst 0, 1) := by decide +kernel
theorem dX0_breachOf_40 : decode mi_X0_breachOf.2.1 40 = .ok (.lreturn, 1) := by decide +kernel
theorem dX0_breachOf_41 : decode mi_X0_breachOf.2.1 41 = .ok (.aload_n 0, 1) := by decide +kernel
theorem dX0_breachOf_42 : decode mi_X0_breachOf.2.1 42 = .ok (.aload_n 0, 1) := by decide +kernel
theorem dX0_breachOf_43 : decode mi_X0_breachOf.2.1 43 = .ok (.aload_n 0, 1) := by decide +kernel
theorem dX0_breachOf_44 : decode mi_X0_breachOf.2.1 44 = .ok (.getfield 115, 3) := by decide +kernel
theorem dX0_breachOf_47 : decode mi_X0_breachOf.2.1 47 = .ok (.iload_n 1, 1) := by decide +kernel
theorem dX0_breachOf_48 : decode mi_X0_breachOf.2.1 48 = .ok (.iaload, 1) := by decide +kernel
theorem dX0_breachOf_49 : decode mi_X0_breachOf.2.1 49 = .ok (.invokevirtual 331, 3) := by decide +kernel
theorem dX0_breachOf_52 : decode mi_X0_breachOf.2.1 52 = .ok (.putfield 335, 3) := by decide +kernel
theorem dX0_breachOf_55 : decode mi_X0_breachOf.2.1 55 = .ok (.aload_n 0, 1) := by decide +kernel
theorem dX0_breachOf_56 : decode mi_X0_breachOf.2.1 56 = .ok (.invokevirtual 339, 3) := by decide +kernel
theorem dX0_breachOf_59 : decode mi_X0_breachOf.2.1 59 = .ok (.astore 4, 2) := by decide +kernel
theorem dX0_breachOf_61 : decode mi_X0_breachOf.2.1 61 = .ok (.aload 4, 2) := by decide +kernel
theorem dX0_breachOf_63 : decode mi_X0_breachOf.2.1 63 = .ok (.iconst 2, 1) := by decide +kernel
theorem dX0_breachOf_64 : decode mi_X0_breachOf.2.1 64 = .ok (.aload_n 0, 1) := by decide +kernel
theorem dX0_breachOf_65 : decode mi_X0_breachOf.2.1 65 = .ok (.getfield 115, 3) := by decide +kernel
theorem dX0_breachOf_68 : decode mi_X0_breachOf.2.1 68 = .ok (.iload_n 1, 1) := by decide +kernel
theorem dX0_breachOf_69 : decode mi_X0_breachOf.2.1 69 = .ok (.iaload, 1) := by decide +kernel
theorem dX0_breachOf_70 : decode mi_X0_breachOf.2.1 70 = .ok (.i2l, 1) := by decide +kernel
theorem dX0_breachOf_71 : decode mi_X0_breachOf.2.1 71 = .ok (.lastore, 1) := by decide +kernel
theorem dX0_breachOf_72 : decode mi_X0_breachOf.2.1 72 = .ok (.aload 4, 2) := by decide +kernel
theorem dX0_breachOf_74 : decode mi_X0_breachOf.2.1 74 = .ok (.iconst 3, 1) := by decide +kernel
theorem dX0_breachOf_75 : decode mi_X0_breachOf.2.1 75 = .ok (.iload_n 3, 1) := by decide +kernel
theorem dX0_breachOf_76 : decode mi_X0_breachOf.2.1 76 = .ok (.i2l, 1) := by decide +kernel
theorem dX0_breachOf_77 : decode mi_X0_breachOf.2.1 77 = .ok (.lastore, 1) := by decide +kernel
theorem dX0_breachOf_78 : decode mi_X0_breachOf.2.1 78 = .ok (.aload 4, 2) := by decide +kernel
theorem dX0_breachOf_80 : decode mi_X0_breachOf.2.1 80 = .ok (.iconst 4, 1) := by decide +kernel
theorem dX0_breachOf_81 : decode mi_X0_breachOf.2.1 81 = .ok (.aload_n 0, 1) := by decide +kernel
theorem dX0_breachOf_82 : decode mi_X0_breachOf.2.1 82 = .ok (.getfield 118, 3) := by decide +kernel
theorem dX0_breachOf_85 : decode mi_X0_breachOf.2.1 85 = .ok (.iload_n 1, 1) := by decide +kernel
theorem dX0_breachOf_86 : decode mi_X0_breachOf.2.1 86 = .ok (.iaload, 1) := by decide +kernel
theorem dX0_breachOf_87 : decode mi_X0_breachOf.2.1 87 = .ok (.i2l, 1) := by decide +kernel
theorem dX0_breachOf_88 : decode mi_X0_breachOf.2.1 88 = .ok (.lastore, 1) := by decide +kernel
theorem dX0_breachOf_89 : decode mi_X0_breachOf.2.1 89 = .ok (.aload 4, 2) := by decide +kernel
theorem dX0_breachOf_91 : decode mi_X0_breachOf.2.1 91 = .ok (.iconst 5, 1) := by decide +kernel
theorem dX0_breachOf_92 : decode mi_X0_breachOf.2.1 92 = .ok (.aload_n 2, 1) := by decide +kernel
theorem dX0_breachOf_93 : decode mi_X0_breachOf.2.1 93 = .ok (.getfield 543, 3) := by decide +kernel
theorem dX0_breachOf_96 : decode mi_X0_breachOf.2.1 96 = .ok (.i2l, 1) := by decide +kernel
theorem dX0_breachOf_97 : decode mi_X0_breachOf.2.1 97 = .ok (.lastore, 1) := by decide +kernel
theorem dX0_breachOf_98 : decode mi_X0_breachOf.2.1 98 = .ok (.aload 4, 2) := by decide +kernel
theorem dX0_breachOf_100 : decode mi_X0_breachOf.2.1 100 = .ok (.bipush 6, 2) := by decide +kernel
theorem dX0_breachOf_102 : decode mi_X0_breachOf.2.1 102 = .ok (.aload_n 2, 1) := by decide +kernel
theorem dX0_breachOf_103 : decode mi_X0_breachOf.2.1 103 = .ok (.getfield 546, 3) := by decide +kernel
theorem dX0_breachOf_106 : decode mi_X0_breachOf.2.1 106 = .ok (.i2l, 1) := by decide +kernel
theorem dX0_breachOf_107 : decode mi_X0_breachOf.2.1 107 = .ok (.lastore, 1) := by decide +kernel
theorem dX0_breachOf_108 : decode mi_X0_breachOf.2.1 108 = .ok (.aload 4, 2) := by decide +kernel
theorem dX0_breachOf_110 : decode mi_X0_breachOf.2.1 110 = .ok (.bipush 7, 2) := by decide +kernel
theorem dX0_breachOf_112 : decode mi_X0_breachOf.2.1 112 = .ok (.aload_n 2, 1) := by decide +kernel
theorem dX0_breachOf_113 : decode mi_X0_breachOf.2.1 113 = .ok (.getfield 354, 3) := by decide +kernel
theorem dX0_breachOf_116 : decode mi_X0_breachOf.2.1 116 = .ok (.i2l, 1) := by decide +kernel
theorem dX0_breachOf_117 : decode mi_X0_breachOf.2.1 117 = .ok (.lastore, 1) := by decide +kernel
theorem dX0_breachOf_118 : decode mi_X0_breachOf.2.1 118 = .ok (.aload 4, 2) := by decide +kernel
theorem dX0_breachOf_120 : decode mi_X0_breachOf.2.1 120 = .ok (.bipush 10, 2) := by decide +kernel
theorem dX0_breachOf_122 : decode mi_X0_breachOf.2.1 122 = .ok (.aload_n 0, 1) := by decide +kernel
theorem dX0_breachOf_123 : decode mi_X0_breachOf.2.1 123 = .ok (.getfield 121, 3) := by decide +kernel
theorem dX0_breachOf_126 : decode mi_X0_breachOf.2.1 126 = .ok (.iload_n 1, 1) := by decide +kernel
theorem dX0_breachOf_127 : decode mi_X0_breachOf.2.1 127 = .ok (.iaload, 1) := by decide +kernel
theorem dX0_breachOf_128 : decode mi_X0_breachOf.2.1 128 = .ok (.i2l, 1) := by decide +kernel
theorem dX0_breachOf_129 : decode mi_X0_breachOf.2.1 129 = .ok (.lastore, 1) := by decide +kernel
theorem dX0_breachOf_130 : decode mi_X0_breachOf.2.1 130 = .ok (.aload_n 0, 1) := by decide +kernel
theorem dX0_breachOf_131 : decode mi_X0_breachOf.2.1 131 = .ok (.ldc2_w 549, 3) := by decide +kernel
theorem dX0_breachOf_134 : decode mi_X0_breachOf.2.1 134 = .ok (.lconst 0, 1) := by decide +kernel
theorem dX0_breachOf_135 : decode mi_X0_breachOf.2.1 135 = .ok (.lconst 0, 1) := by decide +kernel
theorem dX0_breachOf_136 : decode mi_X0_breachOf.2.1 136 = .ok (.ldc2_w 283, 3) := by decide +kernel
theorem dX0_breachOf_139 : decode mi_X0_breachOf.2.1 139 = .ok (.invokevirtual 361, 3) := by decide +kernel
theorem dX0_breachOf_142 : decode mi_X0_breachOf.2.1 142 = .ok (.lreturn, 1) := by decide +kernel
theorem v_X0_breachOf {G : ma_G} {d : Nat} {a0 : Nat} {x1 : Int32} {h : ah_T} {Q : Option ma_V → ah_T → Prop} {E : Nat → ah_T → Prop} (La0_h : LY0 h a0) (H : vp_in x1 60 ∧ vp_in (ah_I h (a0 + 1443) x1.toNatClampNeg) 20 ∧ ah_kd h (ah_R h (a0 + 2) (ah_I h (a0 + 1443) x1.toNatClampNeg).toNatClampNeg) = 10 ∧ ((ah_I h (ah_R h (a0 + 2) (ah_I h (a0 + 1443) x1.toNatClampNeg).toNatClampNeg) 4) = (-1 : Int32) → Q (some (jv (0 : Int64))) h) ∧ (¬ (ah_I h (ah_R h (a0 + 2) (ah_I h (a0 + 1443) x1.toNatClampNeg).toNatClampNeg) 4) = (-1 : Int32) → (((ah_I h (a0 + 1444) x1.toNatClampNeg) / (52 : Int32)) < (ah_I h (ah_R h (a0 + 2) (ah_I h (a0 + 1443) x1.toNatClampNeg).toNatClampNeg) 4) → Q (some (jv (0 : Int64))) h) ∧ (¬ ((ah_I h (a0 + 1444) x1.toNatClampNeg) / (52 : Int32)) < (ah_I h (ah_R h (a0 + 2) (ah_I h (a0 + 1443) x1.toNatClampNeg).toNatClampNeg) 4) → ((ah_I h (ah_R h (a0 + 2) (ah_I h (a0 + 1443) x1.toNatClampNeg).toNatClampNeg) 5) < ((ah_I h (a0 + 1444) x1.toNatClampNeg) / (52 : Int32)) → Q (some (jv (0 : Int64))) h) ∧ (¬ (ah_I h (ah_R h (a0 + 2) (ah_I h (a0 + 1443) x1.toNatClampNeg).toNatClampNeg) 5) < ((ah_I h (a0 + 1444) x1.toNatClampNeg) / (52 : Int32)) → aok h 44 (ah_R h (ah_R h (a0 + 2) (ah_I h (a0 + 1443) x1.toNatClampNeg).toNatClampNeg) 7) ((ah_I h (a0 + 1444) x1.toNatClampNeg) / (52 : Int32)) ∧ ((ah_I h (ah_R h (ah_R h (a0 + 2) (ah_I h (a0 + 1443) x1.toNatClampNeg).toNatClampNeg) 7) ((ah_I h (a0 + 1444) x1.toNatClampNeg) / (52 : Int32)).toNatClampNeg) = 0 → MX G mi_X0_lawOf d 0 [some (rv a0), some (iv (ah_I h (a0 + 1444) x1.toNatClampNeg)), none, none] [] h (Qr fun r10 h9 => ah_ext h h9 → ∀ h14 : ah_T, h14 = ah_wR h9 a0 23 r10 → ah_ext h9 h14 → MX G mi_X0_clear d 0 [some (rv a0), none] [] h14 (Qr fun r16 h15 => ah_ext h14 h15 → aok h15 41 r16 (2 : Int32) ∧ ∀ h21 : ah_T, h21 = ah_wJ h15 r16 2 (ah_I h15 (a0 + 1444) x1.toNatClampNeg).toInt64 → ah_ext h15 h21 → aok h15 41 r16 (3 : Int32) ∧ ∀ h23 : ah_T, h23 = ah_wJ h21 r16 3 ((ah_I h (a0 + 1444) x1.toNatClampNeg) / (52 : Int32)).toInt64 → ah_ext h21 h23 → aok h15 41 r16 (4 : Int32) ∧ ∀ h25 : ah_T, h25 = ah_wJ h23 r16 4 (ah_I h15 (a0 + 1445) x1.toNatClampNeg).toInt64 → ah_ext h23 h25 → aok h15 41 r16 (5 : Int32) ∧ ∀ h27 : ah_T, h27 = ah_wJ h25 r16 5 (ah_I h15 (ah_R h (a0 + 2) (ah_I h (a0 + 1443) x1.toNatClampNeg).toNatClampNeg) 2).toInt64 → ah_ext h25 h27 → aok h15 41 r16 (6 : Int32) ∧ ∀ h29 : ah_T, h29 = ah_wJ h27 r16 6 (ah_I h15 (ah_R h (a0 + 2) (ah_I h (a0 + 1443) x1.toNatClampNeg).toNatClampNeg) 3).toInt64 → ah_ext h27 h29 → aok h15 41 r16 (7 : Int32) ∧ ∀ h31 : ah_T, h31 = ah_wJ h29 r16 7 (ah_I h15 (ah_R h (a0 + 2) (ah_I h (a0 + 1443) x1.toNatClampNeg).toNatClampNeg) 1).toInt64 → ah_ext h29 h31 → aok h15 41 r16 (10 : Int32) ∧ ∀ h33 : ah_T, h33 = ah_wJ h31 r16 10 (ah_I h15 (a0 + 1446) x1.toNatClampNeg).toInt64 → ah_ext h31 h33 → MX G mi_X0_asks d 0 [some (rv a0), some (jv (108243466675048 : Int64)), none, some (jv (0 : Int64)), none, some (jv (0 : Int64)), none, some (jv (1000 : Int64)), none, none] [] h33 (Ql fun r35 h34 => ah_ext h33 h34 → Q (some (jv r35)) h34) E) E) E) ∧ (¬ (ah_I h (ah_R h (ah_R h (a0 + 2) (ah_I h (a0 + 1443) x1.toNatClampNeg).toNatClampNeg) 7) ((ah_I h (a0 + 1444) x1.toNatClampNeg) / (52 : Int32)).toNatClampNeg) = 0 → Q (some (jv (0 : Int64))) h))))) : MX G mi_X0_breachOf (d + 1) 0 [some (rv a0), some (iv x1), none, none, none] [] h Q E := by
  refine mx_aload_n dX0_breachOf_0 rfl rfl ?_
  refine mx_get 0 1 (ref := "PrairiePool") cl_0 (Nat.le_of_ble_eq_true rfl) (Or.inl q461) (Or.inl rfl) dX0_breachOf_1 (fv_0_1 _ _) (ly0_k La0_h) ?_
  refine mx_tr (ly0_R_0_1 La0_h) ?_
  refine mx_aload_n dX0_breachOf_4 rfl rfl ?_
  refine mx_get 0 31 (ref := "PrairiePool") cl_0 (Nat.le_of_ble_eq_true rfl) (Or.inl q491) (Or.inl rfl) dX0_breachOf_5 (fv_0_31 _ _) (ly0_k La0_h) ?_
  refine mx_tr (ly0_R_0_31 La0_h) ?_
  refine mx_iload_n dX0_breachOf_8 rfl rfl ?_
  obtain ⟨k1, H⟩ := H
  refine my_iald dX0_breachOf_9 rfl (ly0_A_1443 La0_h k1) ?_
  obtain ⟨k2, H⟩ := H
  refine my_aald 6 dX0_breachOf_10 (by decide) rfl (ly0_A_2 La0_h k2) ?_
  refine mx_astore_n (al' := [some (rv a0), some (iv x1), some (rv (ah_R h (a0 + 2) (ah_I h (a0 + 1443) x1.toNatClampNeg).toNatClampNeg)), none, none]) dX0_breachOf_11 rfl (Nat.le_of_ble_eq_true rfl) rfl ?_
  refine mx_aload_n dX0_breachOf_12 rfl rfl ?_
  refine mx_get 0 32 (ref := "PrairiePool") cl_0 (Nat.le_of_ble_eq_true rfl) (Or.inl q492) (Or.inl rfl) dX0_breachOf_13 (fv_0_32 _ _) (ly0_k La0_h) ?_
  refine mx_tr (ly0_R_0_32 La0_h) ?_
  refine mx_iload_n dX0_breachOf_16 rfl rfl ?_
  refine my_iald dX0_breachOf_17 rfl (ly0_A_1444 La0_h k1) ?_
  refine mx_bipush dX0_breachOf_18 ib_52 ?_
  refine mx_idiv dX0_breachOf_20 (by decide) ?_
  refine mx_istore_n (al' := [some (rv a0), some (iv x1), some (rv (ah_R h (a0 + 2) (ah_I h (a0 + 1443) x1.toNatClampNeg).toNatClampNeg)), some (iv ((ah_I h (a0 + 1444) x1.toNatClampNeg) / (52 : Int32))), none]) dX0_breachOf_21 rfl (Nat.le_of_ble_eq_true rfl) rfl ?_
  refine mx_aload_n dX0_breachOf_22 rfl rfl ?_
  refine mx_iload_n dX0_breachOf_23 rfl rfl ?_
  obtain ⟨k3, H⟩ := H
  refine mx_callV 9 (y' := mi_X9_isSigned) (vs := [iv ((ah_I h (a0 + 1444) x1.toNatClampNeg) / (52 : Int32))]) (st := []) (al' := [some (rv (ah_R h (a0 + 2) (ah_I h (a0 + 1443) x1.toNatClampNeg).toNatClampNeg)), some (iv ((ah_I h (a0 + 1444) x1.toNatClampNeg) / (52 : Int32)))]) cl_9 V_X9_isSigned (Or.inl q1533) dX0_breachOf_24 rfl rfl (Nat.le_of_ble_eq_true rfl) (Nat.le_of_ble_eq_true rfl) k3 ?_
  refine mx_aload_n dX9_isSigned_0 rfl rfl ?_
  refine mx_get 9 4 (ref := "PrairiePool$Farm") cl_9 (Nat.le_of_ble_eq_true rfl) (Or.inl q776) (Or.inl rfl) dX9_isSigned_1 (fv_9_4 _ _) k3 ?_
  refine mx_iconst dX9_isSigned_4 ic_m1 ?_
  refine mx_icmp_eq (tgt := 28) dX9_isSigned_5 rfl (fun c4 => ?_) (fun c4 => ?_)
  · have H := H.1 c4
    refine mx_iconst dX9_isSigned_28 ic_0 ?_
    refine mx_zretK rfl dX9_isSigned_29 (Or.inl rfl) ?_
    refine mx_if_eq (tgt := 39) dX0_breachOf_27 rfl (fun _ => ?_) (fun _ => absurd ‹_› (by decide))
    refine mx_lconst dX0_breachOf_39 lc_0 ?_
    exact mx_lret rfl dX0_breachOf_40 H
  · have H := H.2 c4
    refine mx_aload_n dX9_isSigned_8 rfl rfl ?_
    refine mx_get 9 4 (ref := "PrairiePool$Farm") cl_9 (Nat.le_of_ble_eq_true rfl) (Or.inl q776) (Or.inl rfl) dX9_isSigned_9 (fv_9_4 _ _) k3 ?_
    refine mx_iload_n dX9_isSigned_12 rfl rfl ?_
    refine mx_icmp_gt (tgt := 28) dX9_isSigned_13 rfl (fun c5 => ?_) (fun c5 => ?_)
    · have H := H.1 c5
      refine mx_iconst dX9_isSigned_28 ic_0 ?_
      refine mx_zretK rfl dX9_isSigned_29 (Or.inl rfl) ?_
      refine mx_if_eq (tgt := 39) dX0_breachOf_27 rfl (fun _ => ?_) (fun _ => absurd ‹_› (by decide))
      refine mx_lconst dX0_breachOf_39 lc_0 ?_
      exact mx_lret rfl dX0_breachOf_40 H
    · have H := H.2 c5
      refine mx_iload_n dX9_isSigned_16 rfl rfl ?_
      refine mx_aload_n dX9_isSigned_17 rfl rfl ?_
      refine mx_get 9 5 (ref := "PrairiePool$Farm") cl_9 (Nat.le_of_ble_eq_true rfl) (Or.inl q778) (Or.inl rfl) dX9_isSigned_18 (fv_9_5 _ _) k3 ?_
      refine mx_icmp_gt (tgt := 28) dX9_isSigned_21 rfl (fun c6 => ?_) (fun c6 => ?_)
      · have H := H.1 c6
        refine mx_iconst dX9_isSigned_28 ic_0 ?_
        refine mx_zretK rfl dX9_isSigned_29 (Or.inl rfl) ?_
        refine mx_if_eq (tgt := 39) dX0_breachOf_27 rfl (fun _ => ?_) (fun _ => absurd ‹_› (by decide))
        refine mx_lconst dX0_breachOf_39 lc_0 ?_
        exact mx_lret rfl dX0_breachOf_40 H
      · have H := H.2 c6
        refine mx_iconst dX9_isSigned_24 ic_1 ?_
        refine mx_goto (tgt := 29) dX9_isSigned_25 rfl ?_
        refine mx_zretK rfl dX9_isSigned_29 (Or.inr rfl) ?_
        refine mx_if_eq (tgt := 39) dX0_breachOf_27 rfl (fun _ => absurd ‹_› (by decide)) (fun _ => ?_)
        refine mx_aload_n dX0_breachOf_30 rfl rfl ?_
        refine mx_get 9 7 (ref := "PrairiePool$Farm") cl_9 (Nat.le_of_ble_eq_true rfl) (Or.inr ⟨_, q783⟩) (Or.inl rfl) dX0_breachOf_31 (fv_9_7 _ _) k3 ?_
        refine mx_iload_n dX0_breachOf_34 rfl rfl ?_
        obtain ⟨k7, H⟩ := H
        refine my_zald dX0_breachOf_35 rfl k7 ?_
        refine mx_if_eq (tgt := 41) dX0_breachOf_36 rfl (fun c8 => ?_) (fun c8 => ?_)
        · have H := H.1 c8
          refine mx_aload_n dX0_breachOf_41 rfl rfl ?_
          refine mx_aload_n dX0_breachOf_42 rfl rfl ?_
          refine mx_aload_n dX0_breachOf_43 rfl rfl ?_
          refine mx_get 0 32 (ref := "PrairiePool") cl_0 (Nat.le_of_ble_eq_true rfl) (Or.inl q492) (Or.inl rfl) dX0_breachOf_44 (fv_0_32 _ _) (ly0_k La0_h) ?_
          refine mx_tr (ly0_R_0_32 La0_h) ?_
          refine mx_iload_n dX0_breachOf_47 rfl rfl ?_
          refine my_iald dX0_breachOf_48 rfl (ly0_A_1444 La0_h k1) ?_
          refine mx_callV 0 (y' := mi_X0_lawOf) (vs := [iv (ah_I h (a0 + 1444) x1.toNatClampNeg)]) (st := [rv a0]) (al' := [some (rv a0), some (iv (ah_I h (a0 + 1444) x1.toNatClampNeg)), none, none]) cl_0 V_X0_lawOf (Or.inl q994) dX0_breachOf_49 rfl rfl (Nat.le_of_ble_eq_true rfl) (Nat.le_of_ble_eq_true rfl) (ly0_k La0_h) ?_
          refine ma_kr H (fun r10 h9 Xh9 H => ?_) (fun x1 h1 X1 H => mt_out rfl H)
          have H := H Xh9
          have k11 := Xh9.kd (k3)
          have k12 := ma_aokx Xh9 (k7)
          have k13 := Xh9.kd (k7.1)
          have La0_h9 := La0_h.ext Xh9
          refine mx_putO 0 23 (ref := "PrairiePool") cl_0 (Nat.le_of_ble_eq_true rfl) (Or.inl q483) (Or.inl rfl) dX0_breachOf_52 (Or.inl rfl) rfl (Or.inl rfl) (ly0_k La0_h9) ?_
          refine mx_nmR (ah_ext.wR (Or.inl (by rw [(ly0_k La0_h9)]; rfl))) (fun h14 eh14 Xh14 Kh14 Lh14 => ?_)
          have H := H h14 eh14 Xh14
          have La0_h14 := La0_h9.ext Xh14
          refine mx_aload_n dX0_breachOf_55 rfl rfl ?_
          refine mx_callV 0 (y' := mi_X0_clear) (vs := []) (st := []) (al' := [some (rv a0), none]) cl_0 V_X0_clear (Or.inl q998) dX0_breachOf_56 rfl rfl (Nat.le_of_ble_eq_true rfl) (Nat.le_of_ble_eq_true rfl) (ly0_k La0_h14) ?_
          refine ma_kr H (fun r16 h15 Xh15 H => ?_) (fun x1 h1 X1 H => mt_out rfl H)
          have H := H Xh15
          have k17 := Xh15.kd ((ma_kde Kh14 (k11)))
          have k18 := ma_aokx Xh15 ((ma_aok Kh14 Lh14 (k12)))
          have k19 := Xh15.kd ((ma_kde Kh14 (k13)))
          have La0_h15 := La0_h14.ext Xh15
          refine mx_astore (al' := [some (rv a0), some (iv x1), some (rv (ah_R h (a0 + 2) (ah_I h (a0 + 1443) x1.toNatClampNeg).toNatClampNeg)), some (iv ((ah_I h (a0 + 1444) x1.toNatClampNeg) / (52 : Int32))), some (rv r16)]) dX0_breachOf_59 (Nat.le_of_ble_eq_true rfl) rfl ?_
          refine mx_aload dX0_breachOf_61 rfl ?_
          refine mx_iconst dX0_breachOf_63 ic_2 ?_
          refine mx_aload_n dX0_breachOf_64 rfl rfl ?_
          refine mx_get 0 32 (ref := "PrairiePool") cl_0 (Nat.le_of_ble_eq_true rfl) (Or.inl q492) (Or.inl rfl) dX0_breachOf_65 (fv_0_32 _ _) (ly0_k La0_h15) ?_
          refine mx_tr (ly0_R_0_32 La0_h15) ?_
          refine mx_iload_n dX0_breachOf_68 rfl rfl ?_
          refine my_iald dX0_breachOf_69 rfl (ly0_A_1444 La0_h15 k1) ?_
          refine mx_i2l dX0_breachOf_70 ?_
          obtain ⟨k20, H⟩ := H
          refine my_last dX0_breachOf_71 cn_2 k20 ?_
          refine mx_nmJ  (fun h21 eh21 Xh21 Kh21 Lh21 => ?_)
          have H := H h21 eh21 Xh21
          have La0_h21 := La0_h15.ext Xh21
          refine mx_aload dX0_breachOf_72 rfl ?_
          refine mx_iconst dX0_breachOf_74 ic_3 ?_
          refine mx_iload_n dX0_breachOf_75 rfl rfl ?_
          refine mx_i2l dX0_breachOf_76 ?_
          obtain ⟨k22, H⟩ := H
          refine my_last dX0_breachOf_77 cn_3 (ma_aok Kh21 Lh21 (k22)) ?_
          refine mx_nmJ  (fun h23 eh23 Xh23 Kh23 Lh23 => ?_)
          have H := H h23 eh23 Xh23
          have Kh23 := Kh23.trans Kh21
          have Lh23 := Lh23.trans Lh21
          have La0_h23 := La0_h21.ext Xh23
          refine mx_aload dX0_breachOf_78 rfl ?_
          refine mx_iconst dX0_breachOf_80 ic_4 ?_
          refine mx_aload_n dX0_breachOf_81 rfl rfl ?_
          refine mx_get 0 33 (ref := "PrairiePool") cl_0 (Nat.le_of_ble_eq_true rfl) (Or.inl q493) (Or.inl rfl) dX0_breachOf_82 (fv_0_33 _ _) (ly0_k La0_h23) ?_
          refine mx_tr (ly0_R_0_33 La0_h23) ?_
          refine mx_iload_n dX0_breachOf_85 rfl rfl ?_
          refine my_iald dX0_breachOf_86 rfl (ly0_A_1445 La0_h23 k1) ?_
          refine mx_ti ((ah_IJ eh23).trans (ah_IJ eh21)) ?_
          refine mx_i2l dX0_breachOf_87 ?_
          obtain ⟨k24, H⟩ := H
          refine my_last dX0_breachOf_88 cn_4 (ma_aok Kh23 Lh23 (k24)) ?_
          refine mx_nmJ  (fun h25 eh25 Xh25 Kh25 Lh25 => ?_)
          have H := H h25 eh25 Xh25
          have Kh25 := Kh25.trans Kh23
          have Lh25 := Lh25.trans Lh23
          have La0_h25 := La0_h23.ext Xh25
          refine mx_aload dX0_breachOf_89 rfl ?_
          refine mx_iconst dX0_breachOf_91 ic_5 ?_
          refine mx_aload_n dX0_breachOf_92 rfl rfl ?_
          refine mx_get 9 2 (ref := "PrairiePool$Farm") cl_9 (Nat.le_of_ble_eq_true rfl) (Or.inl q773) (Or.inl rfl) dX0_breachOf_93 (fv_9_2 _ _) (ma_kde Kh25 (k17)) ?_
          refine mx_ti (((ah_IJ eh25).trans (ah_IJ eh23)).trans (ah_IJ eh21)) ?_
          refine mx_i2l dX0_breachOf_96 ?_
          obtain ⟨k26, H⟩ := H
          refine my_last dX0_breachOf_97 cn_5 (ma_aok Kh25 Lh25 (k26)) ?_
          refine mx_nmJ  (fun h27 eh27 Xh27 Kh27 Lh27 => ?_)
          have H := H h27 eh27 Xh27
          have Kh27 := Kh27.trans Kh25
          have Lh27 := Lh27.trans Lh25
          have La0_h27 := La0_h25.ext Xh27
          refine mx_aload dX0_breachOf_98 rfl ?_
          refine mx_bipush dX0_breachOf_100 ib_6 ?_
          refine mx_aload_n dX0_breachOf_102 rfl rfl ?_
          refine mx_get 9 3 (ref := "PrairiePool$Farm") cl_9 (Nat.le_of_ble_eq_true rfl) (Or.inl q775) (Or.inl rfl) dX0_breachOf_103 (fv_9_3 _ _) (ma_kde Kh27 (k17)) ?_
          refine mx_ti ((((ah_IJ eh27).trans (ah_IJ eh25)).trans (ah_IJ eh23)).trans (ah_IJ eh21)) ?_
          refine mx_i2l dX0_breachOf_106 ?_
          obtain ⟨k28, H⟩ := H
          refine my_last dX0_breachOf_107 cn_6 (ma_aok Kh27 Lh27 (k28)) ?_
          refine mx_nmJ  (fun h29 eh29 Xh29 Kh29 Lh29 => ?_)
          have H := H h29 eh29 Xh29
          have Kh29 := Kh29.trans Kh27
          have Lh29 := Lh29.trans Lh27
          have La0_h29 := La0_h27.ext Xh29
          refine mx_aload dX0_breachOf_108 rfl ?_
          refine mx_bipush dX0_breachOf_110 ib_7 ?_
          refine mx_aload_n dX0_breachOf_112 rfl rfl ?_
          refine mx_get 9 1 (ref := "PrairiePool$Farm") cl_9 (Nat.le_of_ble_eq_true rfl) (Or.inl q771) (Or.inl rfl) dX0_breachOf_113 (fv_9_1 _ _) (ma_kde Kh29 (k17)) ?_
          refine mx_ti (((((ah_IJ eh29).trans (ah_IJ eh27)).trans (ah_IJ eh25)).trans (ah_IJ eh23)).trans (ah_IJ eh21)) ?_
          refine mx_i2l dX0_breachOf_116 ?_
          obtain ⟨k30, H⟩ := H
          refine my_last dX0_breachOf_117 cn_7 (ma_aok Kh29 Lh29 (k30)) ?_
          refine mx_nmJ  (fun h31 eh31 Xh31 Kh31 Lh31 => ?_)
          have H := H h31 eh31 Xh31
          have Kh31 := Kh31.trans Kh29
          have Lh31 := Lh31.trans Lh29
          have La0_h31 := La0_h29.ext Xh31
          refine mx_aload dX0_breachOf_118 rfl ?_
          refine mx_bipush dX0_breachOf_120 ib_10 ?_
          refine mx_aload_n dX0_breachOf_122 rfl rfl ?_
          refine mx_get 0 34 (ref := "PrairiePool") cl_0 (Nat.le_of_ble_eq_true rfl) (Or.inl q494) (Or.inl rfl) dX0_breachOf_123 (fv_0_34 _ _) (ly0_k La0_h31) ?_
          refine mx_tr (ly0_R_0_34 La0_h31) ?_
          refine mx_iload_n dX0_breachOf_126 rfl rfl ?_
          refine my_iald dX0_breachOf_127 rfl (ly0_A_1446 La0_h31 k1) ?_
          refine mx_ti ((((((ah_IJ eh31).trans (ah_IJ eh29)).trans (ah_IJ eh27)).trans (ah_IJ eh25)).trans (ah_IJ eh23)).trans (ah_IJ eh21)) ?_
          refine mx_i2l dX0_breachOf_128 ?_
          obtain ⟨k32, H⟩ := H
          refine my_last dX0_breachOf_129 cn_10 (ma_aok Kh31 Lh31 (k32)) ?_
          refine mx_nmJ  (fun h33 eh33 Xh33 Kh33 Lh33 => ?_)
          have H := H h33 eh33 Xh33
          have Kh33 := Kh33.trans Kh31
          have Lh33 := Lh33.trans Lh31
          have La0_h33 := La0_h31.ext Xh33
          refine mx_aload_n dX0_breachOf_130 rfl rfl ?_
          refine mx_ldc2 q1537 dX0_breachOf_131 ?_
          refine mx_lconst dX0_breachOf_134 lc_0 ?_
          refine mx_lconst dX0_breachOf_135 lc_0 ?_
          refine mx_ldc2 q836 dX0_breachOf_136 ?_
          refine mx_callV 0 (y' := mi_X0_asks) (vs := [jv (108243466675048 : Int64), jv (0 : Int64), jv (0 : Int64), jv (1000 : Int64)]) (st := []) (al' := [some (rv a0), some (jv (108243466675048 : Int64)), none, some (jv (0 : Int64)), none, some (jv (0 : Int64)), none, some (jv (1000 : Int64)), none, none]) cl_0 V_X0_asks (Or.inl q1015) dX0_breachOf_139 rfl rfl (Nat.le_of_ble_eq_true rfl) (Nat.le_of_ble_eq_true rfl) (ly0_k La0_h33) ?_
          refine ma_kl H (fun r35 h34 Xh34 H => ?_) (fun x1 h1 X1 H => mt_out rfl H)
          have H := H Xh34
          have k36 := Xh34.kd ((ma_kde Kh33 (k17)))
          have k37 := ma_aokx Xh34 ((ma_aok Kh33 Lh33 (k18)))
          have k38 := Xh34.kd ((ma_kde Kh33 (k19)))
          have k39 := ma_aokx Xh34 ((ma_aok Kh33 Lh33 (k20)))
          have k40 := Xh34.kd ((ma_kde Kh33 (k20.1)))
          have k41 := ma_aokx Xh34 ((ma_aok Kh33 Lh33 (k22)))
          have k42 := ma_aokx Xh34 ((ma_aok Kh33 Lh33 (k24)))
          have k43 := ma_aokx Xh34 ((ma_aok Kh33 Lh33 (k26)))
          have k44 := ma_aokx Xh34 ((ma_aok Kh33 Lh33 (k28)))
          have k45 := ma_aokx Xh34 ((ma_aok Kh33 Lh33 (k30)))
          have k46 := ma_aokx Xh34 ((ma_aok Kh33 Lh33 (k32)))
          have La0_h34 := La0_h33.ext Xh34
          exact mx_lret rfl dX0_breachOf_142 H
        · have H := H.2 c8
          refine mx_lconst dX0_breachOf_39 lc_0 ?_
          exact mx_lret rfl dX0_breachOf_40 H
theorem dX0_cost_0 : decode mi_X0_cost.2.1 0 = .ok (.aload_n 0, 1) := by decide +kernel
theorem dX0_cost_1 : decode mi_X0_cost.2.1 1 = .ok (.iload_n 1, 1) := by decide +kernel
theorem dX0_cost_2 : decode mi_X0_cost.2.1 2 = .ok (.invokevirtual 275, 3) := by decide +kernel
theorem dX0_cost_5 : decode mi_X0_cost.2.1 5 = .ok (.ifCond .ne 10, 3) := by decide +kernel
theorem dX0_cost_8 : decode mi_X0_cost.2.1 8 = .ok (.aload_n 0, 1) := by decide +kernel
theorem dX0_cost_9 : decode mi_X0_cost.2.1 9 = .ok (.iconst 2, 1) := by decide +kernel
theorem dX0_cost_10 : decode mi_X0_cost.2.1 10 = .ok (.invokevirtual 205, 3) := by decide +kernel
theorem dX0_cost_13 : decode mi_X0_cost.2.1 13 = .ok (.i2l, 1) := by decide +kernel
theorem dX0_cost_14 : decode mi_X0_cost.2.1 14 = .ok (.lreturn, 1) := by decide +kernel
theorem dX0_cost_15 : decode mi_X0_cost.2.1 15 = .ok (.iload_n 2, 1) := by decide +kernel
theorem dX0_cost_16 : decode mi_X0_cost.2.1 16 = .ok (.invokestatic 304, 3) := by decide +kernel
theorem dX0_cost_19 : decode mi_X0_cost.2.1 19 = .ok (.ifCond .ne 10, 3) := by decide +kernel
theorem dX0_cost_22 : decode mi_X0_cost.2.1 22 = .ok (.aload_n 0, 1) := by decide +kernel
theorem dX0_cost_23 : decode mi_X0_cost.2.1 23 = .ok (.iconst 5, 1) := by decide +kernel
theorem dX0_cost_24 : decode mi_X0_cost.2.1 24 = .ok (.invokevirtual 205, 3) := by decide +kernel
theorem dX0_cost_27 : decode mi_X0_cost.2.1 27 = .ok (.i2l, 1) := by decide +kernel
theorem dX0_cost_28 : decode mi_X0_cost.2.1 28 = .ok (.lreturn, 1) := by decide +kernel
theorem dX0_cost_29 : decode mi_X0_cost.2.1 29 = .ok (.lconst 0, 1) := by decide +kernel
theorem dX0_cost_30 : decode mi_X0_cost.2.1 30 = .ok (.lstore_n 3, 1) := by decide +kernel
theorem dX0_cost_31 : decode mi_X0_cost.2.1 31 = .ok (.iconst 0, 1) := by decide +kernel
theorem dX0_cost_32 : decode mi_X0_cost.2.1 32 = .ok (.istore 5, 2) := by decide +kernel
theorem dX0_cost_34 : decode mi_X0_cost.2.1 34 = .ok (.iload 5, 2) := by decide +kernel
theorem dX0_cost_36 : decode mi_X0_cost.2.1 36 = .ok (.aload_n 0, 1) := by decide +kernel
theorem dX0_cost_37 : decode mi_X0_cost.2.1 37 = .ok (.getfield 537, 3) := by decide +kernel
theorem dX0_cost_40 : decode mi_X0_cost.2.1 40 = .ok (.if_icmp .ge 52, 3) := by decide +kernel
theorem dX0_cost_43 : decode mi_X0_cost.2.1 43 = .ok (.aload_n 0, 1) := by decide +kernel
theorem dX0_cost_44 : decode mi_X0_cost.2.1 44 = .ok (.getfield 112, 3) := by decide +kernel
theorem dX0_cost_47 : decode mi_X0_cost.2.1 47 = .ok (.iload 5, 2) := by decide +kernel
theorem dX0_cost_49 : decode mi_X0_cost.2.1 49 = .ok (.iaload, 1) := by decide +kernel
theorem dX0_cost_50 : decode mi_X0_cost.2.1 50 = .ok (.iload_n 1, 1) := by decide +kernel
theorem dX0_cost_51 : decode mi_X0_cost.2.1 51 = .ok (.if_icmp .ne 35, 3) := by decide +kernel
theorem dX0_cost_54 : decode mi_X0_cost.2.1 54 = .ok (.aload_n 0, 1) := by decide +kernel
theorem dX0_cost_55 : decode mi_X0_cost.2.1 55 = .ok (.getfield 115, 3) := by decide +kernel
theorem dX0_cost_58 : decode mi_X0_cost.2.1 58 = .ok (.iload 5, 2) := by decide +kernel
theorem dX0_cost_60 : decode mi_X0_cost.2.1 60 = .ok (.iaload, 1) := by decide +kernel
theorem dX0_cost_61 : decode mi_X0_cost.2.1 61 = .ok (.bipush 52, 2) := by decide +kernel
theorem dX0_cost_63 : decode mi_X0_cost.2.1 63 = .ok (.idiv, 1) := by decide +kernel
theorem dX0_cost_64 : decode mi_X0_cost.2.1 64 = .ok (.iload_n 2, 1) := by decide +kernel
theorem dX0_cost_65 : decode mi_X0_cost.2.1 65 = .ok (.if_icmp .ne 21, 3) := by decide +kernel
theorem dX0_cost_68 : decode mi_X0_cost.2.1 68 = .ok (.lload_n 3, 1) := by decide +kernel
theorem dX0_cost_69 : decode mi_X0_cost.2.1 69 = .ok (.aload_n 0, 1) := by decide +kernel
theorem dX0_cost_70 : decode mi_X0_cost.2.1 70 = .ok (.iload 5, 2) := by decide +kernel
theorem dX0_cost_72 : decode mi_X0_cost.2.1 72 = .ok (.invokevirtual 551, 3) := by decide +kernel
theorem dX0_cost_75 : decode mi_X0_cost.2.1 75 = .ok (.aload_n 0, 1) := by decide +kernel
theorem dX0_cost_76 : decode mi_X0_cost.2.1 76 = .ok (.getfield 118, 3) := by decide +kernel
theorem dX0_cost_79 : decode mi_X0_cost.2.1 79 = .ok (.iload 5, 2) := by decide +kernel
theorem dX0_cost_81 : decode mi_X0_cost.2.1 81 = .ok (.iaload, 1) := by decide +kernel
theorem dX0_cost_82 : decode mi_X0_cost.2.1 82 = .ok (.i2l, 1) := by decide +kernel
theorem dX0_cost_83 : decode mi_X0_cost.2.1 83 = .ok (.lmul, 1) := by decide +kernel
theorem dX0_cost_84 : decode mi_X0_cost.2.1 84 = .ok (.ladd, 1) := by decide +kernel
theorem dX0_cost_85 : decode mi_X0_cost.2.1 85 = .ok (.lstore_n 3, 1) := by decide +kernel
theorem dX0_cost_86 : decode mi_X0_cost.2.1 86 = .ok (.iinc 5 1, 3) := by decide +kernel
theorem dX0_cost_89 : decode mi_X0_cost.2.1 89 = .ok (.goto (-55), 3) := by decide +kernel
theorem dX0_cost_92 : decode mi_X0_cost.2.1 92 = .ok (.aload_n 0, 1) := by decide +kernel
theorem dX0_cost_93 : decode mi_X0_cost.2.1 93 = .ok (.lload_n 3, 1) := by decide +kernel
theorem dX0_cost_94 : decode mi_X0_cost.2.1 94 = .ok (.invokevirtual 508, 3) := by decide +kernel
theorem dX0_cost_97 : decode mi_X0_cost.2.1 97 = .ok (.lreturn, 1) := by decide +kernel
theorem v_X0_cost {G : ma_G} {d : Nat} {a0 : Nat} {x1 : Int32} {x2 : Int32} {h : ah_T} {Q : Option ma_V → ah_T → Prop} {E : Nat → ah_T → Prop} (La0_h : LY0 h a0) (H : (x1 < 0 → ∀ h2 : ah_T, h2 = ah_wI h a0 20 (2 : Int32) → ah_ext h h2 → Q (some (jv (-1 : Int32).toInt64)) h2) ∧ (¬ x1 < 0 → ((ah_I h a0 14) ≤ x1 → ∀ h4 : ah_T, h4 = ah_wI h a0 20 (2 : Int32) → ah_ext h h4 → Q (some (jv (-1 : Int32).toInt64)) h4) ∧ (¬ (ah_I h a0 14) ≤ x1 → (x2 < 0 → ∀ h6 : ah_T, h6 = ah_wI h a0 20 (5 : Int32) → ah_ext h h6 → Q (some (jv (-1 : Int32).toInt64)) h6) ∧ (¬ x2 < 0 → ((10 : Int32) ≤ x2 → ∀ h8 : ah_T, h8 = ah_wI h a0 20 (5 : Int32) → ah_ext h h8 → Q (some (jv (-1 : Int32).toInt64)) h8) ∧ (¬ (10 : Int32) ≤ x2 → MX G mi_X0_cost (d + 1) 34 [some (rv a0), some (iv x1), some (iv x2), some (jv (0 : Int64)), none, some (iv (0 : Int32))] [] h Q E))))) : MX G mi_X0_cost (d + 1) 0 [some (rv a0), some (iv x1), some (iv x2), none, none, none] [] h Q E := by
  refine mx_aload_n dX0_cost_0 rfl rfl ?_
  refine mx_iload_n dX0_cost_1 rfl rfl ?_
  refine mx_callV 0 (y' := mi_X0_isFarm) (vs := [iv x1]) (st := []) (al' := [some (rv a0), some (iv x1)]) cl_0 V_X0_isFarm (Or.inl q827) dX0_cost_2 rfl rfl (Nat.le_of_ble_eq_true rfl) (Nat.le_of_ble_eq_true rfl) (ly0_k La0_h) ?_
  refine mx_iload_n dX0_isFarm_0 rfl rfl ?_
  refine mx_if_lt (tgt := 16) dX0_isFarm_1 rfl (fun c1 => ?_) (fun c1 => ?_)
  · have H := H.1 c1
    refine mx_iconst dX0_isFarm_16 ic_0 ?_
    refine mx_zretK rfl dX0_isFarm_17 (Or.inl rfl) ?_
    refine mx_if_ne (tgt := 15) dX0_cost_5 rfl (fun _ => absurd ‹_› (by decide)) (fun _ => ?_)
    refine mx_aload_n dX0_cost_8 rfl rfl ?_
    refine mx_iconst dX0_cost_9 ic_2 ?_
    refine mx_callV 0 (y' := mi_X0_none) (vs := [iv (2 : Int32)]) (st := []) (al' := [some (rv a0), some (iv (2 : Int32))]) cl_0 V_X0_none (Or.inl q733) dX0_cost_10 rfl rfl (Nat.le_of_ble_eq_true rfl) (Nat.le_of_ble_eq_true rfl) (ly0_k La0_h) ?_
    refine mx_aload_n dX0_none_0 rfl rfl ?_
    refine mx_iload_n dX0_none_1 rfl rfl ?_
    refine mx_putI 0 20 (ref := "PrairiePool") cl_0 (Nat.le_of_ble_eq_true rfl) (Or.inl q480) (Or.inl rfl) dX0_none_2 (Or.inl rfl) rfl (ly0_k La0_h) ?_
    refine mx_nmI  (fun h2 eh2 Xh2 Kh2 Lh2 => ?_)
    have H := H h2 eh2 Xh2
    have La0_h2 := La0_h.ext Xh2
    refine mx_iconst dX0_none_5 ic_m1 ?_
    refine mx_iretK rfl dX0_none_6 ?_
    refine mx_i2l dX0_cost_13 ?_
    exact mx_lret rfl dX0_cost_14 H
  · have H := H.2 c1
    refine mx_iload_n dX0_isFarm_4 rfl rfl ?_
    refine mx_aload_n dX0_isFarm_5 rfl rfl ?_
    refine mx_get 0 14 (ref := "PrairiePool") cl_0 (Nat.le_of_ble_eq_true rfl) (Or.inl q474) (Or.inl rfl) dX0_isFarm_6 (fv_0_14 _ _) (ly0_k La0_h) ?_
    refine mx_icmp_ge (tgt := 16) dX0_isFarm_9 rfl (fun c3 => ?_) (fun c3 => ?_)
    · have H := H.1 c3
      refine mx_iconst dX0_isFarm_16 ic_0 ?_
      refine mx_zretK rfl dX0_isFarm_17 (Or.inl rfl) ?_
      refine mx_if_ne (tgt := 15) dX0_cost_5 rfl (fun _ => absurd ‹_› (by decide)) (fun _ => ?_)
      refine mx_aload_n dX0_cost_8 rfl rfl ?_
      refine mx_iconst dX0_cost_9 ic_2 ?_
      refine mx_callV 0 (y' := mi_X0_none) (vs := [iv (2 : Int32)]) (st := []) (al' := [some (rv a0), some (iv (2 : Int32))]) cl_0 V_X0_none (Or.inl q733) dX0_cost_10 rfl rfl (Nat.le_of_ble_eq_true rfl) (Nat.le_of_ble_eq_true rfl) (ly0_k La0_h) ?_
      refine mx_aload_n dX0_none_0 rfl rfl ?_
      refine mx_iload_n dX0_none_1 rfl rfl ?_
      refine mx_putI 0 20 (ref := "PrairiePool") cl_0 (Nat.le_of_ble_eq_true rfl) (Or.inl q480) (Or.inl rfl) dX0_none_2 (Or.inl rfl) rfl (ly0_k La0_h) ?_
      refine mx_nmI  (fun h4 eh4 Xh4 Kh4 Lh4 => ?_)
      have H := H h4 eh4 Xh4
      have La0_h4 := La0_h.ext Xh4
      refine mx_iconst dX0_none_5 ic_m1 ?_
      refine mx_iretK rfl dX0_none_6 ?_
      refine mx_i2l dX0_cost_13 ?_
      exact mx_lret rfl dX0_cost_14 H
    · have H := H.2 c3
      refine mx_iconst dX0_isFarm_12 ic_1 ?_
      refine mx_goto (tgt := 17) dX0_isFarm_13 rfl ?_
      refine mx_zretK rfl dX0_isFarm_17 (Or.inr rfl) ?_
      refine mx_if_ne (tgt := 15) dX0_cost_5 rfl (fun _ => ?_) (fun _ => absurd ‹_› (by decide))
      refine mx_iload_n dX0_cost_15 rfl rfl ?_
      refine mx_callS (y' := mi_X0_isYear) (vs := [iv x2]) (st := []) (al' := [some (iv x2)]) S_X0_isYear q896 dX0_cost_16 rfl rfl (Nat.le_of_ble_eq_true rfl) (Nat.le_of_ble_eq_true rfl) ?_
      refine mx_iload_n dX0_isYear_0 rfl rfl ?_
      refine mx_if_lt (tgt := 14) dX0_isYear_1 rfl (fun c5 => ?_) (fun c5 => ?_)
      · have H := H.1 c5
        refine mx_iconst dX0_isYear_14 ic_0 ?_
        refine mx_zretK rfl dX0_isYear_15 (Or.inl rfl) ?_
        refine mx_if_ne (tgt := 29) dX0_cost_19 rfl (fun _ => absurd ‹_› (by decide)) (fun _ => ?_)
        refine mx_aload_n dX0_cost_22 rfl rfl ?_
        refine mx_iconst dX0_cost_23 ic_5 ?_
        refine mx_callV 0 (y' := mi_X0_none) (vs := [iv (5 : Int32)]) (st := []) (al' := [some (rv a0), some (iv (5 : Int32))]) cl_0 V_X0_none (Or.inl q733) dX0_cost_24 rfl rfl (Nat.le_of_ble_eq_true rfl) (Nat.le_of_ble_eq_true rfl) (ly0_k La0_h) ?_
        refine mx_aload_n dX0_none_0 rfl rfl ?_
        refine mx_iload_n dX0_none_1 rfl rfl ?_
        refine mx_putI 0 20 (ref := "PrairiePool") cl_0 (Nat.le_of_ble_eq_true rfl) (Or.inl q480) (Or.inl rfl) dX0_none_2 (Or.inl rfl) rfl (ly0_k La0_h) ?_
        refine mx_nmI  (fun h6 eh6 Xh6 Kh6 Lh6 => ?_)
        have H := H h6 eh6 Xh6
        have La0_h6 := La0_h.ext Xh6
        refine mx_iconst dX0_none_5 ic_m1 ?_
        refine mx_iretK rfl dX0_none_6 ?_
        refine mx_i2l dX0_cost_27 ?_
        exact mx_lret rfl dX0_cost_28 H
      · have H := H.2 c5
        refine mx_iload_n dX0_isYear_4 rfl rfl ?_
        refine mx_bipush dX0_isYear_5 ib_10 ?_
        refine mx_icmp_ge (tgt := 14) dX0_isYear_7 rfl (fun c7 => ?_) (fun c7 => ?_)
        · have H := H.1 c7
          refine mx_iconst dX0_isYear_14 ic_0 ?_
          refine mx_zretK rfl dX0_isYear_15 (Or.inl rfl) ?_
          refine mx_if_ne (tgt := 29) dX0_cost_19 rfl (fun _ => absurd ‹_› (by decide)) (fun _ => ?_)
          refine mx_aload_n dX0_cost_22 rfl rfl ?_
          refine mx_iconst dX0_cost_23 ic_5 ?_
          refine mx_callV 0 (y' := mi_X0_none) (vs := [iv (5 : Int32)]) (st := []) (al' := [some (rv a0), some (iv (5 : Int32))]) cl_0 V_X0_none (Or.inl q733) dX0_cost_24 rfl rfl (Nat.le_of_ble_eq_true rfl) (Nat.le_of_ble_eq_true rfl) (ly0_k La0_h) ?_
          refine mx_aload_n dX0_none_0 rfl rfl ?_
          refine mx_iload_n dX0_none_1 rfl rfl ?_
          refine mx_putI 0 20 (ref := "PrairiePool") cl_0 (Nat.le_of_ble_eq_true rfl) (Or.inl q480) (Or.inl rfl) dX0_none_2 (Or.inl rfl) rfl (ly0_k La0_h) ?_
          refine mx_nmI  (fun h8 eh8 Xh8 Kh8 Lh8 => ?_)
          have H := H h8 eh8 Xh8
          have La0_h8 := La0_h.ext Xh8
          refine mx_iconst dX0_none_5 ic_m1 ?_
          refine mx_iretK rfl dX0_none_6 ?_
          refine mx_i2l dX0_cost_27 ?_
          exact mx_lret rfl dX0_cost_28 H
        · have H := H.2 c7
          refine mx_iconst dX0_isYear_10 ic_1 ?_
          refine mx_goto (tgt := 15) dX0_isYear_11 rfl ?_
          refine mx_zretK rfl dX0_isYear_15 (Or.inr rfl) ?_
          refine mx_if_ne (tgt := 29) dX0_cost_19 rfl (fun _ => ?_) (fun _ => absurd ‹_› (by decide))
          refine mx_lconst dX0_cost_29 lc_0 ?_
          refine mx_lstore_n (al' := [some (rv a0), some (iv x1), some (iv x2), some (jv (0 : Int64)), none, none]) dX0_cost_30 rfl (Nat.le_of_ble_eq_true rfl) rfl ?_
          refine mx_iconst dX0_cost_31 ic_0 ?_
          refine mx_istore (al' := [some (rv a0), some (iv x1), some (iv x2), some (jv (0 : Int64)), none, some (iv (0 : Int32))]) dX0_cost_32 (Nat.le_of_ble_eq_true rfl) rfl ?_
          exact mx_weak (al' := [some (rv a0), some (iv x1), some (iv x2), some (jv (0 : Int64)), none, some (iv (0 : Int32))]) ⟨rfl, ⟨rfl, ⟨rfl, ⟨rfl, ⟨rfl, trivial⟩⟩⟩⟩⟩ H
theorem v_X0_cost_34 {G : ma_G} {d : Nat} {a0 : Nat} {x1 : Int32} {x2 : Int32} {x3 : Int64} {x5 : Int32} {h : ah_T} {Q : Option ma_V → ah_T → Prop} {E : Nat → ah_T → Prop} (La0_h : LY0 h a0) (H : ((ah_I h a0 36) ≤ x5 → ∀ h2 : ah_T, h2 = ah_wI h a0 20 (0 : Int32) → ah_ext h h2 → Q (some (jv x3)) h2) ∧ (¬ (ah_I h a0 36) ≤ x5 → vp_in x5 60 ∧ (¬ (ah_I h (a0 + 1443) x5.toNatClampNeg) = x1 → MX G mi_X0_cost (d + 1) 34 [some (rv a0), some (iv x1), some (iv x2), some (jv x3), none, some (iv (x5 + (1 : Int32)))] [] h Q E) ∧ ((ah_I h (a0 + 1443) x5.toNatClampNeg) = x1 → (¬ ((ah_I h (a0 + 1444) x5.toNatClampNeg) / (52 : Int32)) = x2 → MX G mi_X0_cost (d + 1) 34 [some (rv a0), some (iv x1), some (iv x2), some (jv x3), none, some (iv (x5 + (1 : Int32)))] [] h Q E) ∧ (((ah_I h (a0 + 1444) x5.toNatClampNeg) / (52 : Int32)) = x2 → MX G mi_X0_breachOf d 0 [some (rv a0), some (iv x5), none, none, none] [] h (Ql fun r7 h6 => ah_ext h h6 → MX G mi_X0_cost (d + 1) 34 [some (rv a0), some (iv x1), some (iv x2), some (jv (x3 + (r7 * (ah_I h6 (a0 + 1445) x5.toNatClampNeg).toInt64))), none, some (iv (x5 + (1 : Int32)))] [] h6 Q E) E)))) : MX G mi_X0_cost (d + 1) 34 [some (rv a0), some (iv x1), some (iv x2), some (jv x3), none, some (iv x5)] [] h Q E := by
  refine mx_iload dX0_cost_34 rfl ?_
  refine mx_aload_n dX0_cost_36 rfl rfl ?_
  refine mx_get 0 36 (ref := "PrairiePool") cl_0 (Nat.le_of_ble_eq_true rfl) (Or.inl q496) (Or.inl rfl) dX0_cost_37 (fv_0_36 _ _) (ly0_k La0_h) ?_
  refine mx_icmp_ge (tgt := 92) dX0_cost_40 rfl (fun c1 => ?_) (fun c1 => ?_)
  · have H := H.1 c1
    refine mx_aload_n dX0_cost_92 rfl rfl ?_
    refine mx_lload_n dX0_cost_93 rfl rfl ?_
    refine mx_callV 0 (y' := mi_X0_givesLong) (vs := [jv x3]) (st := []) (al' := [some (rv a0), some (jv x3), none]) cl_0 V_X0_givesLong (Or.inl q1471) dX0_cost_94 rfl rfl (Nat.le_of_ble_eq_true rfl) (Nat.le_of_ble_eq_true rfl) (ly0_k La0_h) ?_
    refine mx_aload_n dX0_givesLong_0 rfl rfl ?_
    refine mx_iconst dX0_givesLong_1 ic_0 ?_
    refine mx_putI 0 20 (ref := "PrairiePool") cl_0 (Nat.le_of_ble_eq_true rfl) (Or.inl q480) (Or.inl rfl) dX0_givesLong_2 (Or.inl rfl) rfl (ly0_k La0_h) ?_
    refine mx_nmI  (fun h2 eh2 Xh2 Kh2 Lh2 => ?_)
    have H := H h2 eh2 Xh2
    have La0_h2 := La0_h.ext Xh2
    refine mx_lload_n dX0_givesLong_5 rfl rfl ?_
    refine mx_lretK rfl dX0_givesLong_6 ?_
    exact mx_lret rfl dX0_cost_97 H
  · have H := H.2 c1
    refine mx_aload_n dX0_cost_43 rfl rfl ?_
    refine mx_get 0 31 (ref := "PrairiePool") cl_0 (Nat.le_of_ble_eq_true rfl) (Or.inl q491) (Or.inl rfl) dX0_cost_44 (fv_0_31 _ _) (ly0_k La0_h) ?_
    refine mx_tr (ly0_R_0_31 La0_h) ?_
    refine mx_iload dX0_cost_47 rfl ?_
    obtain ⟨k3, H⟩ := H
    refine my_iald dX0_cost_49 rfl (ly0_A_1443 La0_h k3) ?_
    refine mx_iload_n dX0_cost_50 rfl rfl ?_
    refine mx_icmp_ne (tgt := 86) dX0_cost_51 rfl (fun c4 => ?_) (fun c4 => ?_)
    · have H := H.1 c4
      refine mx_iinc (al' := [some (rv a0), some (iv x1), some (iv x2), some (jv x3), none, some (iv (x5 + (1 : Int32)))]) dX0_cost_86 rfl ic_1 rfl ?_
      refine mx_goto (tgt := 34) dX0_cost_89 rfl ?_
      exact mx_weak (al' := [some (rv a0), some (iv x1), some (iv x2), some (jv x3), none, some (iv (x5 + (1 : Int32)))]) ⟨rfl, ⟨rfl, ⟨rfl, ⟨rfl, ⟨rfl, trivial⟩⟩⟩⟩⟩ H
    · have H := H.2 c4
      refine mx_aload_n dX0_cost_54 rfl rfl ?_
      refine mx_get 0 32 (ref := "PrairiePool") cl_0 (Nat.le_of_ble_eq_true rfl) (Or.inl q492) (Or.inl rfl) dX0_cost_55 (fv_0_32 _ _) (ly0_k La0_h) ?_
      refine mx_tr (ly0_R_0_32 La0_h) ?_
      refine mx_iload dX0_cost_58 rfl ?_
      refine my_iald dX0_cost_60 rfl (ly0_A_1444 La0_h k3) ?_
      refine mx_bipush dX0_cost_61 ib_52 ?_
      refine mx_idiv dX0_cost_63 (by decide) ?_
      refine mx_iload_n dX0_cost_64 rfl rfl ?_
      refine mx_icmp_ne (tgt := 86) dX0_cost_65 rfl (fun c5 => ?_) (fun c5 => ?_)
      · have H := H.1 c5
        refine mx_iinc (al' := [some (rv a0), some (iv x1), some (iv x2), some (jv x3), none, some (iv (x5 + (1 : Int32)))]) dX0_cost_86 rfl ic_1 rfl ?_
        refine mx_goto (tgt := 34) dX0_cost_89 rfl ?_
        exact mx_weak (al' := [some (rv a0), some (iv x1), some (iv x2), some (jv x3), none, some (iv (x5 + (1 : Int32)))]) ⟨rfl, ⟨rfl, ⟨rfl, ⟨rfl, ⟨rfl, trivial⟩⟩⟩⟩⟩ H
      · have H := H.2 c5
        refine mx_lload_n dX0_cost_68 rfl rfl ?_
        refine mx_aload_n dX0_cost_69 rfl rfl ?_
        refine mx_iload dX0_cost_70 rfl ?_
        refine mx_callV 0 (y' := mi_X0_breachOf) (vs := [iv x5]) (st := [jv x3]) (al' := [some (rv a0), some (iv x5), none, none, none]) cl_0 V_X0_breachOf (Or.inl q1529) dX0_cost_72 rfl rfl (Nat.le_of_ble_eq_true rfl) (Nat.le_of_ble_eq_true rfl) (ly0_k La0_h) ?_
        refine ma_kl H (fun r7 h6 Xh6 H => ?_) (fun x1 h1 X1 H => mt_out rfl H)
        have H := H Xh6
        have La0_h6 := La0_h.ext Xh6
        refine mx_aload_n dX0_cost_75 rfl rfl ?_
        refine mx_get 0 33 (ref := "PrairiePool") cl_0 (Nat.le_of_ble_eq_true rfl) (Or.inl q493) (Or.inl rfl) dX0_cost_76 (fv_0_33 _ _) (ly0_k La0_h6) ?_
        refine mx_tr (ly0_R_0_33 La0_h6) ?_
        refine mx_iload dX0_cost_79 rfl ?_
        refine my_iald dX0_cost_81 rfl (ly0_A_1445 La0_h6 k3) ?_
        refine mx_i2l dX0_cost_82 ?_
        refine mx_lmul dX0_cost_83 ?_
        refine mx_ladd dX0_cost_84 ?_
        refine mx_lstore_n (al' := [some (rv a0), some (iv x1), some (iv x2), some (jv (x3 + (r7 * (ah_I h6 (a0 + 1445) x5.toNatClampNeg).toInt64))), none, some (iv x5)]) dX0_cost_85 rfl (Nat.le_of_ble_eq_true rfl) rfl ?_
        refine mx_iinc (al' := [some (rv a0), some (iv x1), some (iv x2), some (jv (x3 + (r7 * (ah_I h6 (a0 + 1445) x5.toNatClampNeg).toInt64))), none, some (iv (x5 + (1 : Int32)))]) dX0_cost_86 rfl ic_1 rfl ?_
        refine mx_goto (tgt := 34) dX0_cost_89 rfl ?_
        exact mx_weak (al' := [some (rv a0), some (iv x1), some (iv x2), some (jv (x3 + (r7 * (ah_I h6 (a0 + 1445) x5.toNatClampNeg).toInt64))), none, some (iv (x5 + (1 : Int32)))]) ⟨rfl, ⟨rfl, ⟨rfl, ⟨rfl, ⟨rfl, trivial⟩⟩⟩⟩⟩ H
theorem dX0_price_0 : decode mi_X0_price.2.1 0 = .ok (.iload_n 1, 1) := by decide +kernel
theorem dX0_price_1 : decode mi_X0_price.2.1 1 = .ok (.invokestatic 260, 3) := by decide +kernel
theorem dX0_price_4 : decode mi_X0_price.2.1 4 = .ok (.ifCond .eq 15, 3) := by decide +kernel
theorem dX0_price_7 : decode mi_X0_price.2.1 7 = .ok (.iload_n 2, 1) := by decide +kernel
theorem dX0_price_8 : decode mi_X0_price.2.1 8 = .ok (.i2l, 1) := by decide +kernel
theorem dX0_price_9 : decode mi_X0_price.2.1 9 = .ok (.lconst 0, 1) := by decide +kernel
theorem dX0_price_10 : decode mi_X0_price.2.1 10 = .ok (.ldc2_w 283, 3) := by decide +kernel
theorem dX0_price_13 : decode mi_X0_price.2.1 13 = .ok (.invokestatic 241, 3) := by decide +kernel
theorem dX0_price_16 : decode mi_X0_price.2.1 16 = .ok (.ifCond .ne 9, 3) := by decide +kernel
theorem dX0_price_19 : decode mi_X0_price.2.1 19 = .ok (.aload_n 0, 1) := by decide +kernel
theorem dX0_price_20 : decode mi_X0_price.2.1 20 = .ok (.iconst 5, 1) := by decide +kernel
theorem dX0_price_21 : decode mi_X0_price.2.1 21 = .ok (.invokevirtual 188, 3) := by decide +kernel
theorem dX0_price_24 : decode mi_X0_price.2.1 24 = .ok (.ireturn, 1) := by decide +kernel
theorem dX0_price_25 : decode mi_X0_price.2.1 25 = .ok (.aload_n 0, 1) := by decide +kernel
theorem dX0_price_26 : decode mi_X0_price.2.1 26 = .ok (.getfield 124, 3) := by decide +kernel
theorem dX0_price_29 : decode mi_X0_price.2.1 29 = .ok (.iload_n 1, 1) := by decide +kernel
theorem dX0_price_30 : decode mi_X0_price.2.1 30 = .ok (.iload_n 2, 1) := by decide +kernel
theorem dX0_price_31 : decode mi_X0_price.2.1 31 = .ok (.iastore, 1) := by decide +kernel
theorem dX0_price_32 : decode mi_X0_price.2.1 32 = .ok (.aload_n 0, 1) := by decide +kernel
theorem dX0_price_33 : decode mi_X0_price.2.1 33 = .ok (.iconst 0, 1) := by decide +kernel
theorem dX0_price_34 : decode mi_X0_price.2.1 34 = .ok (.invokevirtual 188, 3) := by decide +kernel
theorem dX0_price_37 : decode mi_X0_price.2.1 37 = .ok (.ireturn, 1) := by decide +kernel
theorem v_X0_price {G : ma_G} {d : Nat} {a0 : Nat} {x1 : Int32} {x2 : Int32} {h : ah_T} {Q : Option ma_V → ah_T → Prop} {E : Nat → ah_T → Prop} (La0_h : LY0 h a0) (H : (x1 < 0 → ∀ h2 : ah_T, h2 = ah_wI h a0 20 (5 : Int32) → ah_ext h h2 → Q (some (iv (0 : Int32))) h2) ∧ (¬ x1 < 0 → ((520 : Int32) ≤ x1 → ∀ h4 : ah_T, h4 = ah_wI h a0 20 (5 : Int32) → ah_ext h h4 → Q (some (iv (0 : Int32))) h4) ∧ (¬ (520 : Int32) ≤ x1 → (x2.toInt64 < (0 : Int64) → ∀ h6 : ah_T, h6 = ah_wI h a0 20 (5 : Int32) → ah_ext h h6 → Q (some (iv (0 : Int32))) h6) ∧ (¬ x2.toInt64 < (0 : Int64) → ((1000 : Int64) < x2.toInt64 → ∀ h8 : ah_T, h8 = ah_wI h a0 20 (5 : Int32) → ah_ext h h8 → Q (some (iv (0 : Int32))) h8) ∧ (¬ (1000 : Int64) < x2.toInt64 → vp_in x1 520 ∧ ∀ h10 : ah_T, h10 = ah_wI h (a0 + 1447) x1.toNatClampNeg x2 → ah_ext h h10 → ∀ h11 : ah_T, h11 = ah_wI h10 a0 20 (0 : Int32) → ah_ext h10 h11 → Q (some (iv (1 : Int32))) h11))))) : MX G mi_X0_price (d + 1) 0 [some (rv a0), some (iv x1), some (iv x2)] [] h Q E := by
  refine mx_iload_n dX0_price_0 rfl rfl ?_
  refine mx_callS (y' := mi_X0_isWeek) (vs := [iv x1]) (st := []) (al' := [some (iv x1)]) S_X0_isWeek q841 dX0_price_1 rfl rfl (Nat.le_of_ble_eq_true rfl) (Nat.le_of_ble_eq_true rfl) ?_
  refine mx_iload_n dX0_isWeek_0 rfl rfl ?_
  refine mx_if_lt (tgt := 15) dX0_isWeek_1 rfl (fun c1 => ?_) (fun c1 => ?_)
  · have H := H.1 c1
    refine mx_iconst dX0_isWeek_15 ic_0 ?_
    refine mx_zretK rfl dX0_isWeek_16 (Or.inl rfl) ?_
    refine mx_if_eq (tgt := 19) dX0_price_4 rfl (fun _ => ?_) (fun _ => absurd ‹_› (by decide))
    refine mx_aload_n dX0_price_19 rfl rfl ?_
    refine mx_iconst dX0_price_20 ic_5 ?_
    refine mx_callV 0 (y' := mi_X0_is) (vs := [iv (5 : Int32)]) (st := []) (al' := [some (rv a0), some (iv (5 : Int32))]) cl_0 V_X0_is (Or.inl q664) dX0_price_21 rfl rfl (Nat.le_of_ble_eq_true rfl) (Nat.le_of_ble_eq_true rfl) (ly0_k La0_h) ?_
    refine mx_aload_n dX0_is_0 rfl rfl ?_
    refine mx_iload_n dX0_is_1 rfl rfl ?_
    refine mx_putI 0 20 (ref := "PrairiePool") cl_0 (Nat.le_of_ble_eq_true rfl) (Or.inl q480) (Or.inl rfl) dX0_is_2 (Or.inl rfl) rfl (ly0_k La0_h) ?_
    refine mx_nmI  (fun h2 eh2 Xh2 Kh2 Lh2 => ?_)
    have H := H h2 eh2 Xh2
    have La0_h2 := La0_h.ext Xh2
    refine mx_iload_n dX0_is_5 rfl rfl ?_
    refine mx_if_ne (tgt := 13) dX0_is_6 rfl (fun _ => ?_) (fun _ => absurd ‹_› (by decide))
    refine mx_iconst dX0_is_13 ic_0 ?_
    refine mx_zretK rfl dX0_is_14 (Or.inl rfl) ?_
    exact mx_zret rfl dX0_price_24 (Or.inl rfl) H
  · have H := H.2 c1
    refine mx_iload_n dX0_isWeek_4 rfl rfl ?_
    refine mx_sipush dX0_isWeek_5 is_520 ?_
    refine mx_icmp_ge (tgt := 15) dX0_isWeek_8 rfl (fun c3 => ?_) (fun c3 => ?_)
    · have H := H.1 c3
      refine mx_iconst dX0_isWeek_15 ic_0 ?_
      refine mx_zretK rfl dX0_isWeek_16 (Or.inl rfl) ?_
      refine mx_if_eq (tgt := 19) dX0_price_4 rfl (fun _ => ?_) (fun _ => absurd ‹_› (by decide))
      refine mx_aload_n dX0_price_19 rfl rfl ?_
      refine mx_iconst dX0_price_20 ic_5 ?_
      refine mx_callV 0 (y' := mi_X0_is) (vs := [iv (5 : Int32)]) (st := []) (al' := [some (rv a0), some (iv (5 : Int32))]) cl_0 V_X0_is (Or.inl q664) dX0_price_21 rfl rfl (Nat.le_of_ble_eq_true rfl) (Nat.le_of_ble_eq_true rfl) (ly0_k La0_h) ?_
      refine mx_aload_n dX0_is_0 rfl rfl ?_
      refine mx_iload_n dX0_is_1 rfl rfl ?_
      refine mx_putI 0 20 (ref := "PrairiePool") cl_0 (Nat.le_of_ble_eq_true rfl) (Or.inl q480) (Or.inl rfl) dX0_is_2 (Or.inl rfl) rfl (ly0_k La0_h) ?_
      refine mx_nmI  (fun h4 eh4 Xh4 Kh4 Lh4 => ?_)
      have H := H h4 eh4 Xh4
      have La0_h4 := La0_h.ext Xh4
      refine mx_iload_n dX0_is_5 rfl rfl ?_
      refine mx_if_ne (tgt := 13) dX0_is_6 rfl (fun _ => ?_) (fun _ => absurd ‹_› (by decide))
      refine mx_iconst dX0_is_13 ic_0 ?_
      refine mx_zretK rfl dX0_is_14 (Or.inl rfl) ?_
      exact mx_zret rfl dX0_price_24 (Or.inl rfl) H
    · have H := H.2 c3
      refine mx_iconst dX0_isWeek_11 ic_1 ?_
      refine mx_goto (tgt := 16) dX0_isWeek_12 rfl ?_
      refine mx_zretK rfl dX0_isWeek_16 (Or.inr rfl) ?_
      refine mx_if_eq (tgt := 19) dX0_price_4 rfl (fun _ => absurd ‹_› (by decide)) (fun _ => ?_)
      refine mx_iload_n dX0_price_7 rfl rfl ?_
      refine mx_i2l dX0_price_8 ?_
      refine mx_lconst dX0_price_9 lc_0 ?_
      refine mx_ldc2 q836 dX0_price_10 ?_
      refine mx_callS (y' := mi_X0_isFrom) (vs := [jv x2.toInt64, jv (0 : Int64), jv (1000 : Int64)]) (st := []) (al' := [some (jv x2.toInt64), none, some (jv (0 : Int64)), none, some (jv (1000 : Int64)), none]) S_X0_isFrom q758 dX0_price_13 rfl rfl (Nat.le_of_ble_eq_true rfl) (Nat.le_of_ble_eq_true rfl) ?_
      refine mx_lload_n dX0_isFrom_0 rfl rfl ?_
      refine mx_lload_n dX0_isFrom_1 rfl rfl ?_
      refine mx_lif_lt (tgt := 17) dX0_isFrom_2 dX0_isFrom_3 rfl (fun c5 => ?_) (fun c5 => ?_)
      · have H := H.1 c5
        refine mx_iconst dX0_isFrom_17 ic_0 ?_
        refine mx_zretK rfl dX0_isFrom_18 (Or.inl rfl) ?_
        refine mx_if_ne (tgt := 25) dX0_price_16 rfl (fun _ => absurd ‹_› (by decide)) (fun _ => ?_)
        refine mx_aload_n dX0_price_19 rfl rfl ?_
        refine mx_iconst dX0_price_20 ic_5 ?_
        refine mx_callV 0 (y' := mi_X0_is) (vs := [iv (5 : Int32)]) (st := []) (al' := [some (rv a0), some (iv (5 : Int32))]) cl_0 V_X0_is (Or.inl q664) dX0_price_21 rfl rfl (Nat.le_of_ble_eq_true rfl) (Nat.le_of_ble_eq_true rfl) (ly0_k La0_h) ?_
        refine mx_aload_n dX0_is_0 rfl rfl ?_
        refine mx_iload_n dX0_is_1 rfl rfl ?_
        refine mx_putI 0 20 (ref := "PrairiePool") cl_0 (Nat.le_of_ble_eq_true rfl) (Or.inl q480) (Or.inl rfl) dX0_is_2 (Or.inl rfl) rfl (ly0_k La0_h) ?_
        refine mx_nmI  (fun h6 eh6 Xh6 Kh6 Lh6 => ?_)
        have H := H h6 eh6 Xh6
        have La0_h6 := La0_h.ext Xh6
        refine mx_iload_n dX0_is_5 rfl rfl ?_
        refine mx_if_ne (tgt := 13) dX0_is_6 rfl (fun _ => ?_) (fun _ => absurd ‹_› (by decide))
        refine mx_iconst dX0_is_13 ic_0 ?_
        refine mx_zretK rfl dX0_is_14 (Or.inl rfl) ?_
        exact mx_zret rfl dX0_price_24 (Or.inl rfl) H
      · have H := H.2 c5
        refine mx_lload_n dX0_isFrom_6 rfl rfl ?_
        refine mx_lload dX0_isFrom_7 rfl ?_
        refine mx_lif_gt (tgt := 17) dX0_isFrom_9 dX0_isFrom_10 rfl (fun c7 => ?_) (fun c7 => ?_)
        · have H := H.1 c7
          refine mx_iconst dX0_isFrom_17 ic_0 ?_
          refine mx_zretK rfl dX0_isFrom_18 (Or.inl rfl) ?_
          refine mx_if_ne (tgt := 25) dX0_price_16 rfl (fun _ => absurd ‹_› (by decide)) (fun _ => ?_)
          refine mx_aload_n dX0_price_19 rfl rfl ?_
          refine mx_iconst dX0_price_20 ic_5 ?_
          refine mx_callV 0 (y' := mi_X0_is) (vs := [iv (5 : Int32)]) (st := []) (al' := [some (rv a0), some (iv (5 : Int32))]) cl_0 V_X0_is (Or.inl q664) dX0_price_21 rfl rfl (Nat.le_of_ble_eq_true rfl) (Nat.le_of_ble_eq_true rfl) (ly0_k La0_h) ?_
          refine mx_aload_n dX0_is_0 rfl rfl ?_
          refine mx_iload_n dX0_is_1 rfl rfl ?_
          refine mx_putI 0 20 (ref := "PrairiePool") cl_0 (Nat.le_of_ble_eq_true rfl) (Or.inl q480) (Or.inl rfl) dX0_is_2 (Or.inl rfl) rfl (ly0_k La0_h) ?_
          refine mx_nmI  (fun h8 eh8 Xh8 Kh8 Lh8 => ?_)
          have H := H h8 eh8 Xh8
          have La0_h8 := La0_h.ext Xh8
          refine mx_iload_n dX0_is_5 rfl rfl ?_
          refine mx_if_ne (tgt := 13) dX0_is_6 rfl (fun _ => ?_) (fun _ => absurd ‹_› (by decide))
          refine mx_iconst dX0_is_13 ic_0 ?_
          refine mx_zretK rfl dX0_is_14 (Or.inl rfl) ?_
          exact mx_zret rfl dX0_price_24 (Or.inl rfl) H
        · have H := H.2 c7
          refine mx_iconst dX0_isFrom_13 ic_1 ?_
          refine mx_goto (tgt := 18) dX0_isFrom_14 rfl ?_
          refine mx_zretK rfl dX0_isFrom_18 (Or.inr rfl) ?_
          refine mx_if_ne (tgt := 25) dX0_price_16 rfl (fun _ => ?_) (fun _ => absurd ‹_› (by decide))
          refine mx_aload_n dX0_price_25 rfl rfl ?_
          refine mx_get 0 35 (ref := "PrairiePool") cl_0 (Nat.le_of_ble_eq_true rfl) (Or.inl q495) (Or.inl rfl) dX0_price_26 (fv_0_35 _ _) (ly0_k La0_h) ?_
          refine mx_tr (ly0_R_0_35 La0_h) ?_
          refine mx_iload_n dX0_price_29 rfl rfl ?_
          refine mx_iload_n dX0_price_30 rfl rfl ?_
          obtain ⟨k9, H⟩ := H
          refine my_iast dX0_price_31 rfl (ly0_A_1447 La0_h k9) ?_
          refine mx_nmI  (fun h10 eh10 Xh10 Kh10 Lh10 => ?_)
          have H := H h10 eh10 Xh10
          have La0_h10 := La0_h.ext Xh10
          refine mx_aload_n dX0_price_32 rfl rfl ?_
          refine mx_iconst dX0_price_33 ic_0 ?_
          refine mx_callV 0 (y' := mi_X0_is) (vs := [iv (0 : Int32)]) (st := []) (al' := [some (rv a0), some (iv (0 : Int32))]) cl_0 V_X0_is (Or.inl q664) dX0_price_34 rfl rfl (Nat.le_of_ble_eq_true rfl) (Nat.le_of_ble_eq_true rfl) (ly0_k La0_h10) ?_
          refine mx_aload_n dX0_is_0 rfl rfl ?_
          refine mx_iload_n dX0_is_1 rfl rfl ?_
          refine mx_putI 0 20 (ref := "PrairiePool") cl_0 (Nat.le_of_ble_eq_true rfl) (Or.inl q480) (Or.inl rfl) dX0_is_2 (Or.inl rfl) rfl (ly0_k La0_h10) ?_
          refine mx_nmI  (fun h11 eh11 Xh11 Kh11 Lh11 => ?_)
          have H := H h11 eh11 Xh11
          have Kh11 := Kh11.trans Kh10
          have Lh11 := Lh11.trans Lh10
          have La0_h11 := La0_h10.ext Xh11
          refine mx_iload_n dX0_is_5 rfl rfl ?_
          refine mx_if_ne (tgt := 13) dX0_is_6 rfl (fun _ => absurd ‹_› (by decide)) (fun _ => ?_)
          refine mx_iconst dX0_is_9 ic_1 ?_
          refine mx_goto (tgt := 14) dX0_is_10 rfl ?_
          refine mx_zretK rfl dX0_is_14 (Or.inr rfl) ?_
          exact mx_zret rfl dX0_price_37 (Or.inr rfl) H
theorem dX0_rules_0 : decode mi_X0_rules.2.1 0 = .ok (.iload_n 1, 1) := by decide +kernel
theorem dX0_rules_1 : decode mi_X0_rules.2.1 1 = .ok (.ifCond .lt 19, 3) := by decide +kernel
theorem dX0_rules_4 : decode mi_X0_rules.2.1 4 = .ok (.iload_n 1, 1) := by decide +kernel
theorem dX0_rules_5 : decode mi_X0_rules.2.1 5 = .ok (.bipush 100, 2) := by decide +kernel
theorem dX0_rules_7 : decode mi_X0_rules.2.1 7 = .ok (.if_icmp .gt 13, 3) := by decide +kernel
theorem dX0_rules_10 : decode mi_X0_rules.2.1 10 = .ok (.iload_n 2, 1) := by decide +kernel
theorem dX0_rules_11 : decode mi_X0_rules.2.1 11 = .ok (.ifCond .lt 9, 3) := by decide +kernel
theorem dX0_rules_14 : decode mi_X0_rules.2.1 14 = .ok (.iload_n 2, 1) := by decide +kernel
theorem dX0_rules_15 : decode mi_X0_rules.2.1 15 = .ok (.bipush 20, 2) := by decide +kernel
theorem dX0_rules_17 : decode mi_X0_rules.2.1 17 = .ok (.if_icmp .le 9, 3) := by decide +kernel
theorem dX0_rules_20 : decode mi_X0_rules.2.1 20 = .ok (.aload_n 0, 1) := by decide +kernel
theorem dX0_rules_21 : decode mi_X0_rules.2.1 21 = .ok (.iconst 5, 1) := by decide +kernel
theorem dX0_rules_22 : decode mi_X0_rules.2.1 22 = .ok (.invokevirtual 188, 3) := by decide +kernel
theorem dX0_rules_25 : decode mi_X0_rules.2.1 25 = .ok (.ireturn, 1) := by decide +kernel
theorem dX0_rules_26 : decode mi_X0_rules.2.1 26 = .ok (.aload_n 0, 1) := by decide +kernel
theorem dX0_rules_27 : decode mi_X0_rules.2.1 27 = .ok (.iload_n 1, 1) := by decide +kernel
theorem dX0_rules_28 : decode mi_X0_rules.2.1 28 = .ok (.putfield 127, 3) := by decide +kernel
theorem dX0_rules_31 : decode mi_X0_rules.2.1 31 = .ok (.aload_n 0, 1) := by decide +kernel
theorem dX0_rules_32 : decode mi_X0_rules.2.1 32 = .ok (.iload_n 2, 1) := by decide +kernel
theorem dX0_rules_33 : decode mi_X0_rules.2.1 33 = .ok (.putfield 130, 3) := by decide +kernel
theorem dX0_rules_36 : decode mi_X0_rules.2.1 36 = .ok (.aload_n 0, 1) := by decide +kernel
theorem dX0_rules_37 : decode mi_X0_rules.2.1 37 = .ok (.iconst 0, 1) := by decide +kernel
theorem dX0_rules_38 : decode mi_X0_rules.2.1 38 = .ok (.invokevirtual 188, 3) := by decide +kernel
theorem dX0_rules_41 : decode mi_X0_rules.2.1 41 = .ok (.ireturn, 1) := by decide +kernel
theorem v_X0_rules {G : ma_G} {d : Nat} {a0 : Nat} {x1 : Int32} {x2 : Int32} {h : ah_T} {Q : Option ma_V → ah_T → Prop} {E : Nat → ah_T → Prop} (La0_h : LY0 h a0) (H : (x1 < 0 → ∀ h2 : ah_T, h2 = ah_wI h a0 20 (5 : Int32) → ah_ext h h2 → Q (some (iv (0 : Int32))) h2) ∧ (¬ x1 < 0 → ((100 : Int32) < x1 → ∀ h4 : ah_T, h4 = ah_wI h a0 20 (5 : Int32) → ah_ext h h4 → Q (some (iv (0 : Int32))) h4) ∧ (¬ (100 : Int32) < x1 → (x2 < 0 → ∀ h6 : ah_T, h6 = ah_wI h a0 20 (5 : Int32) → ah_ext h h6 → Q (some (iv (0 : Int32))) h6) ∧ (¬ x2 < 0 → (x2 ≤ (20 : Int32) → ∀ h8 : ah_T, h8 = ah_wI h a0 37 x1 → ah_ext h h8 → ∀ h9 : ah_T, h9 = ah_wI h8 a0 38 x2 → ah_ext h8 h9 → ∀ h10 : ah_T, h10 = ah_wI h9 a0 20 (0 : Int32) → ah_ext h9 h10 → Q (some (iv (1 : Int32))) h10) ∧ (¬ x2 ≤ (20 : Int32) → ∀ h11 : ah_T, h11 = ah_wI h a0 20 (5 : Int32) → ah_ext h h11 → Q (some (iv (0 : Int32))) h11))))) : MX G mi_X0_rules (d + 1) 0 [some (rv a0), some (iv x1), some (iv x2)] [] h Q E := by
  refine mx_iload_n dX0_rules_0 rfl rfl ?_
  refine mx_if_lt (tgt := 20) dX0_rules_1 rfl (fun c1 => ?_) (fun c1 => ?_)
  · have H := H.1 c1
    refine mx_aload_n dX0_rules_20 rfl rfl ?_
    refine mx_iconst dX0_rules_21 ic_5 ?_
    refine mx_callV 0 (y' := mi_X0_is) (vs := [iv (5 : Int32)]) (st := []) (al' := [some (rv a0), some (iv (5 : Int32))]) cl_0 V_X0_is (Or.inl q664) dX0_rules_22 rfl rfl (Nat.le_of_ble_eq_true rfl) (Nat.le_of_ble_eq_true rfl) (ly0_k La0_h) ?_
    refine mx_aload_n dX0_is_0 rfl rfl ?_
    refine mx_iload_n dX0_is_1 rfl rfl ?_
    refine mx_putI 0 20 (ref := "PrairiePool") cl_0 (Nat.le_of_ble_eq_true rfl) (Or.inl q480) (Or.inl rfl) dX0_is_2 (Or.inl rfl) rfl (ly0_k La0_h) ?_
    refine mx_nmI  (fun h2 eh2 Xh2 Kh2 Lh2 => ?_)
    have H := H h2 eh2 Xh2
    have La0_h2 := La0_h.ext Xh2
    refine mx_iload_n dX0_is_5 rfl rfl ?_
    refine mx_if_ne (tgt := 13) dX0_is_6 rfl (fun _ => ?_) (fun _ => absurd ‹_› (by decide))
    refine mx_iconst dX0_is_13 ic_0 ?_
    refine mx_zretK rfl dX0_is_14 (Or.inl rfl) ?_
    exact mx_zret rfl dX0_rules_25 (Or.inl rfl) H
  · have H := H.2 c1
    refine mx_iload_n dX0_rules_4 rfl rfl ?_
    refine mx_bipush dX0_rules_5 ib_100 ?_
    refine mx_icmp_gt (tgt := 20) dX0_rules_7 rfl (fun c3 => ?_) (fun c3 => ?_)
    · have H := H.1 c3
      refine mx_aload_n dX0_rules_20 rfl rfl ?_
      refine mx_iconst dX0_rules_21 ic_5 ?_
      refine mx_callV 0 (y' := mi_X0_is) (vs := [iv (5 : Int32)]) (st := []) (al' := [some (rv a0), some (iv (5 : Int32))]) cl_0 V_X0_is (Or.inl q664) dX0_rules_22 rfl rfl (Nat.le_of_ble_eq_true rfl) (Nat.le_of_ble_eq_true rfl) (ly0_k La0_h) ?_
      refine mx_aload_n dX0_is_0 rfl rfl ?_
      refine mx_iload_n dX0_is_1 rfl rfl ?_
      refine mx_putI 0 20 (ref := "PrairiePool") cl_0 (Nat.le_of_ble_eq_true rfl) (Or.inl q480) (Or.inl rfl) dX0_is_2 (Or.inl rfl) rfl (ly0_k La0_h) ?_
      refine mx_nmI  (fun h4 eh4 Xh4 Kh4 Lh4 => ?_)
      have H := H h4 eh4 Xh4
      have La0_h4 := La0_h.ext Xh4
      refine mx_iload_n dX0_is_5 rfl rfl ?_
      refine mx_if_ne (tgt := 13) dX0_is_6 rfl (fun _ => ?_) (fun _ => absurd ‹_› (by decide))
      refine mx_iconst dX0_is_13 ic_0 ?_
      refine mx_zretK rfl dX0_is_14 (Or.inl rfl) ?_
      exact mx_zret rfl dX0_rules_25 (Or.inl rfl) H
    · have H := H.2 c3
      refine mx_iload_n dX0_rules_10 rfl rfl ?_
      refine mx_if_lt (tgt := 20) dX0_rules_11 rfl (fun c5 => ?_) (fun c5 => ?_)
      · have H := H.1 c5
        refine mx_aload_n dX0_rules_20 rfl rfl ?_
        refine mx_iconst dX0_rules_21 ic_5 ?_
        refine mx_callV 0 (y' := mi_X0_is) (vs := [iv (5 : Int32)]) (st := []) (al' := [some (rv a0), some (iv (5 : Int32))]) cl_0 V_X0_is (Or.inl q664) dX0_rules_22 rfl rfl (Nat.le_of_ble_eq_true rfl) (Nat.le_of_ble_eq_true rfl) (ly0_k La0_h) ?_
        refine mx_aload_n dX0_is_0 rfl rfl ?_
        refine mx_iload_n dX0_is_1 rfl rfl ?_
        refine mx_putI 0 20 (ref := "PrairiePool") cl_0 (Nat.le_of_ble_eq_true rfl) (Or.inl q480) (Or.inl rfl) dX0_is_2 (Or.inl rfl) rfl (ly0_k La0_h) ?_
        refine mx_nmI  (fun h6 eh6 Xh6 Kh6 Lh6 => ?_)
        have H := H h6 eh6 Xh6
        have La0_h6 := La0_h.ext Xh6
        refine mx_iload_n dX0_is_5 rfl rfl ?_
        refine mx_if_ne (tgt := 13) dX0_is_6 rfl (fun _ => ?_) (fun _ => absurd ‹_› (by decide))
        refine mx_iconst dX0_is_13 ic_0 ?_
        refine mx_zretK rfl dX0_is_14 (Or.inl rfl) ?_
        exact mx_zret rfl dX0_rules_25 (Or.inl rfl) H
      · have H := H.2 c5
        refine mx_iload_n dX0_rules_14 rfl rfl ?_
        refine mx_bipush dX0_rules_15 ib_20 ?_
        refine mx_icmp_le (tgt := 26) dX0_rules_17 rfl (fun c7 => ?_) (fun c7 => ?_)
        · have H := H.1 c7
          refine mx_aload_n dX0_rules_26 rfl rfl ?_
          refine mx_iload_n dX0_rules_27 rfl rfl ?_
          refine mx_putI 0 37 (ref := "PrairiePool") cl_0 (Nat.le_of_ble_eq_true rfl) (Or.inl q497) (Or.inl rfl) dX0_rules_28 (Or.inl rfl) rfl (ly0_k La0_h) ?_
          refine mx_nmI  (fun h8 eh8 Xh8 Kh8 Lh8 => ?_)
          have H := H h8 eh8 Xh8
          have La0_h8 := La0_h.ext Xh8
          refine mx_aload_n dX0_rules_31 rfl rfl ?_
          refine mx_iload_n dX0_rules_32 rfl rfl ?_
          refine mx_putI 0 38 (ref := "PrairiePool") cl_0 (Nat.le_of_ble_eq_true rfl) (Or.inl q498) (Or.inl rfl) dX0_rules_33 (Or.inl rfl) rfl (ly0_k La0_h8) ?_
          refine mx_nmI  (fun h9 eh9 Xh9 Kh9 Lh9 => ?_)
          have H := H h9 eh9 Xh9
          have Kh9 := Kh9.trans Kh8
          have Lh9 := Lh9.trans Lh8
          have La0_h9 := La0_h8.ext Xh9
          refine mx_aload_n dX0_rules_36 rfl rfl ?_
          refine mx_iconst dX0_rules_37 ic_0 ?_
          refine mx_callV 0 (y' := mi_X0_is) (vs := [iv (0 : Int32)]) (st := []) (al' := [some (rv a0), some (iv (0 : Int32))]) cl_0 V_X0_is (Or.inl q664) dX0_rules_38 rfl rfl (Nat.le_of_ble_eq_true rfl) (Nat.le_of_ble_eq_true rfl) (ly0_k La0_h9) ?_
          refine mx_aload_n dX0_is_0 rfl rfl ?_
          refine mx_iload_n dX0_is_1 rfl rfl ?_
          refine mx_putI 0 20 (ref := "PrairiePool") cl_0 (Nat.le_of_ble_eq_true rfl) (Or.inl q480) (Or.inl rfl) dX0_is_2 (Or.inl rfl) rfl (ly0_k La0_h9) ?_
          refine mx_nmI  (fun h10 eh10 Xh10 Kh10 Lh10 => ?_)
          have H := H h10 eh10 Xh10
          have Kh10 := Kh10.trans Kh9
          have Lh10 := Lh10.trans Lh9
          have La0_h10 := La0_h9.ext Xh10
          refine mx_iload_n dX0_is_5 rfl rfl ?_
          refine mx_if_ne (tgt := 13) dX0_is_6 rfl (fun _ => absurd ‹_› (by decide)) (fun _ => ?_)
          refine mx_iconst dX0_is_9 ic_1 ?_
          refine mx_goto (tgt := 14) dX0_is_10 rfl ?_
          refine mx_zretK rfl dX0_is_14 (Or.inr rfl) ?_
          exact mx_zret rfl dX0_rules_41 (Or.inr rfl) H
        · have H := H.2 c7
          refine mx_aload_n dX0_rules_20 rfl rfl ?_
          refine mx_iconst dX0_rules_21 ic_5 ?_
          refine mx_callV 0 (y' := mi_X0_is) (vs := [iv (5 : Int32)]) (st := []) (al' := [some (rv a0), some (iv (5 : Int32))]) cl_0 V_X0_is (Or.inl q664) dX0_rules_22 rfl rfl (Nat.le_of_ble_eq_true rfl) (Nat.le_of_ble_eq_true rfl) (ly0_k La0_h) ?_
          refine mx_aload_n dX0_is_0 rfl rfl ?_
          refine mx_iload_n dX0_is_1 rfl rfl ?_
          refine mx_putI 0 20 (ref := "PrairiePool") cl_0 (Nat.le_of_ble_eq_true rfl) (Or.inl q480) (Or.inl rfl) dX0_is_2 (Or.inl rfl) rfl (ly0_k La0_h) ?_
          refine mx_nmI  (fun h11 eh11 Xh11 Kh11 Lh11 => ?_)
          have H := H h11 eh11 Xh11
          have La0_h11 := La0_h.ext Xh11
          refine mx_iload_n dX0_is_5 rfl rfl ?_
          refine mx_if_ne (tgt := 13) dX0_is_6 rfl (fun _ => ?_) (fun _ => absurd ‹_› (by decide))
          refine mx_iconst dX0_is_13 ic_0 ?_
          refine mx_zretK rfl dX0_is_14 (Or.inl rfl) ?_
          exact mx_zret rfl dX0_rules_25 (Or.inl rfl) H
theorem dX0_alone_0 : decode mi_X0_alone.2.1 0 = .ok (.aload_n 0, 1) := by decide +kernel
theorem dX0_alone_1 : decode mi_X0_alone.2.1 1 = .ok (.iload_n 1, 1) := by decide +kernel
theorem dX0_alone_2 : decode mi_X0_alone.2.1 2 = .ok (.iload_n 2, 1) := by decide +kernel
theorem dX0_alone_3 : decode mi_X0_alone.2.1 3 = .ok (.iload_n 3, 1) := by decide +kernel
theorem dX0_alone_4 : decode mi_X0_alone.2.1 4 = .ok (.invokevirtual 512, 3) := by decide +kernel
theorem dX0_alone_7 : decode mi_X0_alone.2.1 7 = .ok (.istore 4, 2) := by decide +kernel
theorem dX0_alone_9 : decode mi_X0_alone.2.1 9 = .ok (.iload 4, 2) := by decide +kernel
theorem dX0_alone_11 : decode mi_X0_alone.2.1 11 = .ok (.ifCond .le 11, 3) := by decide +kernel
theorem dX0_alone_14 : decode mi_X0_alone.2.1 14 = .ok (.aload_n 0, 1) := by decide +kernel
theorem dX0_alone_15 : decode mi_X0_alone.2.1 15 = .ok (.iload 4, 2) := by decide +kernel
theorem dX0_alone_17 : decode mi_X0_alone.2.1 17 = .ok (.invokevirtual 205, 3) := by decide +kernel
theorem dX0_alone_20 : decode mi_X0_alone.2.1 20 = .ok (.i2l, 1) := by decide +kernel
theorem dX0_alone_21 : decode mi_X0_alone.2.1 21 = .ok (.lreturn, 1) := by decide +kernel
theorem dX0_alone_22 : decode mi_X0_alone.2.1 22 = .ok (.aload_n 0, 1) := by decide +kernel
theorem dX0_alone_23 : decode mi_X0_alone.2.1 23 = .ok (.iload_n 3, 1) := by decide +kernel
theorem dX0_alone_24 : decode mi_X0_alone.2.1 24 = .ok (.invokevirtual 557, 3) := by decide +kernel
theorem dX0_alone_27 : decode mi_X0_alone.2.1 27 = .ok (.aload_n 0, 1) := by decide +kernel
theorem dX0_alone_28 : decode mi_X0_alone.2.1 28 = .ok (.aload_n 0, 1) := by decide +kernel
theorem dX0_alone_29 : decode mi_X0_alone.2.1 29 = .ok (.iload_n 1, 1) := by decide +kernel
theorem dX0_alone_30 : decode mi_X0_alone.2.1 30 = .ok (.iload_n 2, 1) := by decide +kernel
theorem dX0_alone_31 : decode mi_X0_alone.2.1 31 = .ok (.iload_n 3, 1) := by decide +kernel
theorem dX0_alone_32 : decode mi_X0_alone.2.1 32 = .ok (.invokevirtual 560, 3) := by decide +kernel
theorem dX0_alone_35 : decode mi_X0_alone.2.1 35 = .ok (.invokevirtual 508, 3) := by decide +kernel
theorem dX0_alone_38 : decode mi_X0_alone.2.1 38 = .ok (.lreturn, 1) := by decide +kernel
theorem v_X0_alone {G : ma_G} {d : Nat} {a0 : Nat} {x1 : Int32} {x2 : Int32} {x3 : Int32} {h : ah_T} {Q : Option ma_V → ah_T → Prop} {E : Nat → ah_T → Prop} (La0_h : LY0 h a0) (H : (x1 < 0 → ∀ h2 : ah_T, h2 = ah_wI h a0 20 (2 : Int32) → ah_ext h h2 → Q (some (jv (-1 : Int32).toInt64)) h2) ∧ (¬ x1 < 0 → ((ah_I h a0 14) ≤ x1 → ∀ h4 : ah_T, h4 = ah_wI h a0 20 (2 : Int32) → ah_ext h h4 → Q (some (jv (-1 : Int32).toInt64)) h4) ∧ (¬ (ah_I h a0 14) ≤ x1 → (x2 < 0 → ∀ h6 : ah_T, h6 = ah_wI h a0 20 (5 : Int32) → ah_ext h h6 → Q (some (jv (-1 : Int32).toInt64)) h6) ∧ (¬ x2 < 0 → ((10 : Int32) ≤ x2 → ∀ h8 : ah_T, h8 = ah_wI h a0 20 (5 : Int32) → ah_ext h h8 → Q (some (jv (-1 : Int32).toInt64)) h8) ∧ (¬ (10 : Int32) ≤ x2 → (x3 < 0 → ∀ h10 : ah_T, h10 = ah_wI h a0 20 (5 : Int32) → ah_ext h h10 → Q (some (jv (-1 : Int32).toInt64)) h10) ∧ (¬ x3 < 0 → ((520 : Int32) ≤ x3 → ∀ h12 : ah_T, h12 = ah_wI h a0 20 (5 : Int32) → ah_ext h h12 → Q (some (jv (-1 : Int32).toInt64)) h12) ∧ (¬ (520 : Int32) ≤ x3 → MX G mi_X0_playsLoads (d + 1) 0 [some (rv a0), some (iv x3), none, none, none] [] h (Qv fun h13 => ah_ext h h13 → MX G mi_X0_aloneOf (d + 1) 0 [some (rv a0), some (iv x1), some (iv x2), some (iv x3), none, none, none, none, none] [] h13 (Ql fun r16 h15 => ah_ext h13 h15 → ∀ h17 : ah_T, h17 = ah_wI h15 a0 20 (0 : Int32) → ah_ext h15 h17 → Q (some (jv r16)) h17) E) E))))))) : MX G mi_X0_alone (d + 2) 0 [some (rv a0), some (iv x1), some (iv x2), some (iv x3), none] [] h Q E := by
  refine mx_aload_n dX0_alone_0 rfl rfl ?_
  refine mx_iload_n dX0_alone_1 rfl rfl ?_
  refine mx_iload_n dX0_alone_2 rfl rfl ?_
  refine mx_iload_n dX0_alone_3 rfl rfl ?_
  refine mx_callV 0 (y' := mi_X0_wrongYear) (vs := [iv x1, iv x2, iv x3]) (st := []) (al' := [some (rv a0), some (iv x1), some (iv x2), some (iv x3)]) cl_0 V_X0_wrongYear (Or.inl q1479) dX0_alone_4 rfl rfl (Nat.le_of_ble_eq_true rfl) (Nat.le_of_ble_eq_true rfl) (ly0_k La0_h) ?_
  refine mx_aload_n dX0_wrongYear_0 rfl rfl ?_
  refine mx_iload_n dX0_wrongYear_1 rfl rfl ?_
  refine mx_callV 0 (y' := mi_X0_isFarm) (vs := [iv x1]) (st := []) (al' := [some (rv a0), some (iv x1)]) cl_0 V_X0_isFarm (Or.inl q827) dX0_wrongYear_2 rfl rfl (Nat.le_of_ble_eq_true rfl) (Nat.le_of_ble_eq_true rfl) (ly0_k La0_h) ?_
  refine mx_iload_n dX0_isFarm_0 rfl rfl ?_
  refine mx_if_lt (tgt := 16) dX0_isFarm_1 rfl (fun c1 => ?_) (fun c1 => ?_)
  · have H := H.1 c1
    refine mx_iconst dX0_isFarm_16 ic_0 ?_
    refine mx_zretK rfl dX0_isFarm_17 (Or.inl rfl) ?_
    refine mx_if_ne (tgt := 12) dX0_wrongYear_5 rfl (fun _ => absurd ‹_› (by decide)) (fun _ => ?_)
    refine mx_iconst dX0_wrongYear_8 ic_2 ?_
    refine mx_goto (tgt := 31) dX0_wrongYear_9 rfl ?_
    refine mx_iretK rfl dX0_wrongYear_31 ?_
    refine mx_istore (al' := [some (rv a0), some (iv x1), some (iv x2), some (iv x3), some (iv (2 : Int32))]) dX0_alone_7 (Nat.le_of_ble_eq_true rfl) rfl ?_
    refine mx_iload dX0_alone_9 rfl ?_
    refine mx_if_le (tgt := 22) dX0_alone_11 rfl (fun _ => absurd ‹_› (by decide)) (fun _ => ?_)
    refine mx_aload_n dX0_alone_14 rfl rfl ?_
    refine mx_iload dX0_alone_15 rfl ?_
    refine mx_callV 0 (y' := mi_X0_none) (vs := [iv (2 : Int32)]) (st := []) (al' := [some (rv a0), some (iv (2 : Int32))]) cl_0 V_X0_none (Or.inl q733) dX0_alone_17 rfl rfl (Nat.le_of_ble_eq_true rfl) (Nat.le_of_ble_eq_true rfl) (ly0_k La0_h) ?_
    refine mx_aload_n dX0_none_0 rfl rfl ?_
    refine mx_iload_n dX0_none_1 rfl rfl ?_
    refine mx_putI 0 20 (ref := "PrairiePool") cl_0 (Nat.le_of_ble_eq_true rfl) (Or.inl q480) (Or.inl rfl) dX0_none_2 (Or.inl rfl) rfl (ly0_k La0_h) ?_
    refine mx_nmI  (fun h2 eh2 Xh2 Kh2 Lh2 => ?_)
    have H := H h2 eh2 Xh2
    have La0_h2 := La0_h.ext Xh2
    refine mx_iconst dX0_none_5 ic_m1 ?_
    refine mx_iretK rfl dX0_none_6 ?_
    refine mx_i2l dX0_alone_20 ?_
    exact mx_lret rfl dX0_alone_21 H
  · have H := H.2 c1
    refine mx_iload_n dX0_isFarm_4 rfl rfl ?_
    refine mx_aload_n dX0_isFarm_5 rfl rfl ?_
    refine mx_get 0 14 (ref := "PrairiePool") cl_0 (Nat.le_of_ble_eq_true rfl) (Or.inl q474) (Or.inl rfl) dX0_isFarm_6 (fv_0_14 _ _) (ly0_k La0_h) ?_
    refine mx_icmp_ge (tgt := 16) dX0_isFarm_9 rfl (fun c3 => ?_) (fun c3 => ?_)
    · have H := H.1 c3
      refine mx_iconst dX0_isFarm_16 ic_0 ?_
      refine mx_zretK rfl dX0_isFarm_17 (Or.inl rfl) ?_
      refine mx_if_ne (tgt := 12) dX0_wrongYear_5 rfl (fun _ => absurd ‹_› (by decide)) (fun _ => ?_)
      refine mx_iconst dX0_wrongYear_8 ic_2 ?_
      refine mx_goto (tgt := 31) dX0_wrongYear_9 rfl ?_
      refine mx_iretK rfl dX0_wrongYear_31 ?_
      refine mx_istore (al' := [some (rv a0), some (iv x1), some (iv x2), some (iv x3), some (iv (2 : Int32))]) dX0_alone_7 (Nat.le_of_ble_eq_true rfl) rfl ?_
      refine mx_iload dX0_alone_9 rfl ?_
      refine mx_if_le (tgt := 22) dX0_alone_11 rfl (fun _ => absurd ‹_› (by decide)) (fun _ => ?_)
      refine mx_aload_n dX0_alone_14 rfl rfl ?_
      refine mx_iload dX0_alone_15 rfl ?_
      refine mx_callV 0 (y' := mi_X0_none) (vs := [iv (2 : Int32)]) (st := []) (al' := [some (rv a0), some (iv (2 : Int32))]) cl_0 V_X0_none (Or.inl q733) dX0_alone_17 rfl rfl (Nat.le_of_ble_eq_true rfl) (Nat.le_of_ble_eq_true rfl) (ly0_k La0_h) ?_
      refine mx_aload_n dX0_none_0 rfl rfl ?_
      refine mx_iload_n dX0_none_1 rfl rfl ?_
      refine mx_putI 0 20 (ref := "PrairiePool") cl_0 (Nat.le_of_ble_eq_true rfl) (Or.inl q480) (Or.inl rfl) dX0_none_2 (Or.inl rfl) rfl (ly0_k La0_h) ?_
      refine mx_nmI  (fun h4 eh4 Xh4 Kh4 Lh4 => ?_)
      have H := H h4 eh4 Xh4
      have La0_h4 := La0_h.ext Xh4
      refine mx_iconst dX0_none_5 ic_m1 ?_
      refine mx_iretK rfl dX0_none_6 ?_
      refine mx_i2l dX0_alone_20 ?_
      exact mx_lret rfl dX0_alone_21 H
    · have H := H.2 c3
      refine mx_iconst dX0_isFarm_12 ic_1 ?_
      refine mx_goto (tgt := 17) dX0_isFarm_13 rfl ?_
      refine mx_zretK rfl dX0_isFarm_17 (Or.inr rfl) ?_
      refine mx_if_ne (tgt := 12) dX0_wrongYear_5 rfl (fun _ => ?_) (fun _ => absurd ‹_› (by decide))
      refine mx_iload_n dX0_wrongYear_12 rfl rfl ?_
      refine mx_callS (y' := mi_X0_isYear) (vs := [iv x2]) (st := []) (al' := [some (iv x2)]) S_X0_isYear q896 dX0_wrongYear_13 rfl rfl (Nat.le_of_ble_eq_true rfl) (Nat.le_of_ble_eq_true rfl) ?_
      refine mx_iload_n dX0_isYear_0 rfl rfl ?_
      refine mx_if_lt (tgt := 14) dX0_isYear_1 rfl (fun c5 => ?_) (fun c5 => ?_)
      · have H := H.1 c5
        refine mx_iconst dX0_isYear_14 ic_0 ?_
        refine mx_zretK rfl dX0_isYear_15 (Or.inl rfl) ?_
        refine mx_if_eq (tgt := 26) dX0_wrongYear_16 rfl (fun _ => ?_) (fun _ => absurd ‹_› (by decide))
        refine mx_iconst dX0_wrongYear_26 ic_5 ?_
        refine mx_goto (tgt := 31) dX0_wrongYear_27 rfl ?_
        refine mx_iretK rfl dX0_wrongYear_31 ?_
        refine mx_istore (al' := [some (rv a0), some (iv x1), some (iv x2), some (iv x3), some (iv (5 : Int32))]) dX0_alone_7 (Nat.le_of_ble_eq_true rfl) rfl ?_
        refine mx_iload dX0_alone_9 rfl ?_
        refine mx_if_le (tgt := 22) dX0_alone_11 rfl (fun _ => absurd ‹_› (by decide)) (fun _ => ?_)
        refine mx_aload_n dX0_alone_14 rfl rfl ?_
        refine mx_iload dX0_alone_15 rfl ?_
        refine mx_callV 0 (y' := mi_X0_none) (vs := [iv (5 : Int32)]) (st := []) (al' := [some (rv a0), some (iv (5 : Int32))]) cl_0 V_X0_none (Or.inl q733) dX0_alone_17 rfl rfl (Nat.le_of_ble_eq_true rfl) (Nat.le_of_ble_eq_true rfl) (ly0_k La0_h) ?_
        refine mx_aload_n dX0_none_0 rfl rfl ?_
        refine mx_iload_n dX0_none_1 rfl rfl ?_
        refine mx_putI 0 20 (ref := "PrairiePool") cl_0 (Nat.le_of_ble_eq_true rfl) (Or.inl q480) (Or.inl rfl) dX0_none_2 (Or.inl rfl) rfl (ly0_k La0_h) ?_
        refine mx_nmI  (fun h6 eh6 Xh6 Kh6 Lh6 => ?_)
        have H := H h6 eh6 Xh6
        have La0_h6 := La0_h.ext Xh6
        refine mx_iconst dX0_none_5 ic_m1 ?_
        refine mx_iretK rfl dX0_none_6 ?_
        refine mx_i2l dX0_alone_20 ?_
        exact mx_lret rfl dX0_alone_21 H
      · have H := H.2 c5
        refine mx_iload_n dX0_isYear_4 rfl rfl ?_
        refine mx_bipush dX0_isYear_5 ib_10 ?_
        refine mx_icmp_ge (tgt := 14) dX0_isYear_7 rfl (fun c7 => ?_) (fun c7 => ?_)
        · have H := H.1 c7
          refine mx_iconst dX0_isYear_14 ic_0 ?_
          refine mx_zretK rfl dX0_isYear_15 (Or.inl rfl) ?_
          refine mx_if_eq (tgt := 26) dX0_wrongYear_16 rfl (fun _ => ?_) (fun _ => absurd ‹_› (by decide))
          refine mx_iconst dX0_wrongYear_26 ic_5 ?_
          refine mx_goto (tgt := 31) dX0_wrongYear_27 rfl ?_
          refine mx_iretK rfl dX0_wrongYear_31 ?_
          refine mx_istore (al' := [some (rv a0), some (iv x1), some (iv x2), some (iv x3), some (iv (5 : Int32))]) dX0_alone_7 (Nat.le_of_ble_eq_true rfl) rfl ?_
          refine mx_iload dX0_alone_9 rfl ?_
          refine mx_if_le (tgt := 22) dX0_alone_11 rfl (fun _ => absurd ‹_› (by decide)) (fun _ => ?_)
          refine mx_aload_n dX0_alone_14 rfl rfl ?_
          refine mx_iload dX0_alone_15 rfl ?_
          refine mx_callV 0 (y' := mi_X0_none) (vs := [iv (5 : Int32)]) (st := []) (al' := [some (rv a0), some (iv (5 : Int32))]) cl_0 V_X0_none (Or.inl q733) dX0_alone_17 rfl rfl (Nat.le_of_ble_eq_true rfl) (Nat.le_of_ble_eq_true rfl) (ly0_k La0_h) ?_
          refine mx_aload_n dX0_none_0 rfl rfl ?_
          refine mx_iload_n dX0_none_1 rfl rfl ?_
          refine mx_putI 0 20 (ref := "PrairiePool") cl_0 (Nat.le_of_ble_eq_true rfl) (Or.inl q480) (Or.inl rfl) dX0_none_2 (Or.inl rfl) rfl (ly0_k La0_h) ?_
          refine mx_nmI  (fun h8 eh8 Xh8 Kh8 Lh8 => ?_)
          have H := H h8 eh8 Xh8
          have La0_h8 := La0_h.ext Xh8
          refine mx_iconst dX0_none_5 ic_m1 ?_
          refine mx_iretK rfl dX0_none_6 ?_
          refine mx_i2l dX0_alone_20 ?_
          exact mx_lret rfl dX0_alone_21 H
        · have H := H.2 c7
          refine mx_iconst dX0_isYear_10 ic_1 ?_
          refine mx_goto (tgt := 15) dX0_isYear_11 rfl ?_
          refine mx_zretK rfl dX0_isYear_15 (Or.inr rfl) ?_
          refine mx_if_eq (tgt := 26) dX0_wrongYear_16 rfl (fun _ => absurd ‹_› (by decide)) (fun _ => ?_)
          refine mx_iload_n dX0_wrongYear_19 rfl rfl ?_
          refine mx_callS (y' := mi_X0_isWeek) (vs := [iv x3]) (st := []) (al' := [some (iv x3)]) S_X0_isWeek q841 dX0_wrongYear_20 rfl rfl (Nat.le_of_ble_eq_true rfl) (Nat.le_of_ble_eq_true rfl) ?_
          refine mx_iload_n dX0_isWeek_0 rfl rfl ?_
          refine mx_if_lt (tgt := 15) dX0_isWeek_1 rfl (fun c9 => ?_) (fun c9 => ?_)
          · have H := H.1 c9
            refine mx_iconst dX0_isWeek_15 ic_0 ?_
            refine mx_zretK rfl dX0_isWeek_16 (Or.inl rfl) ?_
            refine mx_if_ne (tgt := 30) dX0_wrongYear_23 rfl (fun _ => absurd ‹_› (by decide)) (fun _ => ?_)
            refine mx_iconst dX0_wrongYear_26 ic_5 ?_
            refine mx_goto (tgt := 31) dX0_wrongYear_27 rfl ?_
            refine mx_iretK rfl dX0_wrongYear_31 ?_
            refine mx_istore (al' := [some (rv a0), some (iv x1), some (iv x2), some (iv x3), some (iv (5 : Int32))]) dX0_alone_7 (Nat.le_of_ble_eq_true rfl) rfl ?_
            refine mx_iload dX0_alone_9 rfl ?_
            refine mx_if_le (tgt := 22) dX0_alone_11 rfl (fun _ => absurd ‹_› (by decide)) (fun _ => ?_)
            refine mx_aload_n dX0_alone_14 rfl rfl ?_
            refine mx_iload dX0_alone_15 rfl ?_
            refine mx_callV 0 (y' := mi_X0_none) (vs := [iv (5 : Int32)]) (st := []) (al' := [some (rv a0), some (iv (5 : Int32))]) cl_0 V_X0_none (Or.inl q733) dX0_alone_17 rfl rfl (Nat.le_of_ble_eq_true rfl) (Nat.le_of_ble_eq_true rfl) (ly0_k La0_h) ?_
            refine mx_aload_n dX0_none_0 rfl rfl ?_
            refine mx_iload_n dX0_none_1 rfl rfl ?_
            refine mx_putI 0 20 (ref := "PrairiePool") cl_0 (Nat.le_of_ble_eq_true rfl) (Or.inl q480) (Or.inl rfl) dX0_none_2 (Or.inl rfl) rfl (ly0_k La0_h) ?_
            refine mx_nmI  (fun h10 eh10 Xh10 Kh10 Lh10 => ?_)
            have H := H h10 eh10 Xh10
            have La0_h10 := La0_h.ext Xh10
            refine mx_iconst dX0_none_5 ic_m1 ?_
            refine mx_iretK rfl dX0_none_6 ?_
            refine mx_i2l dX0_alone_20 ?_
            exact mx_lret rfl dX0_alone_21 H
          · have H := H.2 c9
            refine mx_iload_n dX0_isWeek_4 rfl rfl ?_
            refine mx_sipush dX0_isWeek_5 is_520 ?_
            refine mx_icmp_ge (tgt := 15) dX0_isWeek_8 rfl (fun c11 => ?_) (fun c11 => ?_)
            · have H := H.1 c11
              refine mx_iconst dX0_isWeek_15 ic_0 ?_
              refine mx_zretK rfl dX0_isWeek_16 (Or.inl rfl) ?_
              refine mx_if_ne (tgt := 30) dX0_wrongYear_23 rfl (fun _ => absurd ‹_› (by decide)) (fun _ => ?_)
              refine mx_iconst dX0_wrongYear_26 ic_5 ?_
              refine mx_goto (tgt := 31) dX0_wrongYear_27 rfl ?_
              refine mx_iretK rfl dX0_wrongYear_31 ?_
              refine mx_istore (al' := [some (rv a0), some (iv x1), some (iv x2), some (iv x3), some (iv (5 : Int32))]) dX0_alone_7 (Nat.le_of_ble_eq_true rfl) rfl ?_
              refine mx_iload dX0_alone_9 rfl ?_
              refine mx_if_le (tgt := 22) dX0_alone_11 rfl (fun _ => absurd ‹_› (by decide)) (fun _ => ?_)
              refine mx_aload_n dX0_alone_14 rfl rfl ?_
              refine mx_iload dX0_alone_15 rfl ?_
              refine mx_callV 0 (y' := mi_X0_none) (vs := [iv (5 : Int32)]) (st := []) (al' := [some (rv a0), some (iv (5 : Int32))]) cl_0 V_X0_none (Or.inl q733) dX0_alone_17 rfl rfl (Nat.le_of_ble_eq_true rfl) (Nat.le_of_ble_eq_true rfl) (ly0_k La0_h) ?_
              refine mx_aload_n dX0_none_0 rfl rfl ?_
              refine mx_iload_n dX0_none_1 rfl rfl ?_
              refine mx_putI 0 20 (ref := "PrairiePool") cl_0 (Nat.le_of_ble_eq_true rfl) (Or.inl q480) (Or.inl rfl) dX0_none_2 (Or.inl rfl) rfl (ly0_k La0_h) ?_
              refine mx_nmI  (fun h12 eh12 Xh12 Kh12 Lh12 => ?_)
              have H := H h12 eh12 Xh12
              have La0_h12 := La0_h.ext Xh12
              refine mx_iconst dX0_none_5 ic_m1 ?_
              refine mx_iretK rfl dX0_none_6 ?_
              refine mx_i2l dX0_alone_20 ?_
              exact mx_lret rfl dX0_alone_21 H
            · have H := H.2 c11
              refine mx_iconst dX0_isWeek_11 ic_1 ?_
              refine mx_goto (tgt := 16) dX0_isWeek_12 rfl ?_
              refine mx_zretK rfl dX0_isWeek_16 (Or.inr rfl) ?_
              refine mx_if_ne (tgt := 30) dX0_wrongYear_23 rfl (fun _ => ?_) (fun _ => absurd ‹_› (by decide))
              refine mx_iconst dX0_wrongYear_30 ic_0 ?_
              refine mx_iretK rfl dX0_wrongYear_31 ?_
              refine mx_istore (al' := [some (rv a0), some (iv x1), some (iv x2), some (iv x3), some (iv (0 : Int32))]) dX0_alone_7 (Nat.le_of_ble_eq_true rfl) rfl ?_
              refine mx_iload dX0_alone_9 rfl ?_
              refine mx_if_le (tgt := 22) dX0_alone_11 rfl (fun _ => ?_) (fun _ => absurd ‹_› (by decide))
              refine mx_aload_n dX0_alone_22 rfl rfl ?_
              refine mx_iload_n dX0_alone_23 rfl rfl ?_
              refine mx_callV 0 (y' := mi_X0_playsLoads) (vs := [iv x3]) (st := []) (al' := [some (rv a0), some (iv x3), none, none, none]) cl_0 V_X0_playsLoads (Or.inl q1554) dX0_alone_24 rfl rfl (Nat.le_of_ble_eq_true rfl) (Nat.le_of_ble_eq_true rfl) (ly0_k La0_h) ?_
              refine ma_kv H (fun h13 Xh13 H => ?_) (fun x1 h1 X1 H => mt_out rfl H)
              have H := H Xh13
              have La0_h13 := La0_h.ext Xh13
              refine mx_aload_n dX0_alone_27 rfl rfl ?_
              refine mx_aload_n dX0_alone_28 rfl rfl ?_
              refine mx_iload_n dX0_alone_29 rfl rfl ?_
              refine mx_iload_n dX0_alone_30 rfl rfl ?_
              refine mx_iload_n dX0_alone_31 rfl rfl ?_
              refine mx_callV 0 (y' := mi_X0_aloneOf) (vs := [iv x1, iv x2, iv x3]) (st := [rv a0]) (al' := [some (rv a0), some (iv x1), some (iv x2), some (iv x3), none, none, none, none, none]) cl_0 V_X0_aloneOf (Or.inl q1558) dX0_alone_32 rfl rfl (Nat.le_of_ble_eq_true rfl) (Nat.le_of_ble_eq_true rfl) (ly0_k La0_h13) ?_
              refine ma_kl H (fun r16 h15 Xh15 H => ?_) (fun x1 h1 X1 H => mt_out rfl H)
              have H := H Xh15
              have La0_h15 := La0_h13.ext Xh15
              refine mx_callV 0 (y' := mi_X0_givesLong) (vs := [jv r16]) (st := []) (al' := [some (rv a0), some (jv r16), none]) cl_0 V_X0_givesLong (Or.inl q1471) dX0_alone_35 rfl rfl (Nat.le_of_ble_eq_true rfl) (Nat.le_of_ble_eq_true rfl) (ly0_k La0_h15) ?_
              refine mx_aload_n dX0_givesLong_0 rfl rfl ?_
              refine mx_iconst dX0_givesLong_1 ic_0 ?_
              refine mx_putI 0 20 (ref := "PrairiePool") cl_0 (Nat.le_of_ble_eq_true rfl) (Or.inl q480) (Or.inl rfl) dX0_givesLong_2 (Or.inl rfl) rfl (ly0_k La0_h15) ?_
              refine mx_nmI  (fun h17 eh17 Xh17 Kh17 Lh17 => ?_)
              have H := H h17 eh17 Xh17
              have La0_h17 := La0_h15.ext Xh17
              refine mx_lload_n dX0_givesLong_5 rfl rfl ?_
              refine mx_lretK rfl dX0_givesLong_6 ?_
              exact mx_lret rfl dX0_alone_38 H
theorem dX0_playsLoads_0 : decode mi_X0_playsLoads.2.1 0 = .ok (.aload_n 0, 1) := by decide +kernel
theorem dX0_playsLoads_1 : decode mi_X0_playsLoads.2.1 1 = .ok (.getfield 49, 3) := by decide +kernel
theorem dX0_playsLoads_4 : decode mi_X0_playsLoads.2.1 4 = .ok (.invokevirtual 369, 3) := by decide +kernel
theorem dX0_playsLoads_7 : decode mi_X0_playsLoads.2.1 7 = .ok (.iconst 0, 1) := by decide +kernel
theorem dX0_playsLoads_8 : decode mi_X0_playsLoads.2.1 8 = .ok (.istore_n 2, 1) := by decide +kernel
theorem dX0_playsLoads_9 : decode mi_X0_playsLoads.2.1 9 = .ok (.iload_n 2, 1) := by decide +kernel
theorem dX0_playsLoads_10 : decode mi_X0_playsLoads.2.1 10 = .ok (.aload_n 0, 1) := by decide +kernel
theorem dX0_playsLoads_11 : decode mi_X0_playsLoads.2.1 11 = .ok (.getfield 263, 3) := by decide +kernel
theorem dX0_playsLoads_14 : decode mi_X0_playsLoads.2.1 14 = .ok (.if_icmp .ge 134, 3) := by decide +kernel
theorem dX0_playsLoads_17 : decode mi_X0_playsLoads.2.1 17 = .ok (.aload_n 0, 1) := by decide +kernel
theorem dX0_playsLoads_18 : decode mi_X0_playsLoads.2.1 18 = .ok (.getfield 29, 3) := by decide +kernel
theorem dX0_playsLoads_21 : decode mi_X0_playsLoads.2.1 21 = .ok (.iload_n 2, 1) := by decide +kernel
theorem dX0_playsLoads_22 : decode mi_X0_playsLoads.2.1 22 = .ok (.aaload, 1) := by decide +kernel
theorem dX0_playsLoads_23 : decode mi_X0_playsLoads.2.1 23 = .ok (.getfield 272, 3) := by decide +kernel
theorem dX0_playsLoads_26 : decode mi_X0_playsLoads.2.1 26 = .ok (.iload_n 1, 1) := by decide +kernel
theorem dX0_playsLoads_27 : decode mi_X0_playsLoads.2.1 27 = .ok (.if_icmp .le 6, 3) := by decide +kernel
theorem dX0_playsLoads_30 : decode mi_X0_playsLoads.2.1 30 = .ok (.goto 112, 3) := by decide +kernel
theorem dX0_playsLoads_33 : decode mi_X0_playsLoads.2.1 33 = .ok (.iconst 0, 1) := by decide +kernel
theorem dX0_playsLoads_34 : decode mi_X0_playsLoads.2.1 34 = .ok (.istore_n 3, 1) := by decide +kernel
theorem dX0_playsLoads_35 : decode mi_X0_playsLoads.2.1 35 = .ok (.aload_n 0, 1) := by decide +kernel
theorem dX0_playsLoads_36 : decode mi_X0_playsLoads.2.1 36 = .ok (.getfield 29, 3) := by decide +kernel
theorem dX0_playsLoads_39 : decode mi_X0_playsLoads.2.1 39 = .ok (.iload_n 2, 1) := by decide +kernel
theorem dX0_playsLoads_40 : decode mi_X0_playsLoads.2.1 40 = .ok (.aaload, 1) := by decide +kernel
theorem dX0_playsLoads_41 : decode mi_X0_playsLoads.2.1 41 = .ok (.instanceof 289, 3) := by decide +kernel
theorem dX0_playsLoads_44 : decode mi_X0_playsLoads.2.1 44 = .ok (.ifCond .eq 42, 3) := by decide +kernel
theorem dX0_playsLoads_47 : decode mi_X0_playsLoads.2.1 47 = .ok (.aload_n 0, 1) := by decide +kernel
theorem dX0_playsLoads_48 : decode mi_X0_playsLoads.2.1 48 = .ok (.getfield 29, 3) := by decide +kernel
theorem dX0_playsLoads_51 : decode mi_X0_playsLoads.2.1 51 = .ok (.iload_n 2, 1) := by decide +kernel
theorem dX0_playsLoads_52 : decode mi_X0_playsLoads.2.1 52 = .ok (.aaload, 1) := by decide +kernel
theorem dX0_playsLoads_53 : decode mi_X0_playsLoads.2.1 53 = .ok (.checkcast 289, 3) := by decide +kernel
theorem dX0_playsLoads_56 : decode mi_X0_playsLoads.2.1 56 = .ok (.astore 4, 2) := by decide +kernel
theorem dX0_playsLoads_58 : decode mi_X0_playsLoads.2.1 58 = .ok (.aload 4, 2) := by decide +kernel
theorem dX0_playsLoads_60 : decode mi_X0_playsLoads.2.1 60 = .ok (.aload_n 0, 1) := by decide +kernel
theorem dX0_playsLoads_61 : decode mi_X0_playsLoads.2.1 61 = .ok (.iload_n 2, 1) := by decide +kernel
theorem dX0_playsLoads_62 : decode mi_X0_playsLoads.2.1 62 = .ok (.iload_n 1, 1) := by decide +kernel
theorem dX0_playsLoads_63 : decode mi_X0_playsLoads.2.1 63 = .ok (.invokevirtual 365, 3) := by decide +kernel
theorem dX0_playsLoads_66 : decode mi_X0_playsLoads.2.1 66 = .ok (.putfield 372, 3) := by decide +kernel
theorem dX0_playsLoads_69 : decode mi_X0_playsLoads.2.1 69 = .ok (.aload_n 0, 1) := by decide +kernel
theorem dX0_playsLoads_70 : decode mi_X0_playsLoads.2.1 70 = .ok (.getfield 49, 3) := by decide +kernel
theorem dX0_playsLoads_73 : decode mi_X0_playsLoads.2.1 73 = .ok (.getfield 408, 3) := by decide +kernel
theorem dX0_playsLoads_76 : decode mi_X0_playsLoads.2.1 76 = .ok (.aload 4, 2) := by decide +kernel
theorem dX0_playsLoads_78 : decode mi_X0_playsLoads.2.1 78 = .ok (.getfield 350, 3) := by decide +kernel
theorem dX0_playsLoads_81 : decode mi_X0_playsLoads.2.1 81 = .ok (.getfield 554, 3) := by decide +kernel
theorem dX0_playsLoads_84 : decode mi_X0_playsLoads.2.1 84 = .ok (.iaload, 1) := by decide +kernel
theorem dX0_playsLoads_85 : decode mi_X0_playsLoads.2.1 85 = .ok (.istore_n 3, 1) := by decide +kernel
theorem dX0_playsLoads_86 : decode mi_X0_playsLoads.2.1 86 = .ok (.aload_n 0, 1) := by decide +kernel
theorem dX0_playsLoads_87 : decode mi_X0_playsLoads.2.1 87 = .ok (.getfield 29, 3) := by decide +kernel
theorem dX0_playsLoads_90 : decode mi_X0_playsLoads.2.1 90 = .ok (.iload_n 2, 1) := by decide +kernel
theorem dX0_playsLoads_91 : decode mi_X0_playsLoads.2.1 91 = .ok (.aaload, 1) := by decide +kernel
theorem dX0_playsLoads_92 : decode mi_X0_playsLoads.2.1 92 = .ok (.aload_n 0, 1) := by decide +kernel
theorem dX0_playsLoads_93 : decode mi_X0_playsLoads.2.1 93 = .ok (.getfield 49, 3) := by decide +kernel
theorem dX0_playsLoads_96 : decode mi_X0_playsLoads.2.1 96 = .ok (.invokevirtual 375, 3) := by decide +kernel
theorem dX0_playsLoads_99 : decode mi_X0_playsLoads.2.1 99 = .ok (.aload_n 0, 1) := by decide +kernel
theorem dX0_playsLoads_100 : decode mi_X0_playsLoads.2.1 100 = .ok (.getfield 29, 3) := by decide +kernel
theorem dX0_playsLoads_103 : decode mi_X0_playsLoads.2.1 103 = .ok (.iload_n 2, 1) := by decide +kernel
theorem dX0_playsLoads_104 : decode mi_X0_playsLoads.2.1 104 = .ok (.aaload, 1) := by decide +kernel
theorem dX0_playsLoads_105 : decode mi_X0_playsLoads.2.1 105 = .ok (.instanceof 289, 3) := by decide +kernel
theorem dX0_playsLoads_108 : decode mi_X0_playsLoads.2.1 108 = .ok (.ifCond .eq 34, 3) := by decide +kernel
theorem dX0_playsLoads_111 : decode mi_X0_playsLoads.2.1 111 = .ok (.aload_n 0, 1) := by decide +kernel
theorem dX0_playsLoads_112 : decode mi_X0_playsLoads.2.1 112 = .ok (.getfield 133, 3) := by decide +kernel
theorem dX0_playsLoads_115 : decode mi_X0_playsLoads.2.1 115 = .ok (.iload_n 2, 1) := by decide +kernel
theorem dX0_playsLoads_116 : decode mi_X0_playsLoads.2.1 116 = .ok (.aload_n 0, 1) := by decide +kernel
theorem dX0_playsLoads_117 : decode mi_X0_playsLoads.2.1 117 = .ok (.getfield 49, 3) := by decide +kernel
theorem dX0_playsLoads_120 : decode mi_X0_playsLoads.2.1 120 = .ok (.getfield 408, 3) := by decide +kernel
theorem dX0_playsLoads_123 : decode mi_X0_playsLoads.2.1 123 = .ok (.aload_n 0, 1) := by decide +kernel
theorem dX0_playsLoads_124 : decode mi_X0_playsLoads.2.1 124 = .ok (.getfield 29, 3) := by decide +kernel
theorem dX0_playsLoads_127 : decode mi_X0_playsLoads.2.1 127 = .ok (.iload_n 2, 1) := by decide +kernel
theorem dX0_playsLoads_128 : decode mi_X0_playsLoads.2.1 128 = .ok (.aaload, 1) := by decide +kernel
theorem dX0_playsLoads_129 : decode mi_X0_playsLoads.2.1 129 = .ok (.checkcast 289, 3) := by decide +kernel
theorem dX0_playsLoads_132 : decode mi_X0_playsLoads.2.1 132 = .ok (.getfield 350, 3) := by decide +kernel
theorem dX0_playsLoads_135 : decode mi_X0_playsLoads.2.1 135 = .ok (.getfield 554, 3) := by decide +kernel
theorem dX0_playsLoads_138 : decode mi_X0_playsLoads.2.1 138 = .ok (.iaload, 1) := by decide +kernel
theorem dX0_playsLoads_139 : decode mi_X0_playsLoads.2.1 139 = .ok (.iload_n 3, 1) := by decide +kernel
theorem dX0_playsLoads_140 : decode mi_X0_playsLoads.2.1 140 = .ok (.isub, 1) := by decide +kernel
theorem dX0_playsLoads_141 : decode mi_X0_playsLoads.2.1 141 = .ok (.iastore, 1) := by decide +kernel
theorem dX0_playsLoads_142 : decode mi_X0_playsLoads.2.1 142 = .ok (.iinc 2 1, 3) := by decide +kernel
theorem dX0_playsLoads_145 : decode mi_X0_playsLoads.2.1 145 = .ok (.goto (-136), 3) := by decide +kernel
theorem dX0_playsLoads_148 : decode mi_X0_playsLoads.2.1 148 = .ok (.return_, 1) := by decide +kernel
theorem v_X0_playsLoads {G : ma_G} {d : Nat} {a0 : Nat} {x1 : Int32} {h : ah_T} {Q : Option ma_V → ah_T → Prop} {E : Nat → ah_T → Prop} (La0_h : LY0 h a0) (H : MX G mi_X1_begin d 0 [some (rv (a0 + 9)), none, none, none] [] h (Qv fun h1 => ah_ext h h1 → MX G mi_X0_playsLoads (d + 1) 9 [some (rv a0), some (iv x1), some (iv (0 : Int32)), none, none] [] h1 Q E) E) : MX G mi_X0_playsLoads (d + 1) 0 [some (rv a0), some (iv x1), none, none, none] [] h Q E := by
  refine mx_aload_n dX0_playsLoads_0 rfl rfl ?_
  refine mx_get 0 8 (ref := "PrairiePool") cl_0 (Nat.le_of_ble_eq_true rfl) (Or.inl q468) (Or.inl rfl) dX0_playsLoads_1 (fv_0_8 _ _) (ly0_k La0_h) ?_
  refine mx_tr (ly0_R_0_8 La0_h) ?_
  refine mx_callV 1 (y' := mi_X1_begin) (vs := []) (st := []) (al' := [some (rv (a0 + 9)), none, none, none]) cl_1 V_X1_begin (Or.inl q1073) dX0_playsLoads_4 rfl rfl (Nat.le_of_ble_eq_true rfl) (Nat.le_of_ble_eq_true rfl) (ly0_K_9 La0_h) ?_
  refine ma_kv H (fun h1 Xh1 H => ?_) (fun x1 h1 X1 H => mt_out rfl H)
  have H := H Xh1
  have La0_h1 := La0_h.ext Xh1
  refine mx_iconst dX0_playsLoads_7 ic_0 ?_
  refine mx_istore_n (al' := [some (rv a0), some (iv x1), some (iv (0 : Int32)), none, none]) dX0_playsLoads_8 rfl (Nat.le_of_ble_eq_true rfl) rfl ?_
  exact mx_weak (al' := [some (rv a0), some (iv x1), some (iv (0 : Int32)), none, none]) ⟨rfl, ⟨rfl, ⟨rfl, trivial⟩⟩⟩ H
theorem v_X0_playsLoads_9 {G : ma_G} {d : Nat} {a0 : Nat} {x1 : Int32} {x2 : Int32} {h : ah_T} {Q : Option ma_V → ah_T → Prop} {E : Nat → ah_T → Prop} (La0_h : LY0 h a0) (H : ((ah_I h a0 16) ≤ x2 → Q none h) ∧ (¬ (ah_I h a0 16) ≤ x2 → vp_in x2 120 ∧ ma_ks h (ah_R h (a0 + 4) x2.toNatClampNeg) [11, 12, 13, 14] ∧ ((ah_I h (ah_R h (a0 + 4) x2.toNatClampNeg) 1) ≤ x1 → ((ah_kd h (ah_R h (a0 + 4) x2.toNatClampNeg) = 12 → MX G mi_X0_gradeOf d 0 [some (rv a0), some (iv x2), some (iv x1), none, none, none, none, none, none, none, none] [] h (Qi fun r7 h6 => ah_ext h h6 → ∀ h10 : ah_T, h10 = ah_wI h6 (ah_R h (a0 + 4) x2.toNatClampNeg) 6 r7 → ah_ext h6 h10 → ah_kd h6 (ah_R h6 (ah_R h (a0 + 4) x2.toNatClampNeg) 3) = 10 ∧ vp_in (ah_I h6 (ah_R h6 (ah_R h (a0 + 4) x2.toNatClampNeg) 3) 0) 20 ∧ MX G mi_X0_playsLoads (d + 1) 86 [some (rv a0), some (iv x1), some (iv x2), some (iv (ah_I h10 (a0 + 99) (ah_I h6 (ah_R h6 (ah_R h (a0 + 4) x2.toNatClampNeg) 3) 0).toNatClampNeg)), none] [] h10 Q E) E) ∧ (¬ ah_kd h (ah_R h (a0 + 4) x2.toNatClampNeg) = 12 → MX G mi_X0_playsLoads (d + 1) 86 [some (rv a0), some (iv x1), some (iv x2), some (iv (0 : Int32)), none] [] h Q E))) ∧ (¬ (ah_I h (ah_R h (a0 + 4) x2.toNatClampNeg) 1) ≤ x1 → MX G mi_X0_playsLoads (d + 1) 9 [some (rv a0), some (iv x1), some (iv (x2 + (1 : Int32))), none, none] [] h Q E))) : MX G mi_X0_playsLoads (d + 1) 9 [some (rv a0), some (iv x1), some (iv x2), none, none] [] h Q E := by
  refine mx_iload_n dX0_playsLoads_9 rfl rfl ?_
  refine mx_aload_n dX0_playsLoads_10 rfl rfl ?_
  refine mx_get 0 16 (ref := "PrairiePool") cl_0 (Nat.le_of_ble_eq_true rfl) (Or.inl q476) (Or.inl rfl) dX0_playsLoads_11 (fv_0_16 _ _) (ly0_k La0_h) ?_
  refine mx_icmp_ge (tgt := 148) dX0_playsLoads_14 rfl (fun c1 => ?_) (fun c1 => ?_)
  · have H := H.1 c1
    exact mx_vret rfl dX0_playsLoads_148 H
  · have H := H.2 c1
    refine mx_aload_n dX0_playsLoads_17 rfl rfl ?_
    refine mx_get 0 3 (ref := "PrairiePool") cl_0 (Nat.le_of_ble_eq_true rfl) (Or.inl q463) (Or.inl rfl) dX0_playsLoads_18 (fv_0_3 _ _) (ly0_k La0_h) ?_
    refine mx_tr (ly0_R_0_3 La0_h) ?_
    refine mx_iload_n dX0_playsLoads_21 rfl rfl ?_
    obtain ⟨k2, H⟩ := H
    refine my_aald 8 dX0_playsLoads_22 (by decide) rfl (ly0_A_4 La0_h k2) ?_
    obtain ⟨k3, H⟩ := H
    refine mx_getP [11, 12, 13, 14] 1 (ref := "PrairiePool$Event") (v := iv (ah_I _ _ 1)) fa_ev_1 (Or.inl q865) (Or.inl rfl) dX0_playsLoads_23 rfl k3 ?_
    refine mx_iload_n dX0_playsLoads_26 rfl rfl ?_
    refine mx_icmp_le (tgt := 33) dX0_playsLoads_27 rfl (fun c4 => ?_) (fun c4 => ?_)
    · have H := H.1 c4
      refine mx_iconst dX0_playsLoads_33 ic_0 ?_
      refine mx_istore_n (al' := [some (rv a0), some (iv x1), some (iv x2), some (iv (0 : Int32)), none]) dX0_playsLoads_34 rfl (Nat.le_of_ble_eq_true rfl) rfl ?_
      refine mx_aload_n dX0_playsLoads_35 rfl rfl ?_
      refine mx_get 0 3 (ref := "PrairiePool") cl_0 (Nat.le_of_ble_eq_true rfl) (Or.inl q463) (Or.inl rfl) dX0_playsLoads_36 (fv_0_3 _ _) (ly0_k La0_h) ?_
      refine mx_tr (ly0_R_0_3 La0_h) ?_
      refine mx_iload_n dX0_playsLoads_39 rfl rfl ?_
      refine my_aald 8 dX0_playsLoads_40 (by decide) rfl (ly0_A_4 La0_h k2) ?_
      refine mx_instL q844 dX0_playsLoads_41 k3 (fun c5 => ?_) (fun c5 => ?_)
      · have H := H.1 c5
        refine mx_if_eq (tgt := 86) dX0_playsLoads_44 rfl (fun _ => absurd ‹_› (by decide)) (fun _ => ?_)
        refine mx_aload_n dX0_playsLoads_47 rfl rfl ?_
        refine mx_get 0 3 (ref := "PrairiePool") cl_0 (Nat.le_of_ble_eq_true rfl) (Or.inl q463) (Or.inl rfl) dX0_playsLoads_48 (fv_0_3 _ _) (ly0_k La0_h) ?_
        refine mx_tr (ly0_R_0_3 La0_h) ?_
        refine mx_iload_n dX0_playsLoads_51 rfl rfl ?_
        refine my_aald 8 dX0_playsLoads_52 (by decide) rfl (ly0_A_4 La0_h k2) ?_
        refine mx_castY 11 cl_11 q844 dX0_playsLoads_53 c5 ?_
        refine mx_astore (al' := [some (rv a0), some (iv x1), some (iv x2), some (iv (0 : Int32)), some (rv (ah_R h (a0 + 4) x2.toNatClampNeg))]) dX0_playsLoads_56 (Nat.le_of_ble_eq_true rfl) rfl ?_
        refine mx_aload dX0_playsLoads_58 rfl ?_
        refine mx_aload_n dX0_playsLoads_60 rfl rfl ?_
        refine mx_iload_n dX0_playsLoads_61 rfl rfl ?_
        refine mx_iload_n dX0_playsLoads_62 rfl rfl ?_
        refine mx_callV 0 (y' := mi_X0_gradeOf) (vs := [iv x2, iv x1]) (st := [rv (ah_R h (a0 + 4) x2.toNatClampNeg)]) (al' := [some (rv a0), some (iv x2), some (iv x1), none, none, none, none, none, none, none, none]) cl_0 V_X0_gradeOf (Or.inl q989) dX0_playsLoads_63 rfl rfl (Nat.le_of_ble_eq_true rfl) (Nat.le_of_ble_eq_true rfl) (ly0_k La0_h) ?_
        refine ma_ki H (fun r7 h6 Xh6 H => ?_) (fun x1 h1 X1 H => mt_out rfl H)
        have H := H Xh6
        have k8 := ma_ksx Xh6 (k3)
        have k9 := Xh6.kd (c5)
        have La0_h6 := La0_h.ext Xh6
        refine mx_putI 11 6 (ref := "PrairiePool$Load") cl_11 (Nat.le_of_ble_eq_true rfl) (Or.inr ⟨_, q858⟩) (Or.inl rfl) dX0_playsLoads_66 (Or.inl rfl) rfl k9 ?_
        refine mx_nmI  (fun h10 eh10 Xh10 Kh10 Lh10 => ?_)
        have H := H h10 eh10 Xh10
        have La0_h10 := La0_h6.ext Xh10
        refine mx_aload_n dX0_playsLoads_69 rfl rfl ?_
        refine mx_get 0 8 (ref := "PrairiePool") cl_0 (Nat.le_of_ble_eq_true rfl) (Or.inl q468) (Or.inl rfl) dX0_playsLoads_70 (fv_0_8 _ _) (ly0_k La0_h10) ?_
        refine mx_tr (ly0_R_0_8 La0_h10) ?_
        refine mx_get 1 7 (ref := "PrairiePool$Play") cl_1 (Nat.le_of_ble_eq_true rfl) (Or.inr ⟨_, q249⟩) (Or.inl rfl) dX0_playsLoads_73 (fv_1_7 _ _) (ly0_K_9 La0_h10) ?_
        refine mx_tr (ly0_R_9_7 La0_h10) ?_
        refine mx_aload dX0_playsLoads_76 rfl ?_
        refine mx_get 11 3 (ref := "PrairiePool$Load") cl_11 (Nat.le_of_ble_eq_true rfl) (Or.inl q854) (Or.inl rfl) dX0_playsLoads_78 (fv_11_3 _ _) (ma_kde Kh10 (k9)) ?_
        refine mx_tr (ah_RI eh10) ?_
        obtain ⟨k11, H⟩ := H
        refine mx_get 9 0 (ref := "PrairiePool$Farm") cl_9 (Nat.le_of_ble_eq_true rfl) (Or.inl q769) (Or.inl rfl) dX0_playsLoads_81 (fv_9_0 _ _) (ma_kde Kh10 (k11)) ?_
        refine mx_ti (ah_skIK eh10 (by decide)) ?_
        obtain ⟨k12, H⟩ := H
        refine my_iald dX0_playsLoads_84 rfl (ly0_A_99 La0_h10 k12) ?_
        refine mx_istore_n (al' := [some (rv a0), some (iv x1), some (iv x2), some (iv (ah_I h10 (a0 + 99) (ah_I h6 (ah_R h6 (ah_R h (a0 + 4) x2.toNatClampNeg) 3) 0).toNatClampNeg)), some (rv (ah_R h (a0 + 4) x2.toNatClampNeg))]) dX0_playsLoads_85 rfl (Nat.le_of_ble_eq_true rfl) rfl ?_
        exact mx_weak (al' := [some (rv a0), some (iv x1), some (iv x2), some (iv (ah_I h10 (a0 + 99) (ah_I h6 (ah_R h6 (ah_R h (a0 + 4) x2.toNatClampNeg) 3) 0).toNatClampNeg)), none]) ⟨rfl, ⟨rfl, ⟨rfl, ⟨rfl, trivial⟩⟩⟩⟩ H
      · have H := H.2 c5
        refine mx_if_eq (tgt := 86) dX0_playsLoads_44 rfl (fun _ => ?_) (fun _ => absurd ‹_› (by decide))
        exact mx_weak (al' := [some (rv a0), some (iv x1), some (iv x2), some (iv (0 : Int32)), none]) ⟨rfl, ⟨rfl, ⟨rfl, ⟨rfl, trivial⟩⟩⟩⟩ H
    · have H := H.2 c4
      refine mx_goto (tgt := 142) dX0_playsLoads_30 rfl ?_
      refine mx_iinc (al' := [some (rv a0), some (iv x1), some (iv (x2 + (1 : Int32))), none, none]) dX0_playsLoads_142 rfl ic_1 rfl ?_
      refine mx_goto (tgt := 9) dX0_playsLoads_145 rfl ?_
      exact mx_weak (al' := [some (rv a0), some (iv x1), some (iv (x2 + (1 : Int32))), none, none]) ⟨rfl, ⟨rfl, ⟨rfl, trivial⟩⟩⟩ H
theorem v_X0_playsLoads_86 {G : ma_G} {d : Nat} {a0 : Nat} {x1 : Int32} {x2 : Int32} {x3 : Int32} {h : ah_T} {Q : Option ma_V → ah_T → Prop} {E : Nat → ah_T → Prop} (La0_h : LY0 h a0) (H : vp_in x2 120 ∧ ma_ks h (ah_R h (a0 + 4) x2.toNatClampNeg) [11, 12, 13, 14] ∧ MX G (vm_plays (ah_kd h (ah_R h (a0 + 4) x2.toNatClampNeg))) d 0 (al_ent (vm_plays (ah_kd h (ah_R h (a0 + 4) x2.toNatClampNeg))).2.2.1 [rv (ah_R h (a0 + 4) x2.toNatClampNeg), rv (a0 + 9)]) [] h (Qv fun h3 => ah_ext h h3 → ma_ks h3 (ah_R h3 (a0 + 4) x2.toNatClampNeg) [11, 12, 13, 14] ∧ ((ah_kd h3 (ah_R h3 (a0 + 4) x2.toNatClampNeg) = 12 → ah_kd h3 (ah_R h3 (ah_R h3 (a0 + 4) x2.toNatClampNeg) 3) = 10 ∧ vp_in (ah_I h3 (ah_R h3 (ah_R h3 (a0 + 4) x2.toNatClampNeg) 3) 0) 20 ∧ ∀ h10 : ah_T, h10 = ah_wI h3 (a0 + 1448) x2.toNatClampNeg ((ah_I h3 (a0 + 99) (ah_I h3 (ah_R h3 (ah_R h3 (a0 + 4) x2.toNatClampNeg) 3) 0).toNatClampNeg) - x3) → ah_ext h3 h10 → MX G mi_X0_playsLoads (d + 1) 9 [some (rv a0), some (iv x1), some (iv (x2 + (1 : Int32))), none, none] [] h10 Q E) ∧ (¬ ah_kd h3 (ah_R h3 (a0 + 4) x2.toNatClampNeg) = 12 → MX G mi_X0_playsLoads (d + 1) 9 [some (rv a0), some (iv x1), some (iv (x2 + (1 : Int32))), none, none] [] h3 Q E))) E) : MX G mi_X0_playsLoads (d + 1) 86 [some (rv a0), some (iv x1), some (iv x2), some (iv x3), none] [] h Q E := by
  refine mx_aload_n dX0_playsLoads_86 rfl rfl ?_
  refine mx_get 0 3 (ref := "PrairiePool") cl_0 (Nat.le_of_ble_eq_true rfl) (Or.inl q463) (Or.inl rfl) dX0_playsLoads_87 (fv_0_3 _ _) (ly0_k La0_h) ?_
  refine mx_tr (ly0_R_0_3 La0_h) ?_
  refine mx_iload_n dX0_playsLoads_90 rfl rfl ?_
  obtain ⟨k1, H⟩ := H
  refine my_aald 8 dX0_playsLoads_91 (by decide) rfl (ly0_A_4 La0_h k1) ?_
  refine mx_aload_n dX0_playsLoads_92 rfl rfl ?_
  refine mx_get 0 8 (ref := "PrairiePool") cl_0 (Nat.le_of_ble_eq_true rfl) (Or.inl q468) (Or.inl rfl) dX0_playsLoads_93 (fv_0_8 _ _) (ly0_k La0_h) ?_
  refine mx_tr (ly0_R_0_8 La0_h) ?_
  obtain ⟨k2, H⟩ := H
  refine mx_callP [11, 12, 13, 14] vm_plays (vs := [rv (a0 + 9)]) (st := []) pu_plays rfl rfl rfl (Nat.le_of_ble_eq_true rfl) (Or.inr (by simp [defaultWords_1, mi_X0_playsLoads])) dX0_playsLoads_96 rfl k2 ?_
  refine ma_kv H (fun h3 Xh3 H => ?_) (fun x1 h1 X1 H => mt_out rfl H)
  have H := H Xh3
  have k5 := ma_ksx Xh3 (k2)
  have La0_h3 := La0_h.ext Xh3
  refine mx_aload_n dX0_playsLoads_99 rfl rfl ?_
  refine mx_get 0 3 (ref := "PrairiePool") cl_0 (Nat.le_of_ble_eq_true rfl) (Or.inl q463) (Or.inl rfl) dX0_playsLoads_100 (fv_0_3 _ _) (ly0_k La0_h3) ?_
  refine mx_tr (ly0_R_0_3 La0_h3) ?_
  refine mx_iload_n dX0_playsLoads_103 rfl rfl ?_
  refine my_aald 8 dX0_playsLoads_104 (by decide) rfl (ly0_A_4 La0_h3 k1) ?_
  obtain ⟨k6, H⟩ := H
  refine mx_instL q844 dX0_playsLoads_105 k6 (fun c7 => ?_) (fun c7 => ?_)
  · have H := H.1 c7
    refine mx_if_eq (tgt := 142) dX0_playsLoads_108 rfl (fun _ => absurd ‹_› (by decide)) (fun _ => ?_)
    refine mx_aload_n dX0_playsLoads_111 rfl rfl ?_
    refine mx_get 0 39 (ref := "PrairiePool") cl_0 (Nat.le_of_ble_eq_true rfl) (Or.inl q499) (Or.inl rfl) dX0_playsLoads_112 (fv_0_39 _ _) (ly0_k La0_h3) ?_
    refine mx_tr (ly0_R_0_39 La0_h3) ?_
    refine mx_iload_n dX0_playsLoads_115 rfl rfl ?_
    refine mx_aload_n dX0_playsLoads_116 rfl rfl ?_
    refine mx_get 0 8 (ref := "PrairiePool") cl_0 (Nat.le_of_ble_eq_true rfl) (Or.inl q468) (Or.inl rfl) dX0_playsLoads_117 (fv_0_8 _ _) (ly0_k La0_h3) ?_
    refine mx_tr (ly0_R_0_8 La0_h3) ?_
    refine mx_get 1 7 (ref := "PrairiePool$Play") cl_1 (Nat.le_of_ble_eq_true rfl) (Or.inr ⟨_, q249⟩) (Or.inl rfl) dX0_playsLoads_120 (fv_1_7 _ _) (ly0_K_9 La0_h3) ?_
    refine mx_tr (ly0_R_9_7 La0_h3) ?_
    refine mx_aload_n dX0_playsLoads_123 rfl rfl ?_
    refine mx_get 0 3 (ref := "PrairiePool") cl_0 (Nat.le_of_ble_eq_true rfl) (Or.inl q463) (Or.inl rfl) dX0_playsLoads_124 (fv_0_3 _ _) (ly0_k La0_h3) ?_
    refine mx_tr (ly0_R_0_3 La0_h3) ?_
    refine mx_iload_n dX0_playsLoads_127 rfl rfl ?_
    refine my_aald 8 dX0_playsLoads_128 (by decide) rfl (ly0_A_4 La0_h3 k1) ?_
    refine mx_castY 11 cl_11 q844 dX0_playsLoads_129 c7 ?_
    refine mx_get 11 3 (ref := "PrairiePool$Load") cl_11 (Nat.le_of_ble_eq_true rfl) (Or.inl q854) (Or.inl rfl) dX0_playsLoads_132 (fv_11_3 _ _) c7 ?_
    obtain ⟨k8, H⟩ := H
    refine mx_get 9 0 (ref := "PrairiePool$Farm") cl_9 (Nat.le_of_ble_eq_true rfl) (Or.inl q769) (Or.inl rfl) dX0_playsLoads_135 (fv_9_0 _ _) k8 ?_
    obtain ⟨k9, H⟩ := H
    refine my_iald dX0_playsLoads_138 rfl (ly0_A_99 La0_h3 k9) ?_
    refine mx_iload_n dX0_playsLoads_139 rfl rfl ?_
    refine mx_isub dX0_playsLoads_140 ?_
    refine my_iast dX0_playsLoads_141 rfl (ly0_A_1448 La0_h3 k1) ?_
    refine mx_nmI  (fun h10 eh10 Xh10 Kh10 Lh10 => ?_)
    have H := H h10 eh10 Xh10
    have La0_h10 := La0_h3.ext Xh10
    refine mx_iinc (al' := [some (rv a0), some (iv x1), some (iv (x2 + (1 : Int32))), some (iv x3), none]) dX0_playsLoads_142 rfl ic_1 rfl ?_
    refine mx_goto (tgt := 9) dX0_playsLoads_145 rfl ?_
    exact mx_weak (al' := [some (rv a0), some (iv x1), some (iv (x2 + (1 : Int32))), none, none]) ⟨rfl, ⟨rfl, ⟨rfl, trivial⟩⟩⟩ H
  · have H := H.2 c7
    refine mx_if_eq (tgt := 142) dX0_playsLoads_108 rfl (fun _ => ?_) (fun _ => absurd ‹_› (by decide))
    refine mx_iinc (al' := [some (rv a0), some (iv x1), some (iv (x2 + (1 : Int32))), some (iv x3), none]) dX0_playsLoads_142 rfl ic_1 rfl ?_
    refine mx_goto (tgt := 9) dX0_playsLoads_145 rfl ?_
    exact mx_weak (al' := [some (rv a0), some (iv x1), some (iv (x2 + (1 : Int32))), none, none]) ⟨rfl, ⟨rfl, ⟨rfl, trivial⟩⟩⟩ H
theorem dX0_aloneOf_0 : decode mi_X0_aloneOf.2.1 0 = .ok (.lconst 0, 1) := by decide +kernel
theorem dX0_aloneOf_1 : decode mi_X0_aloneOf.2.1 1 = .ok (.lstore 4, 2) := by decide +kernel
theorem dX0_aloneOf_3 : decode mi_X0_aloneOf.2.1 3 = .ok (.iconst 0, 1) := by decide +kernel
theorem dX0_aloneOf_4 : decode mi_X0_aloneOf.2.1 4 = .ok (.istore 6, 2) := by decide +kernel
theorem dX0_aloneOf_6 : decode mi_X0_aloneOf.2.1 6 = .ok (.iload 6, 2) := by decide +kernel
theorem dX0_aloneOf_8 : decode mi_X0_aloneOf.2.1 8 = .ok (.aload_n 0, 1) := by decide +kernel
theorem dX0_aloneOf_9 : decode mi_X0_aloneOf.2.1 9 = .ok (.getfield 263, 3) := by decide +kernel
theorem dX0_aloneOf_12 : decode mi_X0_aloneOf.2.1 12 = .ok (.if_icmp .ge 130, 3) := by decide +kernel
theorem dX0_aloneOf_15 : decode mi_X0_aloneOf.2.1 15 = .ok (.aload_n 0, 1) := by decide +kernel
theorem dX0_aloneOf_16 : decode mi_X0_aloneOf.2.1 16 = .ok (.iload 6, 2) := by decide +kernel
theorem dX0_aloneOf_18 : decode mi_X0_aloneOf.2.1 18 = .ok (.invokevirtual 320, 3) := by decide +kernel
theorem dX0_aloneOf_21 : decode mi_X0_aloneOf.2.1 21 = .ok (.ifCond .eq 115, 3) := by decide +kernel
theorem dX0_aloneOf_24 : decode mi_X0_aloneOf.2.1 24 = .ok (.aload_n 0, 1) := by decide +kernel
theorem dX0_aloneOf_25 : decode mi_X0_aloneOf.2.1 25 = .ok (.getfield 29, 3) := by decide +kernel
theorem dX0_aloneOf_28 : decode mi_X0_aloneOf.2.1 28 = .ok (.iload 6, 2) := by decide +kernel
theorem dX0_aloneOf_30 : decode mi_X0_aloneOf.2.1 30 = .ok (.aaload, 1) := by decide +kernel
theorem dX0_aloneOf_31 : decode mi_X0_aloneOf.2.1 31 = .ok (.getfield 272, 3) := by decide +kernel
theorem dX0_aloneOf_34 : decode mi_X0_aloneOf.2.1 34 = .ok (.iload_n 3, 1) := by decide +kernel
theorem dX0_aloneOf_35 : decode mi_X0_aloneOf.2.1 35 = .ok (.if_icmp .le 6, 3) := by decide +kernel
theorem dX0_aloneOf_38 : decode mi_X0_aloneOf.2.1 38 = .ok (.goto 98, 3) := by decide +kernel
theorem dX0_aloneOf_41 : decode mi_X0_aloneOf.2.1 41 = .ok (.aload_n 0, 1) := by decide +kernel
theorem dX0_aloneOf_42 : decode mi_X0_aloneOf.2.1 42 = .ok (.getfield 29, 3) := by decide +kernel
theorem dX0_aloneOf_45 : decode mi_X0_aloneOf.2.1 45 = .ok (.iload 6, 2) := by decide +kernel
theorem dX0_aloneOf_47 : decode mi_X0_aloneOf.2.1 47 = .ok (.aaload, 1) := by decide +kernel
theorem dX0_aloneOf_48 : decode mi_X0_aloneOf.2.1 48 = .ok (.checkcast 289, 3) := by decide +kernel
theorem dX0_aloneOf_51 : decode mi_X0_aloneOf.2.1 51 = .ok (.astore 7, 2) := by decide +kernel
theorem dX0_aloneOf_53 : decode mi_X0_aloneOf.2.1 53 = .ok (.aload 7, 2) := by decide +kernel
theorem dX0_aloneOf_55 : decode mi_X0_aloneOf.2.1 55 = .ok (.getfield 350, 3) := by decide +kernel
theorem dX0_aloneOf_58 : decode mi_X0_aloneOf.2.1 58 = .ok (.getfield 554, 3) := by decide +kernel
theorem dX0_aloneOf_61 : decode mi_X0_aloneOf.2.1 61 = .ok (.iload_n 1, 1) := by decide +kernel
theorem dX0_aloneOf_62 : decode mi_X0_aloneOf.2.1 62 = .ok (.if_icmp .ne 74, 3) := by decide +kernel
theorem dX0_aloneOf_65 : decode mi_X0_aloneOf.2.1 65 = .ok (.aload 7, 2) := by decide +kernel
theorem dX0_aloneOf_67 : decode mi_X0_aloneOf.2.1 67 = .ok (.invokevirtual 343, 3) := by decide +kernel
theorem dX0_aloneOf_70 : decode mi_X0_aloneOf.2.1 70 = .ok (.iload_n 2, 1) := by decide +kernel
theorem dX0_aloneOf_71 : decode mi_X0_aloneOf.2.1 71 = .ok (.if_icmp .eq 6, 3) := by decide +kernel
theorem dX0_aloneOf_74 : decode mi_X0_aloneOf.2.1 74 = .ok (.goto 62, 3) := by decide +kernel
theorem dX0_aloneOf_77 : decode mi_X0_aloneOf.2.1 77 = .ok (.iconst 0, 1) := by decide +kernel
theorem dX0_aloneOf_78 : decode mi_X0_aloneOf.2.1 78 = .ok (.aload_n 0, 1) := by decide +kernel
theorem dX0_aloneOf_79 : decode mi_X0_aloneOf.2.1 79 = .ok (.getfield 124, 3) := by decide +kernel
theorem dX0_aloneOf_82 : decode mi_X0_aloneOf.2.1 82 = .ok (.iconst 0, 1) := by decide +kernel
theorem dX0_aloneOf_83 : decode mi_X0_aloneOf.2.1 83 = .ok (.aload 7, 2) := by decide +kernel
theorem dX0_aloneOf_85 : decode mi_X0_aloneOf.2.1 85 = .ok (.getfield 330, 3) := by decide +kernel
theorem dX0_aloneOf_88 : decode mi_X0_aloneOf.2.1 88 = .ok (.aload_n 0, 1) := by decide +kernel
theorem dX0_aloneOf_89 : decode mi_X0_aloneOf.2.1 89 = .ok (.getfield 130, 3) := by decide +kernel
theorem dX0_aloneOf_92 : decode mi_X0_aloneOf.2.1 92 = .ok (.isub, 1) := by decide +kernel
theorem dX0_aloneOf_93 : decode mi_X0_aloneOf.2.1 93 = .ok (.invokestatic 525, 3) := by decide +kernel
theorem dX0_aloneOf_96 : decode mi_X0_aloneOf.2.1 96 = .ok (.iaload, 1) := by decide +kernel
theorem dX0_aloneOf_97 : decode mi_X0_aloneOf.2.1 97 = .ok (.aload_n 0, 1) := by decide +kernel
theorem dX0_aloneOf_98 : decode mi_X0_aloneOf.2.1 98 = .ok (.getfield 127, 3) := by decide +kernel
theorem dX0_aloneOf_101 : decode mi_X0_aloneOf.2.1 101 = .ok (.aload 7, 2) := by decide +kernel
theorem dX0_aloneOf_103 : decode mi_X0_aloneOf.2.1 103 = .ok (.getfield 372, 3) := by decide +kernel
theorem dX0_aloneOf_106 : decode mi_X0_aloneOf.2.1 106 = .ok (.imul, 1) := by decide +kernel
theorem dX0_aloneOf_107 : decode mi_X0_aloneOf.2.1 107 = .ok (.isub, 1) := by decide +kernel
theorem dX0_aloneOf_108 : decode mi_X0_aloneOf.2.1 108 = .ok (.invokestatic 525, 3) := by decide +kernel
theorem dX0_aloneOf_111 : decode mi_X0_aloneOf.2.1 111 = .ok (.istore 8, 2) := by decide +kernel
theorem dX0_aloneOf_113 : decode mi_X0_aloneOf.2.1 113 = .ok (.lload 4, 2) := by decide +kernel
theorem dX0_aloneOf_115 : decode mi_X0_aloneOf.2.1 115 = .ok (.iload 8, 2) := by decide +kernel
theorem dX0_aloneOf_117 : decode mi_X0_aloneOf.2.1 117 = .ok (.i2l, 1) := by decide +kernel
theorem dX0_aloneOf_118 : decode mi_X0_aloneOf.2.1 118 = .ok (.aload 7, 2) := by decide +kernel
theorem dX0_aloneOf_120 : decode mi_X0_aloneOf.2.1 120 = .ok (.invokevirtual 347, 3) := by decide +kernel
theorem dX0_aloneOf_123 : decode mi_X0_aloneOf.2.1 123 = .ok (.aload_n 0, 1) := by decide +kernel
theorem dX0_aloneOf_124 : decode mi_X0_aloneOf.2.1 124 = .ok (.getfield 133, 3) := by decide +kernel
theorem dX0_aloneOf_127 : decode mi_X0_aloneOf.2.1 127 = .ok (.iload 6, 2) := by decide +kernel
theorem dX0_aloneOf_129 : decode mi_X0_aloneOf.2.1 129 = .ok (.iaload, 1) := by decide +kernel
theorem dX0_aloneOf_130 : decode mi_X0_aloneOf.2.1 130 = .ok (.isub, 1) := by decide +kernel
theorem dX0_aloneOf_131 : decode mi_X0_aloneOf.2.1 131 = .ok (.i2l, 1) := by decide +kernel
theorem dX0_aloneOf_132 : decode mi_X0_aloneOf.2.1 132 = .ok (.lmul, 1) := by decide +kernel
theorem dX0_aloneOf_133 : decode mi_X0_aloneOf.2.1 133 = .ok (.ladd, 1) := by decide +kernel
theorem dX0_aloneOf_134 : decode mi_X0_aloneOf.2.1 134 = .ok (.lstore 4, 2) := by decide +kernel
theorem dX0_aloneOf_136 : decode mi_X0_aloneOf.2.1 136 = .ok (.iinc 6 1, 3) := by decide +kernel
theorem dX0_aloneOf_139 : decode mi_X0_aloneOf.2.1 139 = .ok (.goto (-133), 3) := by decide +kernel
theorem dX0_aloneOf_142 : decode mi_X0_aloneOf.2.1 142 = .ok (.lload 4, 2) := by decide +kernel
theorem dX0_aloneOf_144 : decode mi_X0_aloneOf.2.1 144 = .ok (.lreturn, 1) := by decide +kernel
theorem v_X0_aloneOf {G : ma_G} {d : Nat} {a0 : Nat} {x1 : Int32} {x2 : Int32} {x3 : Int32} {h : ah_T} {Q : Option ma_V → ah_T → Prop} {E : Nat → ah_T → Prop} (La0_h : LY0 h a0) (H : MX G mi_X0_aloneOf (d + 2) 6 [some (rv a0), some (iv x1), some (iv x2), some (iv x3), some (jv (0 : Int64)), none, some (iv (0 : Int32)), none, none] [] h Q E) : MX G mi_X0_aloneOf (d + 2) 0 [some (rv a0), some (iv x1), some (iv x2), some (iv x3), none, none, none, none, none] [] h Q E := by
  refine mx_lconst dX0_aloneOf_0 lc_0 ?_
  refine mx_lstore (al' := [some (rv a0), some (iv x1), some (iv x2), some (iv x3), some (jv (0 : Int64)), none, none, none, none]) dX0_aloneOf_1 (Nat.le_of_ble_eq_true rfl) rfl ?_
  refine mx_iconst dX0_aloneOf_3 ic_0 ?_
  refine mx_istore (al' := [some (rv a0), some (iv x1), some (iv x2), some (iv x3), some (jv (0 : Int64)), none, some (iv (0 : Int32)), none, none]) dX0_aloneOf_4 (Nat.le_of_ble_eq_true rfl) rfl ?_
  exact mx_weak (al' := [some (rv a0), some (iv x1), some (iv x2), some (iv x3), some (jv (0 : Int64)), none, some (iv (0 : Int32)), none, none]) ⟨rfl, ⟨rfl, ⟨rfl, ⟨rfl, ⟨rfl, ⟨rfl, trivial⟩⟩⟩⟩⟩⟩ H
theorem v_X0_aloneOf_6 {G : ma_G} {d : Nat} {a0 : Nat} {x1 : Int32} {x2 : Int32} {x3 : Int32} {x4 : Int64} {x6 : Int32} {h : ah_T} {Q : Option ma_V → ah_T → Prop} {E : Nat → ah_T → Prop} (La0_h : LY0 h a0) (H : ((ah_I h a0 16) ≤ x6 → Q (some (jv x4)) h) ∧ (¬ (ah_I h a0 16) ≤ x6 → (x6 < 0 → MX G mi_X0_aloneOf (d + 2) 6 [some (rv a0), some (iv x1), some (iv x2), some (iv x3), some (jv x4), none, some (iv (x6 + (1 : Int32))), none, none] [] h Q E) ∧ (¬ x6 < 0 → vp_in x6 120 ∧ ma_ks h (ah_R h (a0 + 4) x6.toNatClampNeg) [11, 12, 13, 14] ∧ ((ah_kd h (ah_R h (a0 + 4) x6.toNatClampNeg) = 12 → ((ah_I h (ah_R h (a0 + 4) x6.toNatClampNeg) 1) ≤ x3 → ah_kd h (ah_R h (ah_R h (a0 + 4) x6.toNatClampNeg) 3) = 10 ∧ (¬ (ah_I h (ah_R h (ah_R h (a0 + 4) x6.toNatClampNeg) 3) 0) = x1 → MX G mi_X0_aloneOf (d + 2) 6 [some (rv a0), some (iv x1), some (iv x2), some (iv x3), some (jv x4), none, some (iv (x6 + (1 : Int32))), none, none] [] h Q E) ∧ ((ah_I h (ah_R h (ah_R h (a0 + 4) x6.toNatClampNeg) 3) 0) = x1 → (((ah_I h (ah_R h (a0 + 4) x6.toNatClampNeg) 0) / (52 : Int32)) = x2 → vp_in (iMax (0 : Int32) ((ah_I h (ah_R h (a0 + 4) x6.toNatClampNeg) 0) - (ah_I h a0 38))) 520 ∧ MX G mi_X0_aloneOf (d + 2) 6 [some (rv a0), some (iv x1), some (iv x2), some (iv x3), some (jv (x4 + ((iMax (0 : Int32) ((ah_I h (a0 + 1447) (iMax (0 : Int32) ((ah_I h (ah_R h (a0 + 4) x6.toNatClampNeg) 0) - (ah_I h a0 38))).toNatClampNeg) - ((ah_I h a0 37) * (ah_I h (ah_R h (a0 + 4) x6.toNatClampNeg) 6)))).toInt64 * (((ah_I h (ah_R h (a0 + 4) x6.toNatClampNeg) 2) - (((ah_I h (ah_R h (a0 + 4) x6.toNatClampNeg) 2) * (ah_I h (ah_R h (a0 + 4) x6.toNatClampNeg) 5)) / (1000 : Int32))) - (ah_I h (a0 + 1448) x6.toNatClampNeg)).toInt64))), none, some (iv (x6 + (1 : Int32))), none, none] [] h Q E) ∧ (¬ ((ah_I h (ah_R h (a0 + 4) x6.toNatClampNeg) 0) / (52 : Int32)) = x2 → MX G mi_X0_aloneOf (d + 2) 6 [some (rv a0), some (iv x1), some (iv x2), some (iv x3), some (jv x4), none, some (iv (x6 + (1 : Int32))), none, none] [] h Q E))) ∧ (¬ (ah_I h (ah_R h (a0 + 4) x6.toNatClampNeg) 1) ≤ x3 → MX G mi_X0_aloneOf (d + 2) 6 [some (rv a0), some (iv x1), some (iv x2), some (iv x3), some (jv x4), none, some (iv (x6 + (1 : Int32))), none, none] [] h Q E)) ∧ (¬ ah_kd h (ah_R h (a0 + 4) x6.toNatClampNeg) = 12 → MX G mi_X0_aloneOf (d + 2) 6 [some (rv a0), some (iv x1), some (iv x2), some (iv x3), some (jv x4), none, some (iv (x6 + (1 : Int32))), none, none] [] h Q E))))) : MX G mi_X0_aloneOf (d + 2) 6 [some (rv a0), some (iv x1), some (iv x2), some (iv x3), some (jv x4), none, some (iv x6), none, none] [] h Q E := by
  refine mx_iload dX0_aloneOf_6 rfl ?_
  refine mx_aload_n dX0_aloneOf_8 rfl rfl ?_
  refine mx_get 0 16 (ref := "PrairiePool") cl_0 (Nat.le_of_ble_eq_true rfl) (Or.inl q476) (Or.inl rfl) dX0_aloneOf_9 (fv_0_16 _ _) (ly0_k La0_h) ?_
  refine mx_icmp_ge (tgt := 142) dX0_aloneOf_12 rfl (fun c1 => ?_) (fun c1 => ?_)
  · have H := H.1 c1
    refine mx_lload dX0_aloneOf_142 rfl ?_
    exact mx_lret rfl dX0_aloneOf_144 H
  · have H := H.2 c1
    refine mx_aload_n dX0_aloneOf_15 rfl rfl ?_
    refine mx_iload dX0_aloneOf_16 rfl ?_
    refine mx_callV 0 (y' := mi_X0_isLoad) (vs := [iv x6]) (st := []) (al' := [some (rv a0), some (iv x6)]) cl_0 V_X0_isLoad (Or.inl q981) dX0_aloneOf_18 rfl rfl (Nat.le_of_ble_eq_true rfl) (Nat.le_of_ble_eq_true rfl) (ly0_k La0_h) ?_
    refine mx_iload_n dX0_isLoad_0 rfl rfl ?_
    refine mx_if_lt (tgt := 28) dX0_isLoad_1 rfl (fun c2 => ?_) (fun c2 => ?_)
    · have H := H.1 c2
      refine mx_iconst dX0_isLoad_28 ic_0 ?_
      refine mx_zretK rfl dX0_isLoad_29 (Or.inl rfl) ?_
      refine mx_if_eq (tgt := 136) dX0_aloneOf_21 rfl (fun _ => ?_) (fun _ => absurd ‹_› (by decide))
      refine mx_iinc (al' := [some (rv a0), some (iv x1), some (iv x2), some (iv x3), some (jv x4), none, some (iv (x6 + (1 : Int32))), none, none]) dX0_aloneOf_136 rfl ic_1 rfl ?_
      refine mx_goto (tgt := 6) dX0_aloneOf_139 rfl ?_
      exact mx_weak (al' := [some (rv a0), some (iv x1), some (iv x2), some (iv x3), some (jv x4), none, some (iv (x6 + (1 : Int32))), none, none]) ⟨rfl, ⟨rfl, ⟨rfl, ⟨rfl, ⟨rfl, ⟨rfl, trivial⟩⟩⟩⟩⟩⟩ H
    · have H := H.2 c2
      refine mx_iload_n dX0_isLoad_4 rfl rfl ?_
      refine mx_aload_n dX0_isLoad_5 rfl rfl ?_
      refine mx_get 0 16 (ref := "PrairiePool") cl_0 (Nat.le_of_ble_eq_true rfl) (Or.inl q476) (Or.inl rfl) dX0_isLoad_6 (fv_0_16 _ _) (ly0_k La0_h) ?_
      refine mx_icmp_ge (tgt := 28) dX0_isLoad_9 rfl (fun q_ => absurd q_ c1) (fun _ => ?_)
      refine mx_aload_n dX0_isLoad_12 rfl rfl ?_
      refine mx_get 0 3 (ref := "PrairiePool") cl_0 (Nat.le_of_ble_eq_true rfl) (Or.inl q463) (Or.inl rfl) dX0_isLoad_13 (fv_0_3 _ _) (ly0_k La0_h) ?_
      refine mx_tr (ly0_R_0_3 La0_h) ?_
      refine mx_iload_n dX0_isLoad_16 rfl rfl ?_
      obtain ⟨k3, H⟩ := H
      refine my_aald 8 dX0_isLoad_17 (by decide) rfl (ly0_A_4 La0_h k3) ?_
      obtain ⟨k4, H⟩ := H
      refine mx_instL q844 dX0_isLoad_18 k4 (fun c5 => ?_) (fun c5 => ?_)
      · have H := H.1 c5
        refine mx_if_eq (tgt := 28) dX0_isLoad_21 rfl (fun _ => absurd ‹_› (by decide)) (fun _ => ?_)
        refine mx_iconst dX0_isLoad_24 ic_1 ?_
        refine mx_goto (tgt := 29) dX0_isLoad_25 rfl ?_
        refine mx_zretK rfl dX0_isLoad_29 (Or.inr rfl) ?_
        refine mx_if_eq (tgt := 136) dX0_aloneOf_21 rfl (fun _ => absurd ‹_› (by decide)) (fun _ => ?_)
        refine mx_aload_n dX0_aloneOf_24 rfl rfl ?_
        refine mx_get 0 3 (ref := "PrairiePool") cl_0 (Nat.le_of_ble_eq_true rfl) (Or.inl q463) (Or.inl rfl) dX0_aloneOf_25 (fv_0_3 _ _) (ly0_k La0_h) ?_
        refine mx_tr (ly0_R_0_3 La0_h) ?_
        refine mx_iload dX0_aloneOf_28 rfl ?_
        refine my_aald 8 dX0_aloneOf_30 (by decide) rfl (ly0_A_4 La0_h k3) ?_
        refine mx_get 11 1 (ref := "PrairiePool$Event") cl_11 (Nat.le_of_ble_eq_true rfl) (Or.inl q865) (Or.inl rfl) dX0_aloneOf_31 (fv_11_1 _ _) c5 ?_
        refine mx_iload_n dX0_aloneOf_34 rfl rfl ?_
        refine mx_icmp_le (tgt := 41) dX0_aloneOf_35 rfl (fun c6 => ?_) (fun c6 => ?_)
        · have H := H.1 c6
          refine mx_aload_n dX0_aloneOf_41 rfl rfl ?_
          refine mx_get 0 3 (ref := "PrairiePool") cl_0 (Nat.le_of_ble_eq_true rfl) (Or.inl q463) (Or.inl rfl) dX0_aloneOf_42 (fv_0_3 _ _) (ly0_k La0_h) ?_
          refine mx_tr (ly0_R_0_3 La0_h) ?_
          refine mx_iload dX0_aloneOf_45 rfl ?_
          refine my_aald 8 dX0_aloneOf_47 (by decide) rfl (ly0_A_4 La0_h k3) ?_
          refine mx_castY 11 cl_11 q844 dX0_aloneOf_48 c5 ?_
          refine mx_astore (al' := [some (rv a0), some (iv x1), some (iv x2), some (iv x3), some (jv x4), none, some (iv x6), some (rv (ah_R h (a0 + 4) x6.toNatClampNeg)), none]) dX0_aloneOf_51 (Nat.le_of_ble_eq_true rfl) rfl ?_
          refine mx_aload dX0_aloneOf_53 rfl ?_
          refine mx_get 11 3 (ref := "PrairiePool$Load") cl_11 (Nat.le_of_ble_eq_true rfl) (Or.inl q854) (Or.inl rfl) dX0_aloneOf_55 (fv_11_3 _ _) c5 ?_
          obtain ⟨k7, H⟩ := H
          refine mx_get 9 0 (ref := "PrairiePool$Farm") cl_9 (Nat.le_of_ble_eq_true rfl) (Or.inl q769) (Or.inl rfl) dX0_aloneOf_58 (fv_9_0 _ _) k7 ?_
          refine mx_iload_n dX0_aloneOf_61 rfl rfl ?_
          refine mx_icmp_ne (tgt := 136) dX0_aloneOf_62 rfl (fun c8 => ?_) (fun c8 => ?_)
          · have H := H.1 c8
            refine mx_iinc (al' := [some (rv a0), some (iv x1), some (iv x2), some (iv x3), some (jv x4), none, some (iv (x6 + (1 : Int32))), some (rv (ah_R h (a0 + 4) x6.toNatClampNeg)), none]) dX0_aloneOf_136 rfl ic_1 rfl ?_
            refine mx_goto (tgt := 6) dX0_aloneOf_139 rfl ?_
            exact mx_weak (al' := [some (rv a0), some (iv x1), some (iv x2), some (iv x3), some (jv x4), none, some (iv (x6 + (1 : Int32))), none, none]) ⟨rfl, ⟨rfl, ⟨rfl, ⟨rfl, ⟨rfl, ⟨rfl, trivial⟩⟩⟩⟩⟩⟩ H
          · have H := H.2 c8
            refine mx_aload dX0_aloneOf_65 rfl ?_
            refine mx_callV 11 (y' := mi_X12_year) (vs := []) (st := []) (al' := [some (rv (ah_R h (a0 + 4) x6.toNatClampNeg))]) cl_11 V_X12_year (Or.inl q1002) dX0_aloneOf_67 rfl rfl (Nat.le_of_ble_eq_true rfl) (Nat.le_of_ble_eq_true rfl) c5 ?_
            refine mx_aload_n dX12_year_0 rfl rfl ?_
            refine mx_get 11 0 (ref := "PrairiePool$Load") cl_11 (Nat.le_of_ble_eq_true rfl) (Or.inl q860) (Or.inr q861) dX12_year_1 (fv_11_0 _ _) c5 ?_
            refine mx_bipush dX12_year_4 ib_52 ?_
            refine mx_idiv dX12_year_6 (by decide) ?_
            refine mx_iretK rfl dX12_year_7 ?_
            refine mx_iload_n dX0_aloneOf_70 rfl rfl ?_
            refine mx_icmp_eq (tgt := 77) dX0_aloneOf_71 rfl (fun c9 => ?_) (fun c9 => ?_)
            · have H := H.1 c9
              refine mx_iconst dX0_aloneOf_77 ic_0 ?_
              refine mx_aload_n dX0_aloneOf_78 rfl rfl ?_
              refine mx_get 0 35 (ref := "PrairiePool") cl_0 (Nat.le_of_ble_eq_true rfl) (Or.inl q495) (Or.inl rfl) dX0_aloneOf_79 (fv_0_35 _ _) (ly0_k La0_h) ?_
              refine mx_tr (ly0_R_0_35 La0_h) ?_
              refine mx_iconst dX0_aloneOf_82 ic_0 ?_
              refine mx_aload dX0_aloneOf_83 rfl ?_
              refine mx_get 11 0 (ref := "PrairiePool$Load") cl_11 (Nat.le_of_ble_eq_true rfl) (Or.inl q863) (Or.inr q861) dX0_aloneOf_85 (fv_11_0 _ _) c5 ?_
              refine mx_aload_n dX0_aloneOf_88 rfl rfl ?_
              refine mx_get 0 38 (ref := "PrairiePool") cl_0 (Nat.le_of_ble_eq_true rfl) (Or.inl q498) (Or.inl rfl) dX0_aloneOf_89 (fv_0_38 _ _) (ly0_k La0_h) ?_
              refine mx_isub dX0_aloneOf_92 ?_
              refine mx_callS (y' := mi_J8_max_2) (vs := [iv (0 : Int32), iv ((ah_I h (ah_R h (a0 + 4) x6.toNatClampNeg) 0) - (ah_I h a0 38))]) (st := [rv (a0 + 1447), iv (0 : Int32)]) (al' := [some (iv (0 : Int32)), some (iv ((ah_I h (ah_R h (a0 + 4) x6.toNatClampNeg) 0) - (ah_I h a0 38)))]) S_J8_max_2 q1512 dX0_aloneOf_93 rfl rfl (Nat.le_of_ble_eq_true rfl) (Nat.le_of_ble_eq_true rfl) ?_
              refine pv_J8_max_2 ?_
              obtain ⟨k10, H⟩ := H
              refine my_iald dX0_aloneOf_96 rfl (ly0_A_1447 La0_h k10) ?_
              refine mx_aload_n dX0_aloneOf_97 rfl rfl ?_
              refine mx_get 0 37 (ref := "PrairiePool") cl_0 (Nat.le_of_ble_eq_true rfl) (Or.inl q497) (Or.inl rfl) dX0_aloneOf_98 (fv_0_37 _ _) (ly0_k La0_h) ?_
              refine mx_aload dX0_aloneOf_101 rfl ?_
              refine mx_get 11 6 (ref := "PrairiePool$Load") cl_11 (Nat.le_of_ble_eq_true rfl) (Or.inr ⟨_, q858⟩) (Or.inl rfl) dX0_aloneOf_103 (fv_11_6 _ _) c5 ?_
              refine mx_imul dX0_aloneOf_106 ?_
              refine mx_isub dX0_aloneOf_107 ?_
              refine mx_callS (y' := mi_J8_max_2) (vs := [iv (0 : Int32), iv ((ah_I h (a0 + 1447) (iMax (0 : Int32) ((ah_I h (ah_R h (a0 + 4) x6.toNatClampNeg) 0) - (ah_I h a0 38))).toNatClampNeg) - ((ah_I h a0 37) * (ah_I h (ah_R h (a0 + 4) x6.toNatClampNeg) 6)))]) (st := []) (al' := [some (iv (0 : Int32)), some (iv ((ah_I h (a0 + 1447) (iMax (0 : Int32) ((ah_I h (ah_R h (a0 + 4) x6.toNatClampNeg) 0) - (ah_I h a0 38))).toNatClampNeg) - ((ah_I h a0 37) * (ah_I h (ah_R h (a0 + 4) x6.toNatClampNeg) 6))))]) S_J8_max_2 q1512 dX0_aloneOf_108 rfl rfl (Nat.le_of_ble_eq_true rfl) (Nat.le_of_ble_eq_true rfl) ?_
              refine pv_J8_max_2 ?_
              refine mx_istore (al' := [some (rv a0), some (iv x1), some (iv x2), some (iv x3), some (jv x4), none, some (iv x6), some (rv (ah_R h (a0 + 4) x6.toNatClampNeg)), some (iv (iMax (0 : Int32) ((ah_I h (a0 + 1447) (iMax (0 : Int32) ((ah_I h (ah_R h (a0 + 4) x6.toNatClampNeg) 0) - (ah_I h a0 38))).toNatClampNeg) - ((ah_I h a0 37) * (ah_I h (ah_R h (a0 + 4) x6.toNatClampNeg) 6)))))]) dX0_aloneOf_111 (Nat.le_of_ble_eq_true rfl) rfl ?_
              refine mx_lload dX0_aloneOf_113 rfl ?_
              refine mx_iload dX0_aloneOf_115 rfl ?_
              refine mx_i2l dX0_aloneOf_117 ?_
              refine mx_aload dX0_aloneOf_118 rfl ?_
              refine mx_callV 11 (y' := mi_X12_bushels) (vs := []) (st := [jv (iMax (0 : Int32) ((ah_I h (a0 + 1447) (iMax (0 : Int32) ((ah_I h (ah_R h (a0 + 4) x6.toNatClampNeg) 0) - (ah_I h a0 38))).toNatClampNeg) - ((ah_I h a0 37) * (ah_I h (ah_R h (a0 + 4) x6.toNatClampNeg) 6)))).toInt64, jv x4]) (al' := [some (rv (ah_R h (a0 + 4) x6.toNatClampNeg))]) cl_11 V_X12_bushels (Or.inl q1006) dX0_aloneOf_120 rfl rfl (Nat.le_of_ble_eq_true rfl) (Nat.le_of_ble_eq_true rfl) c5 ?_
              refine mx_aload_n dX12_bushels_0 rfl rfl ?_
              refine mx_callX 11 (y' := mi_X11_bushels) (vs := []) (st := []) (al' := [some (rv (ah_R h (a0 + 4) x6.toNatClampNeg))]) cl_11 ca_X11_bushels q1011 q2461 q881 (by decide) (by unfold ma_np; decide +kernel) q1010 dX12_bushels_1 rfl rfl (Nat.le_of_ble_eq_true rfl) (Nat.le_of_ble_eq_true rfl) c5 ?_
              refine mx_aload_n dX11_bushels_0 rfl rfl ?_
              refine mx_get 11 2 (ref := "PrairiePool$Event") cl_11 (Nat.le_of_ble_eq_true rfl) (Or.inl q866) (Or.inl rfl) dX11_bushels_1 (fv_11_2 _ _) c5 ?_
              refine mx_iretK rfl dX11_bushels_4 ?_
              refine mx_aload_n dX12_bushels_4 rfl rfl ?_
              refine mx_callX 11 (y' := mi_X11_bushels) (vs := []) (st := [iv (ah_I h (ah_R h (a0 + 4) x6.toNatClampNeg) 2)]) (al' := [some (rv (ah_R h (a0 + 4) x6.toNatClampNeg))]) cl_11 ca_X11_bushels q1011 q2461 q881 (by decide) (by unfold ma_np; decide +kernel) q1010 dX12_bushels_5 rfl rfl (Nat.le_of_ble_eq_true rfl) (Nat.le_of_ble_eq_true rfl) c5 ?_
              refine mx_aload_n dX11_bushels_0 rfl rfl ?_
              refine mx_get 11 2 (ref := "PrairiePool$Event") cl_11 (Nat.le_of_ble_eq_true rfl) (Or.inl q866) (Or.inl rfl) dX11_bushels_1 (fv_11_2 _ _) c5 ?_
              refine mx_iretK rfl dX11_bushels_4 ?_
              refine mx_aload_n dX12_bushels_8 rfl rfl ?_
              refine mx_get 11 5 (ref := "PrairiePool$Load") cl_11 (Nat.le_of_ble_eq_true rfl) (Or.inl q856) (Or.inl rfl) dX12_bushels_9 (fv_11_5 _ _) c5 ?_
              refine mx_imul dX12_bushels_12 ?_
              refine mx_sipush dX12_bushels_13 is_1000 ?_
              refine mx_idiv dX12_bushels_16 (by decide) ?_
              refine mx_isub dX12_bushels_17 ?_
              refine mx_iretK rfl dX12_bushels_18 ?_
              refine mx_aload_n dX0_aloneOf_123 rfl rfl ?_
              refine mx_get 0 39 (ref := "PrairiePool") cl_0 (Nat.le_of_ble_eq_true rfl) (Or.inl q499) (Or.inl rfl) dX0_aloneOf_124 (fv_0_39 _ _) (ly0_k La0_h) ?_
              refine mx_tr (ly0_R_0_39 La0_h) ?_
              refine mx_iload dX0_aloneOf_127 rfl ?_
              refine my_iald dX0_aloneOf_129 rfl (ly0_A_1448 La0_h k3) ?_
              refine mx_isub dX0_aloneOf_130 ?_
              refine mx_i2l dX0_aloneOf_131 ?_
              refine mx_lmul dX0_aloneOf_132 ?_
              refine mx_ladd dX0_aloneOf_133 ?_
              refine mx_lstore (al' := [some (rv a0), some (iv x1), some (iv x2), some (iv x3), some (jv (x4 + ((iMax (0 : Int32) ((ah_I h (a0 + 1447) (iMax (0 : Int32) ((ah_I h (ah_R h (a0 + 4) x6.toNatClampNeg) 0) - (ah_I h a0 38))).toNatClampNeg) - ((ah_I h a0 37) * (ah_I h (ah_R h (a0 + 4) x6.toNatClampNeg) 6)))).toInt64 * (((ah_I h (ah_R h (a0 + 4) x6.toNatClampNeg) 2) - (((ah_I h (ah_R h (a0 + 4) x6.toNatClampNeg) 2) * (ah_I h (ah_R h (a0 + 4) x6.toNatClampNeg) 5)) / (1000 : Int32))) - (ah_I h (a0 + 1448) x6.toNatClampNeg)).toInt64))), none, some (iv x6), some (rv (ah_R h (a0 + 4) x6.toNatClampNeg)), some (iv (iMax (0 : Int32) ((ah_I h (a0 + 1447) (iMax (0 : Int32) ((ah_I h (ah_R h (a0 + 4) x6.toNatClampNeg) 0) - (ah_I h a0 38))).toNatClampNeg) - ((ah_I h a0 37) * (ah_I h (ah_R h (a0 + 4) x6.toNatClampNeg) 6)))))]) dX0_aloneOf_134 (Nat.le_of_ble_eq_true rfl) rfl ?_
              refine mx_iinc (al' := [some (rv a0), some (iv x1), some (iv x2), some (iv x3), some (jv (x4 + ((iMax (0 : Int32) ((ah_I h (a0 + 1447) (iMax (0 : Int32) ((ah_I h (ah_R h (a0 + 4) x6.toNatClampNeg) 0) - (ah_I h a0 38))).toNatClampNeg) - ((ah_I h a0 37) * (ah_I h (ah_R h (a0 + 4) x6.toNatClampNeg) 6)))).toInt64 * (((ah_I h (ah_R h (a0 + 4) x6.toNatClampNeg) 2) - (((ah_I h (ah_R h (a0 + 4) x6.toNatClampNeg) 2) * (ah_I h (ah_R h (a0 + 4) x6.toNatClampNeg) 5)) / (1000 : Int32))) - (ah_I h (a0 + 1448) x6.toNatClampNeg)).toInt64))), none, some (iv (x6 + (1 : Int32))), some (rv (ah_R h (a0 + 4) x6.toNatClampNeg)), some (iv (iMax (0 : Int32) ((ah_I h (a0 + 1447) (iMax (0 : Int32) ((ah_I h (ah_R h (a0 + 4) x6.toNatClampNeg) 0) - (ah_I h a0 38))).toNatClampNeg) - ((ah_I h a0 37) * (ah_I h (ah_R h (a0 + 4) x6.toNatClampNeg) 6)))))]) dX0_aloneOf_136 rfl ic_1 rfl ?_
              refine mx_goto (tgt := 6) dX0_aloneOf_139 rfl ?_
              exact mx_weak (al' := [some (rv a0), some (iv x1), some (iv x2), some (iv x3), some (jv (x4 + ((iMax (0 : Int32) ((ah_I h (a0 + 1447) (iMax (0 : Int32) ((ah_I h (ah_R h (a0 + 4) x6.toNatClampNeg) 0) - (ah_I h a0 38))).toNatClampNeg) - ((ah_I h a0 37) * (ah_I h (ah_R h (a0 + 4) x6.toNatClampNeg) 6)))).toInt64 * (((ah_I h (ah_R h (a0 + 4) x6.toNatClampNeg) 2) - (((ah_I h (ah_R h (a0 + 4) x6.toNatClampNeg) 2) * (ah_I h (ah_R h (a0 + 4) x6.toNatClampNeg) 5)) / (1000 : Int32))) - (ah_I h (a0 + 1448) x6.toNatClampNeg)).toInt64))), none, some (iv (x6 + (1 : Int32))), none, none]) ⟨rfl, ⟨rfl, ⟨rfl, ⟨rfl, ⟨rfl, ⟨rfl, trivial⟩⟩⟩⟩⟩⟩ H
            · have H := H.2 c9
              refine mx_goto (tgt := 136) dX0_aloneOf_74 rfl ?_
              refine mx_iinc (al' := [some (rv a0), some (iv x1), some (iv x2), some (iv x3), some (jv x4), none, some (iv (x6 + (1 : Int32))), some (rv (ah_R h (a0 + 4) x6.toNatClampNeg)), none]) dX0_aloneOf_136 rfl ic_1 rfl ?_
              refine mx_goto (tgt := 6) dX0_aloneOf_139 rfl ?_
              exact mx_weak (al' := [some (rv a0), some (iv x1), some (iv x2), some (iv x3), some (jv x4), none, some (iv (x6 + (1 : Int32))), none, none]) ⟨rfl, ⟨rfl, ⟨rfl, ⟨rfl, ⟨rfl, ⟨rfl, trivial⟩⟩⟩⟩⟩⟩ H
        · have H := H.2 c6
          refine mx_goto (tgt := 136) dX0_aloneOf_38 rfl ?_
          refine mx_iinc (al' := [some (rv a0), some (iv x1), some (iv x2), some (iv x3), some (jv x4), none, some (iv (x6 + (1 : Int32))), none, none]) dX0_aloneOf_136 rfl ic_1 rfl ?_
          refine mx_goto (tgt := 6) dX0_aloneOf_139 rfl ?_
          exact mx_weak (al' := [some (rv a0), some (iv x1), some (iv x2), some (iv x3), some (jv x4), none, some (iv (x6 + (1 : Int32))), none, none]) ⟨rfl, ⟨rfl, ⟨rfl, ⟨rfl, ⟨rfl, ⟨rfl, trivial⟩⟩⟩⟩⟩⟩ H
      · have H := H.2 c5
        refine mx_if_eq (tgt := 28) dX0_isLoad_21 rfl (fun _ => ?_) (fun _ => absurd ‹_› (by decide))
        refine mx_iconst dX0_isLoad_28 ic_0 ?_
        refine mx_zretK rfl dX0_isLoad_29 (Or.inl rfl) ?_
        refine mx_if_eq (tgt := 136) dX0_aloneOf_21 rfl (fun _ => ?_) (fun _ => absurd ‹_› (by decide))
        refine mx_iinc (al' := [some (rv a0), some (iv x1), some (iv x2), some (iv x3), some (jv x4), none, some (iv (x6 + (1 : Int32))), none, none]) dX0_aloneOf_136 rfl ic_1 rfl ?_
        refine mx_goto (tgt := 6) dX0_aloneOf_139 rfl ?_
        exact mx_weak (al' := [some (rv a0), some (iv x1), some (iv x2), some (iv x3), some (jv x4), none, some (iv (x6 + (1 : Int32))), none, none]) ⟨rfl, ⟨rfl, ⟨rfl, ⟨rfl, ⟨rfl, ⟨rfl, trivial⟩⟩⟩⟩⟩⟩ H
theorem dX0_more_0 : decode mi_X0_more.2.1 0 = .ok (.iload_n 1, 1) := by decide +kernel
theorem dX0_more_1 : decode mi_X0_more.2.1 1 = .ok (.invokestatic 304, 3) := by decide +kernel
theorem dX0_more_4 : decode mi_X0_more.2.1 4 = .ok (.ifCond .eq 10, 3) := by decide +kernel
theorem dX0_more_7 : decode mi_X0_more.2.1 7 = .ok (.iload_n 2, 1) := by decide +kernel
theorem dX0_more_8 : decode mi_X0_more.2.1 8 = .ok (.invokestatic 260, 3) := by decide +kernel
theorem dX0_more_11 : decode mi_X0_more.2.1 11 = .ok (.ifCond .ne 9, 3) := by decide +kernel
theorem dX0_more_14 : decode mi_X0_more.2.1 14 = .ok (.aload_n 0, 1) := by decide +kernel
theorem dX0_more_15 : decode mi_X0_more.2.1 15 = .ok (.iconst 5, 1) := by decide +kernel
theorem dX0_more_16 : decode mi_X0_more.2.1 16 = .ok (.invokevirtual 205, 3) := by decide +kernel
theorem dX0_more_19 : decode mi_X0_more.2.1 19 = .ok (.ireturn, 1) := by decide +kernel
theorem dX0_more_20 : decode mi_X0_more.2.1 20 = .ok (.aload_n 0, 1) := by decide +kernel
theorem dX0_more_21 : decode mi_X0_more.2.1 21 = .ok (.iload_n 1, 1) := by decide +kernel
theorem dX0_more_22 : decode mi_X0_more.2.1 22 = .ok (.iload_n 2, 1) := by decide +kernel
theorem dX0_more_23 : decode mi_X0_more.2.1 23 = .ok (.invokevirtual 516, 3) := by decide +kernel
theorem dX0_more_26 : decode mi_X0_more.2.1 26 = .ok (.aload_n 0, 1) := by decide +kernel
theorem dX0_more_27 : decode mi_X0_more.2.1 27 = .ok (.iload_n 2, 1) := by decide +kernel
theorem dX0_more_28 : decode mi_X0_more.2.1 28 = .ok (.invokevirtual 557, 3) := by decide +kernel
theorem dX0_more_31 : decode mi_X0_more.2.1 31 = .ok (.iconst 0, 1) := by decide +kernel
theorem dX0_more_32 : decode mi_X0_more.2.1 32 = .ok (.istore_n 3, 1) := by decide +kernel
theorem dX0_more_33 : decode mi_X0_more.2.1 33 = .ok (.iconst 0, 1) := by decide +kernel
theorem dX0_more_34 : decode mi_X0_more.2.1 34 = .ok (.istore 4, 2) := by decide +kernel
theorem dX0_more_36 : decode mi_X0_more.2.1 36 = .ok (.iload 4, 2) := by decide +kernel
theorem dX0_more_38 : decode mi_X0_more.2.1 38 = .ok (.aload_n 0, 1) := by decide +kernel
theorem dX0_more_39 : decode mi_X0_more.2.1 39 = .ok (.getfield 230, 3) := by decide +kernel
theorem dX0_more_42 : decode mi_X0_more.2.1 42 = .ok (.if_icmp .ge 91, 3) := by decide +kernel
theorem dX0_more_45 : decode mi_X0_more.2.1 45 = .ok (.iconst 0, 1) := by decide +kernel
theorem dX0_more_46 : decode mi_X0_more.2.1 46 = .ok (.istore 5, 2) := by decide +kernel
theorem dX0_more_48 : decode mi_X0_more.2.1 48 = .ok (.iconst 0, 1) := by decide +kernel
theorem dX0_more_49 : decode mi_X0_more.2.1 49 = .ok (.istore 6, 2) := by decide +kernel
theorem dX0_more_51 : decode mi_X0_more.2.1 51 = .ok (.iload 6, 2) := by decide +kernel
theorem dX0_more_53 : decode mi_X0_more.2.1 53 = .ok (.bipush 6, 2) := by decide +kernel
theorem dX0_more_55 : decode mi_X0_more.2.1 55 = .ok (.if_icmp .ge 32, 3) := by decide +kernel
theorem dX0_more_58 : decode mi_X0_more.2.1 58 = .ok (.iload 5, 2) := by decide +kernel
theorem dX0_more_60 : decode mi_X0_more.2.1 60 = .ok (.aload_n 0, 1) := by decide +kernel
theorem dX0_more_61 : decode mi_X0_more.2.1 61 = .ok (.getfield 49, 3) := by decide +kernel
theorem dX0_more_64 : decode mi_X0_more.2.1 64 = .ok (.getfield 476, 3) := by decide +kernel
theorem dX0_more_67 : decode mi_X0_more.2.1 67 = .ok (.iload 6, 2) := by decide +kernel
theorem dX0_more_69 : decode mi_X0_more.2.1 69 = .ok (.aaload, 1) := by decide +kernel
theorem dX0_more_70 : decode mi_X0_more.2.1 70 = .ok (.iload_n 1, 1) := by decide +kernel
theorem dX0_more_71 : decode mi_X0_more.2.1 71 = .ok (.aaload, 1) := by decide +kernel
theorem dX0_more_72 : decode mi_X0_more.2.1 72 = .ok (.getfield 384, 3) := by decide +kernel
theorem dX0_more_75 : decode mi_X0_more.2.1 75 = .ok (.iload 4, 2) := by decide +kernel
theorem dX0_more_77 : decode mi_X0_more.2.1 77 = .ok (.iaload, 1) := by decide +kernel
theorem dX0_more_78 : decode mi_X0_more.2.1 78 = .ok (.iadd, 1) := by decide +kernel
theorem dX0_more_79 : decode mi_X0_more.2.1 79 = .ok (.istore 5, 2) := by decide +kernel
theorem dX0_more_81 : decode mi_X0_more.2.1 81 = .ok (.iinc 6 1, 3) := by decide +kernel
theorem dX0_more_84 : decode mi_X0_more.2.1 84 = .ok (.goto (-33), 3) := by decide +kernel
theorem dX0_more_87 : decode mi_X0_more.2.1 87 = .ok (.iload_n 3, 1) := by decide +kernel
theorem dX0_more_88 : decode mi_X0_more.2.1 88 = .ok (.iload 5, 2) := by decide +kernel
theorem dX0_more_90 : decode mi_X0_more.2.1 90 = .ok (.ifCond .le 34, 3) := by decide +kernel
theorem dX0_more_93 : decode mi_X0_more.2.1 93 = .ok (.aload_n 0, 1) := by decide +kernel
theorem dX0_more_94 : decode mi_X0_more.2.1 94 = .ok (.getfield 100, 3) := by decide +kernel
theorem dX0_more_97 : decode mi_X0_more.2.1 97 = .ok (.iload 4, 2) := by decide +kernel
theorem dX0_more_99 : decode mi_X0_more.2.1 99 = .ok (.laload, 1) := by decide +kernel
theorem dX0_more_100 : decode mi_X0_more.2.1 100 = .ok (.aload_n 0, 1) := by decide +kernel
theorem dX0_more_101 : decode mi_X0_more.2.1 101 = .ok (.getfield 96, 3) := by decide +kernel
theorem dX0_more_104 : decode mi_X0_more.2.1 104 = .ok (.iload 4, 2) := by decide +kernel
theorem dX0_more_106 : decode mi_X0_more.2.1 106 = .ok (.laload, 1) := by decide +kernel
theorem dX0_more_107 : decode mi_X0_more.2.1 107 = .ok (.ladd, 1) := by decide +kernel
theorem dX0_more_108 : decode mi_X0_more.2.1 108 = .ok (.aload_n 0, 1) := by decide +kernel
theorem dX0_more_109 : decode mi_X0_more.2.1 109 = .ok (.iload 4, 2) := by decide +kernel
theorem dX0_more_111 : decode mi_X0_more.2.1 111 = .ok (.iload_n 1, 1) := by decide +kernel
theorem dX0_more_112 : decode mi_X0_more.2.1 112 = .ok (.iload_n 2, 1) := by decide +kernel
theorem dX0_more_113 : decode mi_X0_more.2.1 113 = .ok (.invokevirtual 560, 3) := by decide +kernel
theorem dX0_more_116 : decode mi_X0_more.2.1 116 = .ok (.lcmp, 1) := by decide +kernel
theorem dX0_more_117 : decode mi_X0_more.2.1 117 = .ok (.ifCond .le 7, 3) := by decide +kernel
theorem dX0_more_120 : decode mi_X0_more.2.1 120 = .ok (.iconst 1, 1) := by decide +kernel
theorem dX0_more_121 : decode mi_X0_more.2.1 121 = .ok (.goto 4, 3) := by decide +kernel
theorem dX0_more_124 : decode mi_X0_more.2.1 124 = .ok (.iconst 0, 1) := by decide +kernel
theorem dX0_more_125 : decode mi_X0_more.2.1 125 = .ok (.iadd, 1) := by decide +kernel
theorem dX0_more_126 : decode mi_X0_more.2.1 126 = .ok (.istore_n 3, 1) := by decide +kernel
theorem dX0_more_127 : decode mi_X0_more.2.1 127 = .ok (.iinc 4 1, 3) := by decide +kernel
theorem dX0_more_130 : decode mi_X0_more.2.1 130 = .ok (.goto (-94), 3) := by decide +kernel
theorem dX0_more_133 : decode mi_X0_more.2.1 133 = .ok (.aload_n 0, 1) := by decide +kernel
theorem dX0_more_134 : decode mi_X0_more.2.1 134 = .ok (.iload_n 3, 1) := by decide +kernel
theorem dX0_more_135 : decode mi_X0_more.2.1 135 = .ok (.invokevirtual 250, 3) := by decide +kernel
theorem dX0_more_138 : decode mi_X0_more.2.1 138 = .ok (.ireturn, 1) := by decide +kernel
theorem v_X0_more {G : ma_G} {d : Nat} {a0 : Nat} {x1 : Int32} {x2 : Int32} {h : ah_T} {Q : Option ma_V → ah_T → Prop} {E : Nat → ah_T → Prop} (La0_h : LY0 h a0) (H : (x1 < 0 → ∀ h2 : ah_T, h2 = ah_wI h a0 20 (5 : Int32) → ah_ext h h2 → Q (some (iv (-1 : Int32))) h2) ∧ (¬ x1 < 0 → ((10 : Int32) ≤ x1 → ∀ h4 : ah_T, h4 = ah_wI h a0 20 (5 : Int32) → ah_ext h h4 → Q (some (iv (-1 : Int32))) h4) ∧ (¬ (10 : Int32) ≤ x1 → (x2 < 0 → ∀ h6 : ah_T, h6 = ah_wI h a0 20 (5 : Int32) → ah_ext h h6 → Q (some (iv (-1 : Int32))) h6) ∧ (¬ x2 < 0 → ((520 : Int32) ≤ x2 → ∀ h8 : ah_T, h8 = ah_wI h a0 20 (5 : Int32) → ah_ext h h8 → Q (some (iv (-1 : Int32))) h8) ∧ (¬ (520 : Int32) ≤ x2 → MX G mi_X0_settle d 0 [some (rv a0), some (iv x1), some (iv x2), none, none, none, none, none] [] h (Qv fun h9 => ah_ext h h9 → MX G mi_X0_playsLoads d 0 [some (rv a0), some (iv x2), none, none, none] [] h9 (Qv fun h11 => ah_ext h9 h11 → MX G mi_X0_more (d + 1) 36 [some (rv a0), some (iv x1), some (iv x2), some (iv (0 : Int32)), some (iv (0 : Int32)), none, none] [] h11 Q E) E) E))))) : MX G mi_X0_more (d + 1) 0 [some (rv a0), some (iv x1), some (iv x2), none, none, none, none] [] h Q E := by
  refine mx_iload_n dX0_more_0 rfl rfl ?_
  refine mx_callS (y' := mi_X0_isYear) (vs := [iv x1]) (st := []) (al' := [some (iv x1)]) S_X0_isYear q896 dX0_more_1 rfl rfl (Nat.le_of_ble_eq_true rfl) (Nat.le_of_ble_eq_true rfl) ?_
  refine mx_iload_n dX0_isYear_0 rfl rfl ?_
  refine mx_if_lt (tgt := 14) dX0_isYear_1 rfl (fun c1 => ?_) (fun c1 => ?_)
  · have H := H.1 c1
    refine mx_iconst dX0_isYear_14 ic_0 ?_
    refine mx_zretK rfl dX0_isYear_15 (Or.inl rfl) ?_
    refine mx_if_eq (tgt := 14) dX0_more_4 rfl (fun _ => ?_) (fun _ => absurd ‹_› (by decide))
    refine mx_aload_n dX0_more_14 rfl rfl ?_
    refine mx_iconst dX0_more_15 ic_5 ?_
    refine mx_callV 0 (y' := mi_X0_none) (vs := [iv (5 : Int32)]) (st := []) (al' := [some (rv a0), some (iv (5 : Int32))]) cl_0 V_X0_none (Or.inl q733) dX0_more_16 rfl rfl (Nat.le_of_ble_eq_true rfl) (Nat.le_of_ble_eq_true rfl) (ly0_k La0_h) ?_
    refine mx_aload_n dX0_none_0 rfl rfl ?_
    refine mx_iload_n dX0_none_1 rfl rfl ?_
    refine mx_putI 0 20 (ref := "PrairiePool") cl_0 (Nat.le_of_ble_eq_true rfl) (Or.inl q480) (Or.inl rfl) dX0_none_2 (Or.inl rfl) rfl (ly0_k La0_h) ?_
    refine mx_nmI  (fun h2 eh2 Xh2 Kh2 Lh2 => ?_)
    have H := H h2 eh2 Xh2
    have La0_h2 := La0_h.ext Xh2
    refine mx_iconst dX0_none_5 ic_m1 ?_
    refine mx_iretK rfl dX0_none_6 ?_
    exact mx_iret rfl dX0_more_19 H
  · have H := H.2 c1
    refine mx_iload_n dX0_isYear_4 rfl rfl ?_
    refine mx_bipush dX0_isYear_5 ib_10 ?_
    refine mx_icmp_ge (tgt := 14) dX0_isYear_7 rfl (fun c3 => ?_) (fun c3 => ?_)
    · have H := H.1 c3
      refine mx_iconst dX0_isYear_14 ic_0 ?_
      refine mx_zretK rfl dX0_isYear_15 (Or.inl rfl) ?_
      refine mx_if_eq (tgt := 14) dX0_more_4 rfl (fun _ => ?_) (fun _ => absurd ‹_› (by decide))
      refine mx_aload_n dX0_more_14 rfl rfl ?_
      refine mx_iconst dX0_more_15 ic_5 ?_
      refine mx_callV 0 (y' := mi_X0_none) (vs := [iv (5 : Int32)]) (st := []) (al' := [some (rv a0), some (iv (5 : Int32))]) cl_0 V_X0_none (Or.inl q733) dX0_more_16 rfl rfl (Nat.le_of_ble_eq_true rfl) (Nat.le_of_ble_eq_true rfl) (ly0_k La0_h) ?_
      refine mx_aload_n dX0_none_0 rfl rfl ?_
      refine mx_iload_n dX0_none_1 rfl rfl ?_
      refine mx_putI 0 20 (ref := "PrairiePool") cl_0 (Nat.le_of_ble_eq_true rfl) (Or.inl q480) (Or.inl rfl) dX0_none_2 (Or.inl rfl) rfl (ly0_k La0_h) ?_
      refine mx_nmI  (fun h4 eh4 Xh4 Kh4 Lh4 => ?_)
      have H := H h4 eh4 Xh4
      have La0_h4 := La0_h.ext Xh4
      refine mx_iconst dX0_none_5 ic_m1 ?_
      refine mx_iretK rfl dX0_none_6 ?_
      exact mx_iret rfl dX0_more_19 H
    · have H := H.2 c3
      refine mx_iconst dX0_isYear_10 ic_1 ?_
      refine mx_goto (tgt := 15) dX0_isYear_11 rfl ?_
      refine mx_zretK rfl dX0_isYear_15 (Or.inr rfl) ?_
      refine mx_if_eq (tgt := 14) dX0_more_4 rfl (fun _ => absurd ‹_› (by decide)) (fun _ => ?_)
      refine mx_iload_n dX0_more_7 rfl rfl ?_
      refine mx_callS (y' := mi_X0_isWeek) (vs := [iv x2]) (st := []) (al' := [some (iv x2)]) S_X0_isWeek q841 dX0_more_8 rfl rfl (Nat.le_of_ble_eq_true rfl) (Nat.le_of_ble_eq_true rfl) ?_
      refine mx_iload_n dX0_isWeek_0 rfl rfl ?_
      refine mx_if_lt (tgt := 15) dX0_isWeek_1 rfl (fun c5 => ?_) (fun c5 => ?_)
      · have H := H.1 c5
        refine mx_iconst dX0_isWeek_15 ic_0 ?_
        refine mx_zretK rfl dX0_isWeek_16 (Or.inl rfl) ?_
        refine mx_if_ne (tgt := 20) dX0_more_11 rfl (fun _ => absurd ‹_› (by decide)) (fun _ => ?_)
        refine mx_aload_n dX0_more_14 rfl rfl ?_
        refine mx_iconst dX0_more_15 ic_5 ?_
        refine mx_callV 0 (y' := mi_X0_none) (vs := [iv (5 : Int32)]) (st := []) (al' := [some (rv a0), some (iv (5 : Int32))]) cl_0 V_X0_none (Or.inl q733) dX0_more_16 rfl rfl (Nat.le_of_ble_eq_true rfl) (Nat.le_of_ble_eq_true rfl) (ly0_k La0_h) ?_
        refine mx_aload_n dX0_none_0 rfl rfl ?_
        refine mx_iload_n dX0_none_1 rfl rfl ?_
        refine mx_putI 0 20 (ref := "PrairiePool") cl_0 (Nat.le_of_ble_eq_true rfl) (Or.inl q480) (Or.inl rfl) dX0_none_2 (Or.inl rfl) rfl (ly0_k La0_h) ?_
        refine mx_nmI  (fun h6 eh6 Xh6 Kh6 Lh6 => ?_)
        have H := H h6 eh6 Xh6
        have La0_h6 := La0_h.ext Xh6
        refine mx_iconst dX0_none_5 ic_m1 ?_
        refine mx_iretK rfl dX0_none_6 ?_
        exact mx_iret rfl dX0_more_19 H
      · have H := H.2 c5
        refine mx_iload_n dX0_isWeek_4 rfl rfl ?_
        refine mx_sipush dX0_isWeek_5 is_520 ?_
        refine mx_icmp_ge (tgt := 15) dX0_isWeek_8 rfl (fun c7 => ?_) (fun c7 => ?_)
        · have H := H.1 c7
          refine mx_iconst dX0_isWeek_15 ic_0 ?_
          refine mx_zretK rfl dX0_isWeek_16 (Or.inl rfl) ?_
          refine mx_if_ne (tgt := 20) dX0_more_11 rfl (fun _ => absurd ‹_› (by decide)) (fun _ => ?_)
          refine mx_aload_n dX0_more_14 rfl rfl ?_
          refine mx_iconst dX0_more_15 ic_5 ?_
          refine mx_callV 0 (y' := mi_X0_none) (vs := [iv (5 : Int32)]) (st := []) (al' := [some (rv a0), some (iv (5 : Int32))]) cl_0 V_X0_none (Or.inl q733) dX0_more_16 rfl rfl (Nat.le_of_ble_eq_true rfl) (Nat.le_of_ble_eq_true rfl) (ly0_k La0_h) ?_
          refine mx_aload_n dX0_none_0 rfl rfl ?_
          refine mx_iload_n dX0_none_1 rfl rfl ?_
          refine mx_putI 0 20 (ref := "PrairiePool") cl_0 (Nat.le_of_ble_eq_true rfl) (Or.inl q480) (Or.inl rfl) dX0_none_2 (Or.inl rfl) rfl (ly0_k La0_h) ?_
          refine mx_nmI  (fun h8 eh8 Xh8 Kh8 Lh8 => ?_)
          have H := H h8 eh8 Xh8
          have La0_h8 := La0_h.ext Xh8
          refine mx_iconst dX0_none_5 ic_m1 ?_
          refine mx_iretK rfl dX0_none_6 ?_
          exact mx_iret rfl dX0_more_19 H
        · have H := H.2 c7
          refine mx_iconst dX0_isWeek_11 ic_1 ?_
          refine mx_goto (tgt := 16) dX0_isWeek_12 rfl ?_
          refine mx_zretK rfl dX0_isWeek_16 (Or.inr rfl) ?_
          refine mx_if_ne (tgt := 20) dX0_more_11 rfl (fun _ => ?_) (fun _ => absurd ‹_› (by decide))
          refine mx_aload_n dX0_more_20 rfl rfl ?_
          refine mx_iload_n dX0_more_21 rfl rfl ?_
          refine mx_iload_n dX0_more_22 rfl rfl ?_
          refine mx_callV 0 (y' := mi_X0_settle) (vs := [iv x1, iv x2]) (st := []) (al' := [some (rv a0), some (iv x1), some (iv x2), none, none, none, none, none]) cl_0 V_X0_settle (Or.inl q1483) dX0_more_23 rfl rfl (Nat.le_of_ble_eq_true rfl) (Nat.le_of_ble_eq_true rfl) (ly0_k La0_h) ?_
          refine ma_kv H (fun h9 Xh9 H => ?_) (fun x1 h1 X1 H => mt_out rfl H)
          have H := H Xh9
          have La0_h9 := La0_h.ext Xh9
          refine mx_aload_n dX0_more_26 rfl rfl ?_
          refine mx_iload_n dX0_more_27 rfl rfl ?_
          refine mx_callV 0 (y' := mi_X0_playsLoads) (vs := [iv x2]) (st := []) (al' := [some (rv a0), some (iv x2), none, none, none]) cl_0 V_X0_playsLoads (Or.inl q1554) dX0_more_28 rfl rfl (Nat.le_of_ble_eq_true rfl) (Nat.le_of_ble_eq_true rfl) (ly0_k La0_h9) ?_
          refine ma_kv H (fun h11 Xh11 H => ?_) (fun x1 h1 X1 H => mt_out rfl H)
          have H := H Xh11
          have La0_h11 := La0_h9.ext Xh11
          refine mx_iconst dX0_more_31 ic_0 ?_
          refine mx_istore_n (al' := [some (rv a0), some (iv x1), some (iv x2), some (iv (0 : Int32)), none, none, none]) dX0_more_32 rfl (Nat.le_of_ble_eq_true rfl) rfl ?_
          refine mx_iconst dX0_more_33 ic_0 ?_
          refine mx_istore (al' := [some (rv a0), some (iv x1), some (iv x2), some (iv (0 : Int32)), some (iv (0 : Int32)), none, none]) dX0_more_34 (Nat.le_of_ble_eq_true rfl) rfl ?_
          exact mx_weak (al' := [some (rv a0), some (iv x1), some (iv x2), some (iv (0 : Int32)), some (iv (0 : Int32)), none, none]) ⟨rfl, ⟨rfl, ⟨rfl, ⟨rfl, ⟨rfl, trivial⟩⟩⟩⟩⟩ H
theorem v_X0_more_36 {G : ma_G} {d : Nat} {a0 : Nat} {x1 : Int32} {x2 : Int32} {x3 : Int32} {x4 : Int32} {h : ah_T} {Q : Option ma_V → ah_T → Prop} {E : Nat → ah_T → Prop} (La0_h : LY0 h a0) (H : ((ah_I h a0 14) ≤ x4 → ∀ h2 : ah_T, h2 = ah_wI h a0 20 (0 : Int32) → ah_ext h h2 → Q (some (iv x3)) h2) ∧ (¬ (ah_I h a0 14) ≤ x4 → MX G mi_X0_more (d + 1) 51 [some (rv a0), some (iv x1), some (iv x2), some (iv x3), some (iv x4), some (iv (0 : Int32)), some (iv (0 : Int32))] [] h Q E)) : MX G mi_X0_more (d + 1) 36 [some (rv a0), some (iv x1), some (iv x2), some (iv x3), some (iv x4), none, none] [] h Q E := by
  refine mx_iload dX0_more_36 rfl ?_
  refine mx_aload_n dX0_more_38 rfl rfl ?_
  refine mx_get 0 14 (ref := "PrairiePool") cl_0 (Nat.le_of_ble_eq_true rfl) (Or.inl q474) (Or.inl rfl) dX0_more_39 (fv_0_14 _ _) (ly0_k La0_h) ?_
  refine mx_icmp_ge (tgt := 133) dX0_more_42 rfl (fun c1 => ?_) (fun c1 => ?_)
  · have H := H.1 c1
    refine mx_aload_n dX0_more_133 rfl rfl ?_
    refine mx_iload_n dX0_more_134 rfl rfl ?_
    refine mx_callV 0 (y' := mi_X0_gives) (vs := [iv x3]) (st := []) (al' := [some (rv a0), some (iv x3)]) cl_0 V_X0_gives (Or.inl q801) dX0_more_135 rfl rfl (Nat.le_of_ble_eq_true rfl) (Nat.le_of_ble_eq_true rfl) (ly0_k La0_h) ?_
    refine mx_aload_n dX0_gives_0 rfl rfl ?_
    refine mx_iconst dX0_gives_1 ic_0 ?_
    refine mx_putI 0 20 (ref := "PrairiePool") cl_0 (Nat.le_of_ble_eq_true rfl) (Or.inl q480) (Or.inl rfl) dX0_gives_2 (Or.inl rfl) rfl (ly0_k La0_h) ?_
    refine mx_nmI  (fun h2 eh2 Xh2 Kh2 Lh2 => ?_)
    have H := H h2 eh2 Xh2
    have La0_h2 := La0_h.ext Xh2
    refine mx_iload_n dX0_gives_5 rfl rfl ?_
    refine mx_iretK rfl dX0_gives_6 ?_
    exact mx_iret rfl dX0_more_138 H
  · have H := H.2 c1
    refine mx_iconst dX0_more_45 ic_0 ?_
    refine mx_istore (al' := [some (rv a0), some (iv x1), some (iv x2), some (iv x3), some (iv x4), some (iv (0 : Int32)), none]) dX0_more_46 (Nat.le_of_ble_eq_true rfl) rfl ?_
    refine mx_iconst dX0_more_48 ic_0 ?_
    refine mx_istore (al' := [some (rv a0), some (iv x1), some (iv x2), some (iv x3), some (iv x4), some (iv (0 : Int32)), some (iv (0 : Int32))]) dX0_more_49 (Nat.le_of_ble_eq_true rfl) rfl ?_
    exact mx_weak (al' := [some (rv a0), some (iv x1), some (iv x2), some (iv x3), some (iv x4), some (iv (0 : Int32)), some (iv (0 : Int32))]) ⟨rfl, ⟨rfl, ⟨rfl, ⟨rfl, ⟨rfl, ⟨rfl, ⟨rfl, trivial⟩⟩⟩⟩⟩⟩⟩ H
theorem v_X0_more_51 {G : ma_G} {d : Nat} {a0 : Nat} {x1 : Int32} {x2 : Int32} {x3 : Int32} {x4 : Int32} {x5 : Int32} {x6 : Int32} {h : ah_T} {Q : Option ma_V → ah_T → Prop} {E : Nat → ah_T → Prop} (La0_h : LY0 h a0) (H : ((6 : Int32) ≤ x6 → (x5 ≤ 0 → MX G mi_X0_more (d + 1) 36 [some (rv a0), some (iv x1), some (iv x2), some (iv (x3 + (0 : Int32))), some (iv (x4 + (1 : Int32))), none, none] [] h Q E) ∧ (¬ x5 ≤ 0 → vp_in x4 20 ∧ MX G mi_X0_aloneOf d 0 [some (rv a0), some (iv x4), some (iv x1), some (iv x2), none, none, none, none, none] [] h (Ql fun r5 h4 => ah_ext h h4 → (((ah_J h (a0 + 1439) x4.toNatClampNeg) + (ah_J h (a0 + 1438) x4.toNatClampNeg)) ≤ r5 → MX G mi_X0_more (d + 1) 36 [some (rv a0), some (iv x1), some (iv x2), some (iv (x3 + (0 : Int32))), some (iv (x4 + (1 : Int32))), none, none] [] h4 Q E) ∧ (¬ ((ah_J h (a0 + 1439) x4.toNatClampNeg) + (ah_J h (a0 + 1438) x4.toNatClampNeg)) ≤ r5 → MX G mi_X0_more (d + 1) 36 [some (rv a0), some (iv x1), some (iv x2), some (iv (x3 + (1 : Int32))), some (iv (x4 + (1 : Int32))), none, none] [] h4 Q E)) E)) ∧ (¬ (6 : Int32) ≤ x6 → vp_in x6 6 ∧ vp_in x1 10 ∧ vp_in x4 20 ∧ MX G mi_X0_more (d + 1) 51 [some (rv a0), some (iv x1), some (iv x2), some (iv x3), some (iv x4), some (iv (x5 + (ah_I h ((a0 + (126 + 22 * (10 * x6.toNatClampNeg + x1.toNatClampNeg))) + 1) x4.toNatClampNeg))), some (iv (x6 + (1 : Int32)))] [] h Q E)) : MX G mi_X0_more (d + 1) 51 [some (rv a0), some (iv x1), some (iv x2), some (iv x3), some (iv x4), some (iv x5), some (iv x6)] [] h Q E := by
  refine mx_iload dX0_more_51 rfl ?_
  refine mx_bipush dX0_more_53 ib_6 ?_
  refine mx_icmp_ge (tgt := 87) dX0_more_55 rfl (fun c1 => ?_) (fun c1 => ?_)
  · have H := H.1 c1
    refine mx_iload_n dX0_more_87 rfl rfl ?_
    refine mx_iload dX0_more_88 rfl ?_
    refine mx_if_le (tgt := 124) dX0_more_90 rfl (fun c2 => ?_) (fun c2 => ?_)
    · have H := H.1 c2
      refine mx_iconst dX0_more_124 ic_0 ?_
      refine mx_iadd dX0_more_125 ?_
      refine mx_istore_n (al' := [some (rv a0), some (iv x1), some (iv x2), some (iv (x3 + (0 : Int32))), some (iv x4), some (iv x5), some (iv x6)]) dX0_more_126 rfl (Nat.le_of_ble_eq_true rfl) rfl ?_
      refine mx_iinc (al' := [some (rv a0), some (iv x1), some (iv x2), some (iv (x3 + (0 : Int32))), some (iv (x4 + (1 : Int32))), some (iv x5), some (iv x6)]) dX0_more_127 rfl ic_1 rfl ?_
      refine mx_goto (tgt := 36) dX0_more_130 rfl ?_
      exact mx_weak (al' := [some (rv a0), some (iv x1), some (iv x2), some (iv (x3 + (0 : Int32))), some (iv (x4 + (1 : Int32))), none, none]) ⟨rfl, ⟨rfl, ⟨rfl, ⟨rfl, ⟨rfl, trivial⟩⟩⟩⟩⟩ H
    · have H := H.2 c2
      refine mx_aload_n dX0_more_93 rfl rfl ?_
      refine mx_get 0 25 (ref := "PrairiePool") cl_0 (Nat.le_of_ble_eq_true rfl) (Or.inl q485) (Or.inl rfl) dX0_more_94 (fv_0_25 _ _) (ly0_k La0_h) ?_
      refine mx_tr (ly0_R_0_25 La0_h) ?_
      refine mx_iload dX0_more_97 rfl ?_
      obtain ⟨k3, H⟩ := H
      refine my_lald dX0_more_99 rfl (ly0_A_1439 La0_h k3) ?_
      refine mx_aload_n dX0_more_100 rfl rfl ?_
      refine mx_get 0 24 (ref := "PrairiePool") cl_0 (Nat.le_of_ble_eq_true rfl) (Or.inl q484) (Or.inl rfl) dX0_more_101 (fv_0_24 _ _) (ly0_k La0_h) ?_
      refine mx_tr (ly0_R_0_24 La0_h) ?_
      refine mx_iload dX0_more_104 rfl ?_
      refine my_lald dX0_more_106 rfl (ly0_A_1438 La0_h k3) ?_
      refine mx_ladd dX0_more_107 ?_
      refine mx_aload_n dX0_more_108 rfl rfl ?_
      refine mx_iload dX0_more_109 rfl ?_
      refine mx_iload_n dX0_more_111 rfl rfl ?_
      refine mx_iload_n dX0_more_112 rfl rfl ?_
      refine mx_callV 0 (y' := mi_X0_aloneOf) (vs := [iv x4, iv x1, iv x2]) (st := [jv ((ah_J h (a0 + 1439) x4.toNatClampNeg) + (ah_J h (a0 + 1438) x4.toNatClampNeg)), iv x3]) (al' := [some (rv a0), some (iv x4), some (iv x1), some (iv x2), none, none, none, none, none]) cl_0 V_X0_aloneOf (Or.inl q1558) dX0_more_113 rfl rfl (Nat.le_of_ble_eq_true rfl) (Nat.le_of_ble_eq_true rfl) (ly0_k La0_h) ?_
      refine ma_kl H (fun r5 h4 Xh4 H => ?_) (fun x1 h1 X1 H => mt_out rfl H)
      have H := H Xh4
      have La0_h4 := La0_h.ext Xh4
      refine mx_lif_le (tgt := 124) dX0_more_116 dX0_more_117 rfl (fun c6 => ?_) (fun c6 => ?_)
      · have H := H.1 c6
        refine mx_iconst dX0_more_124 ic_0 ?_
        refine mx_iadd dX0_more_125 ?_
        refine mx_istore_n (al' := [some (rv a0), some (iv x1), some (iv x2), some (iv (x3 + (0 : Int32))), some (iv x4), some (iv x5), some (iv x6)]) dX0_more_126 rfl (Nat.le_of_ble_eq_true rfl) rfl ?_
        refine mx_iinc (al' := [some (rv a0), some (iv x1), some (iv x2), some (iv (x3 + (0 : Int32))), some (iv (x4 + (1 : Int32))), some (iv x5), some (iv x6)]) dX0_more_127 rfl ic_1 rfl ?_
        refine mx_goto (tgt := 36) dX0_more_130 rfl ?_
        exact mx_weak (al' := [some (rv a0), some (iv x1), some (iv x2), some (iv (x3 + (0 : Int32))), some (iv (x4 + (1 : Int32))), none, none]) ⟨rfl, ⟨rfl, ⟨rfl, ⟨rfl, ⟨rfl, trivial⟩⟩⟩⟩⟩ H
      · have H := H.2 c6
        refine mx_iconst dX0_more_120 ic_1 ?_
        refine mx_goto (tgt := 125) dX0_more_121 rfl ?_
        refine mx_iadd dX0_more_125 ?_
        refine mx_istore_n (al' := [some (rv a0), some (iv x1), some (iv x2), some (iv (x3 + (1 : Int32))), some (iv x4), some (iv x5), some (iv x6)]) dX0_more_126 rfl (Nat.le_of_ble_eq_true rfl) rfl ?_
        refine mx_iinc (al' := [some (rv a0), some (iv x1), some (iv x2), some (iv (x3 + (1 : Int32))), some (iv (x4 + (1 : Int32))), some (iv x5), some (iv x6)]) dX0_more_127 rfl ic_1 rfl ?_
        refine mx_goto (tgt := 36) dX0_more_130 rfl ?_
        exact mx_weak (al' := [some (rv a0), some (iv x1), some (iv x2), some (iv (x3 + (1 : Int32))), some (iv (x4 + (1 : Int32))), none, none]) ⟨rfl, ⟨rfl, ⟨rfl, ⟨rfl, ⟨rfl, trivial⟩⟩⟩⟩⟩ H
  · have H := H.2 c1
    refine mx_iload dX0_more_58 rfl ?_
    refine mx_aload_n dX0_more_60 rfl rfl ?_
    refine mx_get 0 8 (ref := "PrairiePool") cl_0 (Nat.le_of_ble_eq_true rfl) (Or.inl q468) (Or.inl rfl) dX0_more_61 (fv_0_8 _ _) (ly0_k La0_h) ?_
    refine mx_tr (ly0_R_0_8 La0_h) ?_
    refine mx_get 1 2 (ref := "PrairiePool$Play") cl_1 (Nat.le_of_ble_eq_true rfl) (Or.inr ⟨_, q233⟩) (Or.inl rfl) dX0_more_64 (fv_1_2 _ _) (ly0_K_9 La0_h) ?_
    refine mx_tr (ly0_R_9_2 La0_h) ?_
    refine mx_iload dX0_more_67 rfl ?_
    obtain ⟨k7, H⟩ := H
    refine my_aald 12 dX0_more_69 (by decide) rfl (ly0_A_82 La0_h k7) ?_
    refine mx_tr (ly0_G1_82 La0_h (vp_lt k7)) ?_
    refine mx_iload_n dX0_more_70 rfl rfl ?_
    obtain ⟨k8, H⟩ := H
    refine my_aald 11 dX0_more_71 (by decide) rfl ⟨(ly0_K1_82 La0_h (vp_lt k7)), by rw [ly0_N1_82 La0_h (vp_lt k7)]; exact k8⟩ ?_
    refine mx_tr (ly0_G2_82 La0_h (vp_lt k7) (vp_lt k8)) ?_
    refine mx_get 3 0 (ref := "PrairiePool$Heap") cl_3 (Nat.le_of_ble_eq_true rfl) (Or.inr ⟨_, q214⟩) (Or.inl rfl) dX0_more_72 (fv_3_0 _ _) (ly3_k (ly0_H2_82 La0_h (vp_lt k7) (vp_lt k8))) ?_
    refine mx_tr (ly3_r (ly0_H2_82 La0_h (vp_lt k7) (vp_lt k8))) ?_
    refine mx_iload dX0_more_75 rfl ?_
    obtain ⟨k9, H⟩ := H
    refine my_iald dX0_more_77 rfl ⟨(ly3_K_1 (ly0_H2_82 La0_h (vp_lt k7) (vp_lt k8))), by rw [ly3_N_1 (ly0_H2_82 La0_h (vp_lt k7) (vp_lt k8))]; exact k9⟩ ?_
    refine mx_iadd dX0_more_78 ?_
    refine mx_istore (al' := [some (rv a0), some (iv x1), some (iv x2), some (iv x3), some (iv x4), some (iv (x5 + (ah_I h ((a0 + (126 + 22 * (10 * x6.toNatClampNeg + x1.toNatClampNeg))) + 1) x4.toNatClampNeg))), some (iv x6)]) dX0_more_79 (Nat.le_of_ble_eq_true rfl) rfl ?_
    refine mx_iinc (al' := [some (rv a0), some (iv x1), some (iv x2), some (iv x3), some (iv x4), some (iv (x5 + (ah_I h ((a0 + (126 + 22 * (10 * x6.toNatClampNeg + x1.toNatClampNeg))) + 1) x4.toNatClampNeg))), some (iv (x6 + (1 : Int32)))]) dX0_more_81 rfl ic_1 rfl ?_
    refine mx_goto (tgt := 51) dX0_more_84 rfl ?_
    exact mx_weak (al' := [some (rv a0), some (iv x1), some (iv x2), some (iv x3), some (iv x4), some (iv (x5 + (ah_I h ((a0 + (126 + 22 * (10 * x6.toNatClampNeg + x1.toNatClampNeg))) + 1) x4.toNatClampNeg))), some (iv (x6 + (1 : Int32)))]) ⟨rfl, ⟨rfl, ⟨rfl, ⟨rfl, ⟨rfl, ⟨rfl, ⟨rfl, trivial⟩⟩⟩⟩⟩⟩⟩ H
theorem dX0_vote_0 : decode mi_X0_vote.2.1 0 = .ok (.aload_n 0, 1) := by decide +kernel
theorem dX0_vote_1 : decode mi_X0_vote.2.1 1 = .ok (.iload_n 1, 1) := by decide +kernel
theorem dX0_vote_2 : decode mi_X0_vote.2.1 2 = .ok (.invokevirtual 275, 3) := by decide +kernel
theorem dX0_vote_5 : decode mi_X0_vote.2.1 5 = .ok (.ifCond .ne 9, 3) := by decide +kernel
theorem dX0_vote_8 : decode mi_X0_vote.2.1 8 = .ok (.aload_n 0, 1) := by decide +kernel
theorem dX0_vote_9 : decode mi_X0_vote.2.1 9 = .ok (.iconst 2, 1) := by decide +kernel
theorem dX0_vote_10 : decode mi_X0_vote.2.1 10 = .ok (.invokevirtual 188, 3) := by decide +kernel
theorem dX0_vote_13 : decode mi_X0_vote.2.1 13 = .ok (.ireturn, 1) := by decide +kernel
theorem dX0_vote_14 : decode mi_X0_vote.2.1 14 = .ok (.iload_n 2, 1) := by decide +kernel
theorem dX0_vote_15 : decode mi_X0_vote.2.1 15 = .ok (.iconst (-1), 1) := by decide +kernel
theorem dX0_vote_16 : decode mi_X0_vote.2.1 16 = .ok (.if_icmp .lt 8, 3) := by decide +kernel
theorem dX0_vote_19 : decode mi_X0_vote.2.1 19 = .ok (.iload_n 2, 1) := by decide +kernel
theorem dX0_vote_20 : decode mi_X0_vote.2.1 20 = .ok (.iconst 1, 1) := by decide +kernel
theorem dX0_vote_21 : decode mi_X0_vote.2.1 21 = .ok (.if_icmp .le 9, 3) := by decide +kernel
theorem dX0_vote_24 : decode mi_X0_vote.2.1 24 = .ok (.aload_n 0, 1) := by decide +kernel
theorem dX0_vote_25 : decode mi_X0_vote.2.1 25 = .ok (.iconst 5, 1) := by decide +kernel
theorem dX0_vote_26 : decode mi_X0_vote.2.1 26 = .ok (.invokevirtual 188, 3) := by decide +kernel
theorem dX0_vote_29 : decode mi_X0_vote.2.1 29 = .ok (.ireturn, 1) := by decide +kernel
theorem dX0_vote_30 : decode mi_X0_vote.2.1 30 = .ok (.aload_n 0, 1) := by decide +kernel
theorem dX0_vote_31 : decode mi_X0_vote.2.1 31 = .ok (.getfield 17, 3) := by decide +kernel
theorem dX0_vote_34 : decode mi_X0_vote.2.1 34 = .ok (.iload_n 1, 1) := by decide +kernel
theorem dX0_vote_35 : decode mi_X0_vote.2.1 35 = .ok (.aaload, 1) := by decide +kernel
theorem dX0_vote_36 : decode mi_X0_vote.2.1 36 = .ok (.iload_n 2, 1) := by decide +kernel
theorem dX0_vote_37 : decode mi_X0_vote.2.1 37 = .ok (.putfield 564, 3) := by decide +kernel
theorem dX0_vote_40 : decode mi_X0_vote.2.1 40 = .ok (.aload_n 0, 1) := by decide +kernel
theorem dX0_vote_41 : decode mi_X0_vote.2.1 41 = .ok (.iconst 0, 1) := by decide +kernel
theorem dX0_vote_42 : decode mi_X0_vote.2.1 42 = .ok (.invokevirtual 188, 3) := by decide +kernel
theorem dX0_vote_45 : decode mi_X0_vote.2.1 45 = .ok (.ireturn, 1) := by decide +kernel
theorem v_X0_vote {G : ma_G} {d : Nat} {a0 : Nat} {x1 : Int32} {x2 : Int32} {h : ah_T} {Q : Option ma_V → ah_T → Prop} {E : Nat → ah_T → Prop} (La0_h : LY0 h a0) (H : (x1 < 0 → ∀ h2 : ah_T, h2 = ah_wI h a0 20 (2 : Int32) → ah_ext h h2 → Q (some (iv (0 : Int32))) h2) ∧ (¬ x1 < 0 → ((ah_I h a0 14) ≤ x1 → ∀ h4 : ah_T, h4 = ah_wI h a0 20 (2 : Int32) → ah_ext h h4 → Q (some (iv (0 : Int32))) h4) ∧ (¬ (ah_I h a0 14) ≤ x1 → (x2 < (-1 : Int32) → ∀ h6 : ah_T, h6 = ah_wI h a0 20 (5 : Int32) → ah_ext h h6 → Q (some (iv (0 : Int32))) h6) ∧ (¬ x2 < (-1 : Int32) → (x2 ≤ (1 : Int32) → vp_in x1 20 ∧ ah_kd h (ah_R h (a0 + 2) x1.toNatClampNeg) = 10 ∧ ∀ h10 : ah_T, h10 = ah_wI h (ah_R h (a0 + 2) x1.toNatClampNeg) 6 x2 → ah_ext h h10 → ∀ h11 : ah_T, h11 = ah_wI h10 a0 20 (0 : Int32) → ah_ext h10 h11 → Q (some (iv (1 : Int32))) h11) ∧ (¬ x2 ≤ (1 : Int32) → ∀ h12 : ah_T, h12 = ah_wI h a0 20 (5 : Int32) → ah_ext h h12 → Q (some (iv (0 : Int32))) h12))))) : MX G mi_X0_vote (d + 1) 0 [some (rv a0), some (iv x1), some (iv x2)] [] h Q E := by
  refine mx_aload_n dX0_vote_0 rfl rfl ?_
  refine mx_iload_n dX0_vote_1 rfl rfl ?_
  refine mx_callV 0 (y' := mi_X0_isFarm) (vs := [iv x1]) (st := []) (al' := [some (rv a0), some (iv x1)]) cl_0 V_X0_isFarm (Or.inl q827) dX0_vote_2 rfl rfl (Nat.le_of_ble_eq_true rfl) (Nat.le_of_ble_eq_true rfl) (ly0_k La0_h) ?_
  refine mx_iload_n dX0_isFarm_0 rfl rfl ?_
  refine mx_if_lt (tgt := 16) dX0_isFarm_1 rfl (fun c1 => ?_) (fun c1 => ?_)
  · have H := H.1 c1
    refine mx_iconst dX0_isFarm_16 ic_0 ?_
    refine mx_zretK rfl dX0_isFarm_17 (Or.inl rfl) ?_
    refine mx_if_ne (tgt := 14) dX0_vote_5 rfl (fun _ => absurd ‹_› (by decide)) (fun _ => ?_)
    refine mx_aload_n dX0_vote_8 rfl rfl ?_
    refine mx_iconst dX0_vote_9 ic_2 ?_
    refine mx_callV 0 (y' := mi_X0_is) (vs := [iv (2 : Int32)]) (st := []) (al' := [some (rv a0), some (iv (2 : Int32))]) cl_0 V_X0_is (Or.inl q664) dX0_vote_10 rfl rfl (Nat.le_of_ble_eq_true rfl) (Nat.le_of_ble_eq_true rfl) (ly0_k La0_h) ?_
    refine mx_aload_n dX0_is_0 rfl rfl ?_
    refine mx_iload_n dX0_is_1 rfl rfl ?_
    refine mx_putI 0 20 (ref := "PrairiePool") cl_0 (Nat.le_of_ble_eq_true rfl) (Or.inl q480) (Or.inl rfl) dX0_is_2 (Or.inl rfl) rfl (ly0_k La0_h) ?_
    refine mx_nmI  (fun h2 eh2 Xh2 Kh2 Lh2 => ?_)
    have H := H h2 eh2 Xh2
    have La0_h2 := La0_h.ext Xh2
    refine mx_iload_n dX0_is_5 rfl rfl ?_
    refine mx_if_ne (tgt := 13) dX0_is_6 rfl (fun _ => ?_) (fun _ => absurd ‹_› (by decide))
    refine mx_iconst dX0_is_13 ic_0 ?_
    refine mx_zretK rfl dX0_is_14 (Or.inl rfl) ?_
    exact mx_zret rfl dX0_vote_13 (Or.inl rfl) H
  · have H := H.2 c1
    refine mx_iload_n dX0_isFarm_4 rfl rfl ?_
    refine mx_aload_n dX0_isFarm_5 rfl rfl ?_
    refine mx_get 0 14 (ref := "PrairiePool") cl_0 (Nat.le_of_ble_eq_true rfl) (Or.inl q474) (Or.inl rfl) dX0_isFarm_6 (fv_0_14 _ _) (ly0_k La0_h) ?_
    refine mx_icmp_ge (tgt := 16) dX0_isFarm_9 rfl (fun c3 => ?_) (fun c3 => ?_)
    · have H := H.1 c3
      refine mx_iconst dX0_isFarm_16 ic_0 ?_
      refine mx_zretK rfl dX0_isFarm_17 (Or.inl rfl) ?_
      refine mx_if_ne (tgt := 14) dX0_vote_5 rfl (fun _ => absurd ‹_› (by decide)) (fun _ => ?_)
      refine mx_aload_n dX0_vote_8 rfl rfl ?_
      refine mx_iconst dX0_vote_9 ic_2 ?_
      refine mx_callV 0 (y' := mi_X0_is) (vs := [iv (2 : Int32)]) (st := []) (al' := [some (rv a0), some (iv (2 : Int32))]) cl_0 V_X0_is (Or.inl q664) dX0_vote_10 rfl rfl (Nat.le_of_ble_eq_true rfl) (Nat.le_of_ble_eq_true rfl) (ly0_k La0_h) ?_
      refine mx_aload_n dX0_is_0 rfl rfl ?_
      refine mx_iload_n dX0_is_1 rfl rfl ?_
      refine mx_putI 0 20 (ref := "PrairiePool") cl_0 (Nat.le_of_ble_eq_true rfl) (Or.inl q480) (Or.inl rfl) dX0_is_2 (Or.inl rfl) rfl (ly0_k La0_h) ?_
      refine mx_nmI  (fun h4 eh4 Xh4 Kh4 Lh4 => ?_)
      have H := H h4 eh4 Xh4
      have La0_h4 := La0_h.ext Xh4
      refine mx_iload_n dX0_is_5 rfl rfl ?_
      refine mx_if_ne (tgt := 13) dX0_is_6 rfl (fun _ => ?_) (fun _ => absurd ‹_› (by decide))
      refine mx_iconst dX0_is_13 ic_0 ?_
      refine mx_zretK rfl dX0_is_14 (Or.inl rfl) ?_
      exact mx_zret rfl dX0_vote_13 (Or.inl rfl) H
    · have H := H.2 c3
      refine mx_iconst dX0_isFarm_12 ic_1 ?_
      refine mx_goto (tgt := 17) dX0_isFarm_13 rfl ?_
      refine mx_zretK rfl dX0_isFarm_17 (Or.inr rfl) ?_
      refine mx_if_ne (tgt := 14) dX0_vote_5 rfl (fun _ => ?_) (fun _ => absurd ‹_› (by decide))
      refine mx_iload_n dX0_vote_14 rfl rfl ?_
      refine mx_iconst dX0_vote_15 ic_m1 ?_
      refine mx_icmp_lt (tgt := 24) dX0_vote_16 rfl (fun c5 => ?_) (fun c5 => ?_)
      · have H := H.1 c5
        refine mx_aload_n dX0_vote_24 rfl rfl ?_
        refine mx_iconst dX0_vote_25 ic_5 ?_
        refine mx_callV 0 (y' := mi_X0_is) (vs := [iv (5 : Int32)]) (st := []) (al' := [some (rv a0), some (iv (5 : Int32))]) cl_0 V_X0_is (Or.inl q664) dX0_vote_26 rfl rfl (Nat.le_of_ble_eq_true rfl) (Nat.le_of_ble_eq_true rfl) (ly0_k La0_h) ?_
        refine mx_aload_n dX0_is_0 rfl rfl ?_
        refine mx_iload_n dX0_is_1 rfl rfl ?_
        refine mx_putI 0 20 (ref := "PrairiePool") cl_0 (Nat.le_of_ble_eq_true rfl) (Or.inl q480) (Or.inl rfl) dX0_is_2 (Or.inl rfl) rfl (ly0_k La0_h) ?_
        refine mx_nmI  (fun h6 eh6 Xh6 Kh6 Lh6 => ?_)
        have H := H h6 eh6 Xh6
        have La0_h6 := La0_h.ext Xh6
        refine mx_iload_n dX0_is_5 rfl rfl ?_
        refine mx_if_ne (tgt := 13) dX0_is_6 rfl (fun _ => ?_) (fun _ => absurd ‹_› (by decide))
        refine mx_iconst dX0_is_13 ic_0 ?_
        refine mx_zretK rfl dX0_is_14 (Or.inl rfl) ?_
        exact mx_zret rfl dX0_vote_29 (Or.inl rfl) H
      · have H := H.2 c5
        refine mx_iload_n dX0_vote_19 rfl rfl ?_
        refine mx_iconst dX0_vote_20 ic_1 ?_
        refine mx_icmp_le (tgt := 30) dX0_vote_21 rfl (fun c7 => ?_) (fun c7 => ?_)
        · have H := H.1 c7
          refine mx_aload_n dX0_vote_30 rfl rfl ?_
          refine mx_get 0 1 (ref := "PrairiePool") cl_0 (Nat.le_of_ble_eq_true rfl) (Or.inl q461) (Or.inl rfl) dX0_vote_31 (fv_0_1 _ _) (ly0_k La0_h) ?_
          refine mx_tr (ly0_R_0_1 La0_h) ?_
          refine mx_iload_n dX0_vote_34 rfl rfl ?_
          obtain ⟨k8, H⟩ := H
          refine my_aald 6 dX0_vote_35 (by decide) rfl (ly0_A_2 La0_h k8) ?_
          refine mx_iload_n dX0_vote_36 rfl rfl ?_
          obtain ⟨k9, H⟩ := H
          refine mx_putI 9 6 (ref := "PrairiePool$Farm") cl_9 (Nat.le_of_ble_eq_true rfl) (Or.inr ⟨_, q781⟩) (Or.inl rfl) dX0_vote_37 (Or.inl rfl) rfl k9 ?_
          refine mx_nmI  (fun h10 eh10 Xh10 Kh10 Lh10 => ?_)
          have H := H h10 eh10 Xh10
          have La0_h10 := La0_h.ext Xh10
          refine mx_aload_n dX0_vote_40 rfl rfl ?_
          refine mx_iconst dX0_vote_41 ic_0 ?_
          refine mx_callV 0 (y' := mi_X0_is) (vs := [iv (0 : Int32)]) (st := []) (al' := [some (rv a0), some (iv (0 : Int32))]) cl_0 V_X0_is (Or.inl q664) dX0_vote_42 rfl rfl (Nat.le_of_ble_eq_true rfl) (Nat.le_of_ble_eq_true rfl) (ly0_k La0_h10) ?_
          refine mx_aload_n dX0_is_0 rfl rfl ?_
          refine mx_iload_n dX0_is_1 rfl rfl ?_
          refine mx_putI 0 20 (ref := "PrairiePool") cl_0 (Nat.le_of_ble_eq_true rfl) (Or.inl q480) (Or.inl rfl) dX0_is_2 (Or.inl rfl) rfl (ly0_k La0_h10) ?_
          refine mx_nmI  (fun h11 eh11 Xh11 Kh11 Lh11 => ?_)
          have H := H h11 eh11 Xh11
          have Kh11 := Kh11.trans Kh10
          have Lh11 := Lh11.trans Lh10
          have La0_h11 := La0_h10.ext Xh11
          refine mx_iload_n dX0_is_5 rfl rfl ?_
          refine mx_if_ne (tgt := 13) dX0_is_6 rfl (fun _ => absurd ‹_› (by decide)) (fun _ => ?_)
          refine mx_iconst dX0_is_9 ic_1 ?_
          refine mx_goto (tgt := 14) dX0_is_10 rfl ?_
          refine mx_zretK rfl dX0_is_14 (Or.inr rfl) ?_
          exact mx_zret rfl dX0_vote_45 (Or.inr rfl) H
        · have H := H.2 c7
          refine mx_aload_n dX0_vote_24 rfl rfl ?_
          refine mx_iconst dX0_vote_25 ic_5 ?_
          refine mx_callV 0 (y' := mi_X0_is) (vs := [iv (5 : Int32)]) (st := []) (al' := [some (rv a0), some (iv (5 : Int32))]) cl_0 V_X0_is (Or.inl q664) dX0_vote_26 rfl rfl (Nat.le_of_ble_eq_true rfl) (Nat.le_of_ble_eq_true rfl) (ly0_k La0_h) ?_
          refine mx_aload_n dX0_is_0 rfl rfl ?_
          refine mx_iload_n dX0_is_1 rfl rfl ?_
          refine mx_putI 0 20 (ref := "PrairiePool") cl_0 (Nat.le_of_ble_eq_true rfl) (Or.inl q480) (Or.inl rfl) dX0_is_2 (Or.inl rfl) rfl (ly0_k La0_h) ?_
          refine mx_nmI  (fun h12 eh12 Xh12 Kh12 Lh12 => ?_)
          have H := H h12 eh12 Xh12
          have La0_h12 := La0_h.ext Xh12
          refine mx_iload_n dX0_is_5 rfl rfl ?_
          refine mx_if_ne (tgt := 13) dX0_is_6 rfl (fun _ => ?_) (fun _ => absurd ‹_› (by decide))
          refine mx_iconst dX0_is_13 ic_0 ?_
          refine mx_zretK rfl dX0_is_14 (Or.inl rfl) ?_
          exact mx_zret rfl dX0_vote_29 (Or.inl rfl) H
theorem dX0_result_0 : decode mi_X0_result.2.1 0 = .ok (.iload_n 1, 1) := by decide +kernel
theorem dX0_result_1 : decode mi_X0_result.2.1 1 = .ok (.iconst (-1), 1) := by decide +kernel
theorem dX0_result_2 : decode mi_X0_result.2.1 2 = .ok (.if_icmp .eq 16, 3) := by decide +kernel
theorem dX0_result_5 : decode mi_X0_result.2.1 5 = .ok (.iload_n 1, 1) := by decide +kernel
theorem dX0_result_6 : decode mi_X0_result.2.1 6 = .ok (.invokestatic 236, 3) := by decide +kernel
theorem dX0_result_9 : decode mi_X0_result.2.1 9 = .ok (.ifCond .ne 9, 3) := by decide +kernel
theorem dX0_result_12 : decode mi_X0_result.2.1 12 = .ok (.aload_n 0, 1) := by decide +kernel
theorem dX0_result_13 : decode mi_X0_result.2.1 13 = .ok (.iconst 2, 1) := by decide +kernel
theorem dX0_result_14 : decode mi_X0_result.2.1 14 = .ok (.invokevirtual 205, 3) := by decide +kernel
theorem dX0_result_17 : decode mi_X0_result.2.1 17 = .ok (.ireturn, 1) := by decide +kernel
theorem dX0_result_18 : decode mi_X0_result.2.1 18 = .ok (.iload_n 2, 1) := by decide +kernel
theorem dX0_result_19 : decode mi_X0_result.2.1 19 = .ok (.invokestatic 260, 3) := by decide +kernel
theorem dX0_result_22 : decode mi_X0_result.2.1 22 = .ok (.ifCond .ne 9, 3) := by decide +kernel
theorem dX0_result_25 : decode mi_X0_result.2.1 25 = .ok (.aload_n 0, 1) := by decide +kernel
theorem dX0_result_26 : decode mi_X0_result.2.1 26 = .ok (.iconst 5, 1) := by decide +kernel
theorem dX0_result_27 : decode mi_X0_result.2.1 27 = .ok (.invokevirtual 205, 3) := by decide +kernel
theorem dX0_result_30 : decode mi_X0_result.2.1 30 = .ok (.ireturn, 1) := by decide +kernel
theorem dX0_result_31 : decode mi_X0_result.2.1 31 = .ok (.aload_n 0, 1) := by decide +kernel
theorem dX0_result_32 : decode mi_X0_result.2.1 32 = .ok (.iload_n 2, 1) := by decide +kernel
theorem dX0_result_33 : decode mi_X0_result.2.1 33 = .ok (.invokevirtual 569, 3) := by decide +kernel
theorem dX0_result_36 : decode mi_X0_result.2.1 36 = .ok (.aload_n 0, 1) := by decide +kernel
theorem dX0_result_37 : decode mi_X0_result.2.1 37 = .ok (.iconst 0, 1) := by decide +kernel
theorem dX0_result_38 : decode mi_X0_result.2.1 38 = .ok (.iconst 0, 1) := by decide +kernel
theorem dX0_result_39 : decode mi_X0_result.2.1 39 = .ok (.invokevirtual 572, 3) := by decide +kernel
theorem dX0_result_42 : decode mi_X0_result.2.1 42 = .ok (.istore_n 3, 1) := by decide +kernel
theorem dX0_result_43 : decode mi_X0_result.2.1 43 = .ok (.aload_n 0, 1) := by decide +kernel
theorem dX0_result_44 : decode mi_X0_result.2.1 44 = .ok (.iload_n 1, 1) := by decide +kernel
theorem dX0_result_45 : decode mi_X0_result.2.1 45 = .ok (.iconst (-1), 1) := by decide +kernel
theorem dX0_result_46 : decode mi_X0_result.2.1 46 = .ok (.if_icmp .ne 7, 3) := by decide +kernel
theorem dX0_result_49 : decode mi_X0_result.2.1 49 = .ok (.iload_n 3, 1) := by decide +kernel
theorem dX0_result_50 : decode mi_X0_result.2.1 50 = .ok (.goto 9, 3) := by decide +kernel
theorem dX0_result_53 : decode mi_X0_result.2.1 53 = .ok (.aload_n 0, 1) := by decide +kernel
theorem dX0_result_54 : decode mi_X0_result.2.1 54 = .ok (.getfield 139, 3) := by decide +kernel
theorem dX0_result_57 : decode mi_X0_result.2.1 57 = .ok (.iload_n 1, 1) := by decide +kernel
theorem dX0_result_58 : decode mi_X0_result.2.1 58 = .ok (.iaload, 1) := by decide +kernel
theorem dX0_result_59 : decode mi_X0_result.2.1 59 = .ok (.ifCond .le 7, 3) := by decide +kernel
theorem dX0_result_62 : decode mi_X0_result.2.1 62 = .ok (.iconst 1, 1) := by decide +kernel
theorem dX0_result_63 : decode mi_X0_result.2.1 63 = .ok (.goto 4, 3) := by decide +kernel
theorem dX0_result_66 : decode mi_X0_result.2.1 66 = .ok (.iconst 0, 1) := by decide +kernel
theorem dX0_result_67 : decode mi_X0_result.2.1 67 = .ok (.invokevirtual 250, 3) := by decide +kernel
theorem dX0_result_70 : decode mi_X0_result.2.1 70 = .ok (.ireturn, 1) := by decide +kernel
theorem v_X0_result {G : ma_G} {d : Nat} {a0 : Nat} {x1 : Int32} {x2 : Int32} {h : ah_T} {Q : Option ma_V → ah_T → Prop} {E : Nat → ah_T → Prop} (La0_h : LY0 h a0) (H : (x1 = (-1 : Int32) → MX G mi_X0_result (d + 1) 18 [some (rv a0), some (iv x1), some (iv x2), none] [] h Q E) ∧ (¬ x1 = (-1 : Int32) → (x1 < 0 → ∀ h3 : ah_T, h3 = ah_wI h a0 20 (2 : Int32) → ah_ext h h3 → Q (some (iv (-1 : Int32))) h3) ∧ (¬ x1 < 0 → ((6 : Int32) ≤ x1 → ∀ h5 : ah_T, h5 = ah_wI h a0 20 (2 : Int32) → ah_ext h h5 → Q (some (iv (-1 : Int32))) h5) ∧ (¬ (6 : Int32) ≤ x1 → MX G mi_X0_result (d + 1) 18 [some (rv a0), some (iv x1), some (iv x2), none] [] h Q E)))) : MX G mi_X0_result (d + 1) 0 [some (rv a0), some (iv x1), some (iv x2), none] [] h Q E := by
  refine mx_iload_n dX0_result_0 rfl rfl ?_
  refine mx_iconst dX0_result_1 ic_m1 ?_
  refine mx_icmp_eq (tgt := 18) dX0_result_2 rfl (fun c1 => ?_) (fun c1 => ?_)
  · have H := H.1 c1
    exact mx_weak (al' := [some (rv a0), some (iv x1), some (iv x2), none]) ⟨rfl, ⟨rfl, ⟨rfl, trivial⟩⟩⟩ H
  · have H := H.2 c1
    refine mx_iload_n dX0_result_5 rfl rfl ?_
    refine mx_callS (y' := mi_X0_isDistrict) (vs := [iv x1]) (st := []) (al' := [some (iv x1)]) S_X0_isDistrict q754 dX0_result_6 rfl rfl (Nat.le_of_ble_eq_true rfl) (Nat.le_of_ble_eq_true rfl) ?_
    refine mx_iload_n dX0_isDistrict_0 rfl rfl ?_
    refine mx_if_lt (tgt := 14) dX0_isDistrict_1 rfl (fun c2 => ?_) (fun c2 => ?_)
    · have H := H.1 c2
      refine mx_iconst dX0_isDistrict_14 ic_0 ?_
      refine mx_zretK rfl dX0_isDistrict_15 (Or.inl rfl) ?_
      refine mx_if_ne (tgt := 18) dX0_result_9 rfl (fun _ => absurd ‹_› (by decide)) (fun _ => ?_)
      refine mx_aload_n dX0_result_12 rfl rfl ?_
      refine mx_iconst dX0_result_13 ic_2 ?_
      refine mx_callV 0 (y' := mi_X0_none) (vs := [iv (2 : Int32)]) (st := []) (al' := [some (rv a0), some (iv (2 : Int32))]) cl_0 V_X0_none (Or.inl q733) dX0_result_14 rfl rfl (Nat.le_of_ble_eq_true rfl) (Nat.le_of_ble_eq_true rfl) (ly0_k La0_h) ?_
      refine mx_aload_n dX0_none_0 rfl rfl ?_
      refine mx_iload_n dX0_none_1 rfl rfl ?_
      refine mx_putI 0 20 (ref := "PrairiePool") cl_0 (Nat.le_of_ble_eq_true rfl) (Or.inl q480) (Or.inl rfl) dX0_none_2 (Or.inl rfl) rfl (ly0_k La0_h) ?_
      refine mx_nmI  (fun h3 eh3 Xh3 Kh3 Lh3 => ?_)
      have H := H h3 eh3 Xh3
      have La0_h3 := La0_h.ext Xh3
      refine mx_iconst dX0_none_5 ic_m1 ?_
      refine mx_iretK rfl dX0_none_6 ?_
      exact mx_iret rfl dX0_result_17 H
    · have H := H.2 c2
      refine mx_iload_n dX0_isDistrict_4 rfl rfl ?_
      refine mx_bipush dX0_isDistrict_5 ib_6 ?_
      refine mx_icmp_ge (tgt := 14) dX0_isDistrict_7 rfl (fun c4 => ?_) (fun c4 => ?_)
      · have H := H.1 c4
        refine mx_iconst dX0_isDistrict_14 ic_0 ?_
        refine mx_zretK rfl dX0_isDistrict_15 (Or.inl rfl) ?_
        refine mx_if_ne (tgt := 18) dX0_result_9 rfl (fun _ => absurd ‹_› (by decide)) (fun _ => ?_)
        refine mx_aload_n dX0_result_12 rfl rfl ?_
        refine mx_iconst dX0_result_13 ic_2 ?_
        refine mx_callV 0 (y' := mi_X0_none) (vs := [iv (2 : Int32)]) (st := []) (al' := [some (rv a0), some (iv (2 : Int32))]) cl_0 V_X0_none (Or.inl q733) dX0_result_14 rfl rfl (Nat.le_of_ble_eq_true rfl) (Nat.le_of_ble_eq_true rfl) (ly0_k La0_h) ?_
        refine mx_aload_n dX0_none_0 rfl rfl ?_
        refine mx_iload_n dX0_none_1 rfl rfl ?_
        refine mx_putI 0 20 (ref := "PrairiePool") cl_0 (Nat.le_of_ble_eq_true rfl) (Or.inl q480) (Or.inl rfl) dX0_none_2 (Or.inl rfl) rfl (ly0_k La0_h) ?_
        refine mx_nmI  (fun h5 eh5 Xh5 Kh5 Lh5 => ?_)
        have H := H h5 eh5 Xh5
        have La0_h5 := La0_h.ext Xh5
        refine mx_iconst dX0_none_5 ic_m1 ?_
        refine mx_iretK rfl dX0_none_6 ?_
        exact mx_iret rfl dX0_result_17 H
      · have H := H.2 c4
        refine mx_iconst dX0_isDistrict_10 ic_1 ?_
        refine mx_goto (tgt := 15) dX0_isDistrict_11 rfl ?_
        refine mx_zretK rfl dX0_isDistrict_15 (Or.inr rfl) ?_
        refine mx_if_ne (tgt := 18) dX0_result_9 rfl (fun _ => ?_) (fun _ => absurd ‹_› (by decide))
        exact mx_weak (al' := [some (rv a0), some (iv x1), some (iv x2), none]) ⟨rfl, ⟨rfl, ⟨rfl, trivial⟩⟩⟩ H
theorem v_X0_result_18 {G : ma_G} {d : Nat} {a0 : Nat} {x1 : Int32} {x2 : Int32} {h : ah_T} {Q : Option ma_V → ah_T → Prop} {E : Nat → ah_T → Prop} (La0_h : LY0 h a0) (H : (x2 < 0 → ∀ h2 : ah_T, h2 = ah_wI h a0 20 (5 : Int32) → ah_ext h h2 → Q (some (iv (-1 : Int32))) h2) ∧ (¬ x2 < 0 → ((520 : Int32) ≤ x2 → ∀ h4 : ah_T, h4 = ah_wI h a0 20 (5 : Int32) → ah_ext h h4 → Q (some (iv (-1 : Int32))) h4) ∧ (¬ (520 : Int32) ≤ x2 → MX G mi_X0_weigh d 0 [some (rv a0), some (iv x2), none, none] [] h (Qv fun h5 => ah_ext h h5 → MX G mi_X0_wholeFor d 0 [some (rv a0), some (iv (0 : Int32)), some (iv (0 : Int32)), none, none] [] h5 (Qi fun r8 h7 => ah_ext h5 h7 → (¬ x1 = (-1 : Int32) → vp_in x1 6 ∧ ((ah_I h7 (a0 + 1450) x1.toNatClampNeg) ≤ 0 → ∀ h12 : ah_T, h12 = ah_wI h7 a0 20 (0 : Int32) → ah_ext h7 h12 → Q (some (iv (0 : Int32))) h12) ∧ (¬ (ah_I h7 (a0 + 1450) x1.toNatClampNeg) ≤ 0 → ∀ h13 : ah_T, h13 = ah_wI h7 a0 20 (0 : Int32) → ah_ext h7 h13 → Q (some (iv (1 : Int32))) h13)) ∧ (x1 = (-1 : Int32) → (r8 ≤ 0 → ∀ h15 : ah_T, h15 = ah_wI h7 a0 20 (0 : Int32) → ah_ext h7 h15 → Q (some (iv (0 : Int32))) h15) ∧ (¬ r8 ≤ 0 → ∀ h16 : ah_T, h16 = ah_wI h7 a0 20 (0 : Int32) → ah_ext h7 h16 → Q (some (iv (1 : Int32))) h16))) E) E))) : MX G mi_X0_result (d + 1) 18 [some (rv a0), some (iv x1), some (iv x2), none] [] h Q E := by
  refine mx_iload_n dX0_result_18 rfl rfl ?_
  refine mx_callS (y' := mi_X0_isWeek) (vs := [iv x2]) (st := []) (al' := [some (iv x2)]) S_X0_isWeek q841 dX0_result_19 rfl rfl (Nat.le_of_ble_eq_true rfl) (Nat.le_of_ble_eq_true rfl) ?_
  refine mx_iload_n dX0_isWeek_0 rfl rfl ?_
  refine mx_if_lt (tgt := 15) dX0_isWeek_1 rfl (fun c1 => ?_) (fun c1 => ?_)
  · have H := H.1 c1
    refine mx_iconst dX0_isWeek_15 ic_0 ?_
    refine mx_zretK rfl dX0_isWeek_16 (Or.inl rfl) ?_
    refine mx_if_ne (tgt := 31) dX0_result_22 rfl (fun _ => absurd ‹_› (by decide)) (fun _ => ?_)
    refine mx_aload_n dX0_result_25 rfl rfl ?_
    refine mx_iconst dX0_result_26 ic_5 ?_
    refine mx_callV 0 (y' := mi_X0_none) (vs := [iv (5 : Int32)]) (st := []) (al' := [some (rv a0), some (iv (5 : Int32))]) cl_0 V_X0_none (Or.inl q733) dX0_result_27 rfl rfl (Nat.le_of_ble_eq_true rfl) (Nat.le_of_ble_eq_true rfl) (ly0_k La0_h) ?_
    refine mx_aload_n dX0_none_0 rfl rfl ?_
    refine mx_iload_n dX0_none_1 rfl rfl ?_
    refine mx_putI 0 20 (ref := "PrairiePool") cl_0 (Nat.le_of_ble_eq_true rfl) (Or.inl q480) (Or.inl rfl) dX0_none_2 (Or.inl rfl) rfl (ly0_k La0_h) ?_
    refine mx_nmI  (fun h2 eh2 Xh2 Kh2 Lh2 => ?_)
    have H := H h2 eh2 Xh2
    have La0_h2 := La0_h.ext Xh2
    refine mx_iconst dX0_none_5 ic_m1 ?_
    refine mx_iretK rfl dX0_none_6 ?_
    exact mx_iret rfl dX0_result_30 H
  · have H := H.2 c1
    refine mx_iload_n dX0_isWeek_4 rfl rfl ?_
    refine mx_sipush dX0_isWeek_5 is_520 ?_
    refine mx_icmp_ge (tgt := 15) dX0_isWeek_8 rfl (fun c3 => ?_) (fun c3 => ?_)
    · have H := H.1 c3
      refine mx_iconst dX0_isWeek_15 ic_0 ?_
      refine mx_zretK rfl dX0_isWeek_16 (Or.inl rfl) ?_
      refine mx_if_ne (tgt := 31) dX0_result_22 rfl (fun _ => absurd ‹_› (by decide)) (fun _ => ?_)
      refine mx_aload_n dX0_result_25 rfl rfl ?_
      refine mx_iconst dX0_result_26 ic_5 ?_
      refine mx_callV 0 (y' := mi_X0_none) (vs := [iv (5 : Int32)]) (st := []) (al' := [some (rv a0), some (iv (5 : Int32))]) cl_0 V_X0_none (Or.inl q733) dX0_result_27 rfl rfl (Nat.le_of_ble_eq_true rfl) (Nat.le_of_ble_eq_true rfl) (ly0_k La0_h) ?_
      refine mx_aload_n dX0_none_0 rfl rfl ?_
      refine mx_iload_n dX0_none_1 rfl rfl ?_
      refine mx_putI 0 20 (ref := "PrairiePool") cl_0 (Nat.le_of_ble_eq_true rfl) (Or.inl q480) (Or.inl rfl) dX0_none_2 (Or.inl rfl) rfl (ly0_k La0_h) ?_
      refine mx_nmI  (fun h4 eh4 Xh4 Kh4 Lh4 => ?_)
      have H := H h4 eh4 Xh4
      have La0_h4 := La0_h.ext Xh4
      refine mx_iconst dX0_none_5 ic_m1 ?_
      refine mx_iretK rfl dX0_none_6 ?_
      exact mx_iret rfl dX0_result_30 H
    · have H := H.2 c3
      refine mx_iconst dX0_isWeek_11 ic_1 ?_
      refine mx_goto (tgt := 16) dX0_isWeek_12 rfl ?_
      refine mx_zretK rfl dX0_isWeek_16 (Or.inr rfl) ?_
      refine mx_if_ne (tgt := 31) dX0_result_22 rfl (fun _ => ?_) (fun _ => absurd ‹_› (by decide))
      refine mx_aload_n dX0_result_31 rfl rfl ?_
      refine mx_iload_n dX0_result_32 rfl rfl ?_
      refine mx_callV 0 (y' := mi_X0_weigh) (vs := [iv x2]) (st := []) (al' := [some (rv a0), some (iv x2), none, none]) cl_0 V_X0_weigh (Or.inl q1574) dX0_result_33 rfl rfl (Nat.le_of_ble_eq_true rfl) (Nat.le_of_ble_eq_true rfl) (ly0_k La0_h) ?_
      refine ma_kv H (fun h5 Xh5 H => ?_) (fun x1 h1 X1 H => mt_out rfl H)
      have H := H Xh5
      have La0_h5 := La0_h.ext Xh5
      refine mx_aload_n dX0_result_36 rfl rfl ?_
      refine mx_iconst dX0_result_37 ic_0 ?_
      refine mx_iconst dX0_result_38 ic_0 ?_
      refine mx_callV 0 (y' := mi_X0_wholeFor) (vs := [iv (0 : Int32), iv (0 : Int32)]) (st := []) (al' := [some (rv a0), some (iv (0 : Int32)), some (iv (0 : Int32)), none, none]) cl_0 V_X0_wholeFor (Or.inl q1579) dX0_result_39 rfl rfl (Nat.le_of_ble_eq_true rfl) (Nat.le_of_ble_eq_true rfl) (ly0_k La0_h5) ?_
      refine ma_ki H (fun r8 h7 Xh7 H => ?_) (fun x1 h1 X1 H => mt_out rfl H)
      have H := H Xh7
      have La0_h7 := La0_h5.ext Xh7
      refine mx_istore_n (al' := [some (rv a0), some (iv x1), some (iv x2), some (iv r8)]) dX0_result_42 rfl (Nat.le_of_ble_eq_true rfl) rfl ?_
      refine mx_aload_n dX0_result_43 rfl rfl ?_
      refine mx_iload_n dX0_result_44 rfl rfl ?_
      refine mx_iconst dX0_result_45 ic_m1 ?_
      refine mx_icmp_ne (tgt := 53) dX0_result_46 rfl (fun c9 => ?_) (fun c9 => ?_)
      · have H := H.1 c9
        refine mx_aload_n dX0_result_53 rfl rfl ?_
        refine mx_get 0 41 (ref := "PrairiePool") cl_0 (Nat.le_of_ble_eq_true rfl) (Or.inl q501) (Or.inl rfl) dX0_result_54 (fv_0_41 _ _) (ly0_k La0_h7) ?_
        refine mx_tr (ly0_R_0_41 La0_h7) ?_
        refine mx_iload_n dX0_result_57 rfl rfl ?_
        obtain ⟨k10, H⟩ := H
        refine my_iald dX0_result_58 rfl (ly0_A_1450 La0_h7 k10) ?_
        refine mx_if_le (tgt := 66) dX0_result_59 rfl (fun c11 => ?_) (fun c11 => ?_)
        · have H := H.1 c11
          refine mx_iconst dX0_result_66 ic_0 ?_
          refine mx_callV 0 (y' := mi_X0_gives) (vs := [iv (0 : Int32)]) (st := []) (al' := [some (rv a0), some (iv (0 : Int32))]) cl_0 V_X0_gives (Or.inl q801) dX0_result_67 rfl rfl (Nat.le_of_ble_eq_true rfl) (Nat.le_of_ble_eq_true rfl) (ly0_k La0_h7) ?_
          refine mx_aload_n dX0_gives_0 rfl rfl ?_
          refine mx_iconst dX0_gives_1 ic_0 ?_
          refine mx_putI 0 20 (ref := "PrairiePool") cl_0 (Nat.le_of_ble_eq_true rfl) (Or.inl q480) (Or.inl rfl) dX0_gives_2 (Or.inl rfl) rfl (ly0_k La0_h7) ?_
          refine mx_nmI  (fun h12 eh12 Xh12 Kh12 Lh12 => ?_)
          have H := H h12 eh12 Xh12
          have La0_h12 := La0_h7.ext Xh12
          refine mx_iload_n dX0_gives_5 rfl rfl ?_
          refine mx_iretK rfl dX0_gives_6 ?_
          exact mx_iret rfl dX0_result_70 H
        · have H := H.2 c11
          refine mx_iconst dX0_result_62 ic_1 ?_
          refine mx_goto (tgt := 67) dX0_result_63 rfl ?_
          refine mx_callV 0 (y' := mi_X0_gives) (vs := [iv (1 : Int32)]) (st := []) (al' := [some (rv a0), some (iv (1 : Int32))]) cl_0 V_X0_gives (Or.inl q801) dX0_result_67 rfl rfl (Nat.le_of_ble_eq_true rfl) (Nat.le_of_ble_eq_true rfl) (ly0_k La0_h7) ?_
          refine mx_aload_n dX0_gives_0 rfl rfl ?_
          refine mx_iconst dX0_gives_1 ic_0 ?_
          refine mx_putI 0 20 (ref := "PrairiePool") cl_0 (Nat.le_of_ble_eq_true rfl) (Or.inl q480) (Or.inl rfl) dX0_gives_2 (Or.inl rfl) rfl (ly0_k La0_h7) ?_
          refine mx_nmI  (fun h13 eh13 Xh13 Kh13 Lh13 => ?_)
          have H := H h13 eh13 Xh13
          have La0_h13 := La0_h7.ext Xh13
          refine mx_iload_n dX0_gives_5 rfl rfl ?_
          refine mx_iretK rfl dX0_gives_6 ?_
          exact mx_iret rfl dX0_result_70 H
      · have H := H.2 c9
        refine mx_iload_n dX0_result_49 rfl rfl ?_
        refine mx_goto (tgt := 59) dX0_result_50 rfl ?_
        refine mx_if_le (tgt := 66) dX0_result_59 rfl (fun c14 => ?_) (fun c14 => ?_)
        · have H := H.1 c14
          refine mx_iconst dX0_result_66 ic_0 ?_
          refine mx_callV 0 (y' := mi_X0_gives) (vs := [iv (0 : Int32)]) (st := []) (al' := [some (rv a0), some (iv (0 : Int32))]) cl_0 V_X0_gives (Or.inl q801) dX0_result_67 rfl rfl (Nat.le_of_ble_eq_true rfl) (Nat.le_of_ble_eq_true rfl) (ly0_k La0_h7) ?_
          refine mx_aload_n dX0_gives_0 rfl rfl ?_
          refine mx_iconst dX0_gives_1 ic_0 ?_
          refine mx_putI 0 20 (ref := "PrairiePool") cl_0 (Nat.le_of_ble_eq_true rfl) (Or.inl q480) (Or.inl rfl) dX0_gives_2 (Or.inl rfl) rfl (ly0_k La0_h7) ?_
          refine mx_nmI  (fun h15 eh15 Xh15 Kh15 Lh15 => ?_)
          have H := H h15 eh15 Xh15
          have La0_h15 := La0_h7.ext Xh15
          refine mx_iload_n dX0_gives_5 rfl rfl ?_
          refine mx_iretK rfl dX0_gives_6 ?_
          exact mx_iret rfl dX0_result_70 H
        · have H := H.2 c14
          refine mx_iconst dX0_result_62 ic_1 ?_
          refine mx_goto (tgt := 67) dX0_result_63 rfl ?_
          refine mx_callV 0 (y' := mi_X0_gives) (vs := [iv (1 : Int32)]) (st := []) (al' := [some (rv a0), some (iv (1 : Int32))]) cl_0 V_X0_gives (Or.inl q801) dX0_result_67 rfl rfl (Nat.le_of_ble_eq_true rfl) (Nat.le_of_ble_eq_true rfl) (ly0_k La0_h7) ?_
          refine mx_aload_n dX0_gives_0 rfl rfl ?_
          refine mx_iconst dX0_gives_1 ic_0 ?_
          refine mx_putI 0 20 (ref := "PrairiePool") cl_0 (Nat.le_of_ble_eq_true rfl) (Or.inl q480) (Or.inl rfl) dX0_gives_2 (Or.inl rfl) rfl (ly0_k La0_h7) ?_
          refine mx_nmI  (fun h16 eh16 Xh16 Kh16 Lh16 => ?_)
          have H := H h16 eh16 Xh16
          have La0_h16 := La0_h7.ext Xh16
          refine mx_iload_n dX0_gives_5 rfl rfl ?_
          refine mx_iretK rfl dX0_gives_6 ?_
          exact mx_iret rfl dX0_result_70 H
theorem dX0_weigh_0 : decode mi_X0_weigh.2.1 0 = .ok (.aload_n 0, 1) := by decide +kernel
theorem dX0_weigh_1 : decode mi_X0_weigh.2.1 1 = .ok (.aload_n 0, 1) := by decide +kernel
theorem dX0_weigh_2 : decode mi_X0_weigh.2.1 2 = .ok (.iload_n 1, 1) := by decide +kernel
theorem dX0_weigh_3 : decode mi_X0_weigh.2.1 3 = .ok (.invokevirtual 331, 3) := by decide +kernel
theorem dX0_weigh_6 : decode mi_X0_weigh.2.1 6 = .ok (.putfield 335, 3) := by decide +kernel
theorem dX0_weigh_9 : decode mi_X0_weigh.2.1 9 = .ok (.iconst 0, 1) := by decide +kernel
theorem dX0_weigh_10 : decode mi_X0_weigh.2.1 10 = .ok (.istore_n 2, 1) := by decide +kernel
theorem dX0_weigh_11 : decode mi_X0_weigh.2.1 11 = .ok (.iload_n 2, 1) := by decide +kernel
theorem dX0_weigh_12 : decode mi_X0_weigh.2.1 12 = .ok (.aload_n 0, 1) := by decide +kernel
theorem dX0_weigh_13 : decode mi_X0_weigh.2.1 13 = .ok (.getfield 230, 3) := by decide +kernel
theorem dX0_weigh_16 : decode mi_X0_weigh.2.1 16 = .ok (.if_icmp .ge 87, 3) := by decide +kernel
theorem dX0_weigh_19 : decode mi_X0_weigh.2.1 19 = .ok (.aload_n 0, 1) := by decide +kernel
theorem dX0_weigh_20 : decode mi_X0_weigh.2.1 20 = .ok (.invokevirtual 339, 3) := by decide +kernel
theorem dX0_weigh_23 : decode mi_X0_weigh.2.1 23 = .ok (.astore_n 3, 1) := by decide +kernel
theorem dX0_weigh_24 : decode mi_X0_weigh.2.1 24 = .ok (.aload_n 3, 1) := by decide +kernel
theorem dX0_weigh_25 : decode mi_X0_weigh.2.1 25 = .ok (.iconst 2, 1) := by decide +kernel
theorem dX0_weigh_26 : decode mi_X0_weigh.2.1 26 = .ok (.iload_n 1, 1) := by decide +kernel
theorem dX0_weigh_27 : decode mi_X0_weigh.2.1 27 = .ok (.i2l, 1) := by decide +kernel
theorem dX0_weigh_28 : decode mi_X0_weigh.2.1 28 = .ok (.lastore, 1) := by decide +kernel
theorem dX0_weigh_29 : decode mi_X0_weigh.2.1 29 = .ok (.aload_n 3, 1) := by decide +kernel
theorem dX0_weigh_30 : decode mi_X0_weigh.2.1 30 = .ok (.iconst 3, 1) := by decide +kernel
theorem dX0_weigh_31 : decode mi_X0_weigh.2.1 31 = .ok (.iload_n 1, 1) := by decide +kernel
theorem dX0_weigh_32 : decode mi_X0_weigh.2.1 32 = .ok (.bipush 52, 2) := by decide +kernel
theorem dX0_weigh_34 : decode mi_X0_weigh.2.1 34 = .ok (.idiv, 1) := by decide +kernel
theorem dX0_weigh_35 : decode mi_X0_weigh.2.1 35 = .ok (.i2l, 1) := by decide +kernel
theorem dX0_weigh_36 : decode mi_X0_weigh.2.1 36 = .ok (.lastore, 1) := by decide +kernel
theorem dX0_weigh_37 : decode mi_X0_weigh.2.1 37 = .ok (.aload_n 3, 1) := by decide +kernel
theorem dX0_weigh_38 : decode mi_X0_weigh.2.1 38 = .ok (.iconst 5, 1) := by decide +kernel
theorem dX0_weigh_39 : decode mi_X0_weigh.2.1 39 = .ok (.aload_n 0, 1) := by decide +kernel
theorem dX0_weigh_40 : decode mi_X0_weigh.2.1 40 = .ok (.getfield 17, 3) := by decide +kernel
theorem dX0_weigh_43 : decode mi_X0_weigh.2.1 43 = .ok (.iload_n 2, 1) := by decide +kernel
theorem dX0_weigh_44 : decode mi_X0_weigh.2.1 44 = .ok (.aaload, 1) := by decide +kernel
theorem dX0_weigh_45 : decode mi_X0_weigh.2.1 45 = .ok (.getfield 543, 3) := by decide +kernel
theorem dX0_weigh_48 : decode mi_X0_weigh.2.1 48 = .ok (.i2l, 1) := by decide +kernel
theorem dX0_weigh_49 : decode mi_X0_weigh.2.1 49 = .ok (.lastore, 1) := by decide +kernel
theorem dX0_weigh_50 : decode mi_X0_weigh.2.1 50 = .ok (.aload_n 3, 1) := by decide +kernel
theorem dX0_weigh_51 : decode mi_X0_weigh.2.1 51 = .ok (.bipush 6, 2) := by decide +kernel
theorem dX0_weigh_53 : decode mi_X0_weigh.2.1 53 = .ok (.aload_n 0, 1) := by decide +kernel
theorem dX0_weigh_54 : decode mi_X0_weigh.2.1 54 = .ok (.getfield 17, 3) := by decide +kernel
theorem dX0_weigh_57 : decode mi_X0_weigh.2.1 57 = .ok (.iload_n 2, 1) := by decide +kernel
theorem dX0_weigh_58 : decode mi_X0_weigh.2.1 58 = .ok (.aaload, 1) := by decide +kernel
theorem dX0_weigh_59 : decode mi_X0_weigh.2.1 59 = .ok (.getfield 546, 3) := by decide +kernel
theorem dX0_weigh_62 : decode mi_X0_weigh.2.1 62 = .ok (.i2l, 1) := by decide +kernel
theorem dX0_weigh_63 : decode mi_X0_weigh.2.1 63 = .ok (.lastore, 1) := by decide +kernel
theorem dX0_weigh_64 : decode mi_X0_weigh.2.1 64 = .ok (.aload_n 3, 1) := by decide +kernel
theorem dX0_weigh_65 : decode mi_X0_weigh.2.1 65 = .ok (.bipush 7, 2) := by decide +kernel
theorem dX0_weigh_67 : decode mi_X0_weigh.2.1 67 = .ok (.aload_n 0, 1) := by decide +kernel
theorem dX0_weigh_68 : decode mi_X0_weigh.2.1 68 = .ok (.getfield 17, 3) := by decide +kernel
theorem dX0_weigh_71 : decode mi_X0_weigh.2.1 71 = .ok (.iload_n 2, 1) := by decide +kernel
theorem dX0_weigh_72 : decode mi_X0_weigh.2.1 72 = .ok (.aaload, 1) := by decide +kernel
theorem dX0_weigh_73 : decode mi_X0_weigh.2.1 73 = .ok (.getfield 354, 3) := by decide +kernel
theorem dX0_weigh_76 : decode mi_X0_weigh.2.1 76 = .ok (.i2l, 1) := by decide +kernel
theorem dX0_weigh_77 : decode mi_X0_weigh.2.1 77 = .ok (.lastore, 1) := by decide +kernel
theorem dX0_weigh_78 : decode mi_X0_weigh.2.1 78 = .ok (.aload_n 0, 1) := by decide +kernel
theorem dX0_weigh_79 : decode mi_X0_weigh.2.1 79 = .ok (.getfield 136, 3) := by decide +kernel
theorem dX0_weigh_82 : decode mi_X0_weigh.2.1 82 = .ok (.iload_n 2, 1) := by decide +kernel
theorem dX0_weigh_83 : decode mi_X0_weigh.2.1 83 = .ok (.aload_n 0, 1) := by decide +kernel
theorem dX0_weigh_84 : decode mi_X0_weigh.2.1 84 = .ok (.ldc2_w 567, 3) := by decide +kernel
theorem dX0_weigh_87 : decode mi_X0_weigh.2.1 87 = .ok (.lconst 1, 1) := by decide +kernel
theorem dX0_weigh_88 : decode mi_X0_weigh.2.1 88 = .ok (.lconst 0, 1) := by decide +kernel
theorem dX0_weigh_89 : decode mi_X0_weigh.2.1 89 = .ok (.ldc2_w 283, 3) := by decide +kernel
theorem dX0_weigh_92 : decode mi_X0_weigh.2.1 92 = .ok (.invokevirtual 361, 3) := by decide +kernel
theorem dX0_weigh_95 : decode mi_X0_weigh.2.1 95 = .ok (.l2i, 1) := by decide +kernel
theorem dX0_weigh_96 : decode mi_X0_weigh.2.1 96 = .ok (.iastore, 1) := by decide +kernel
theorem dX0_weigh_97 : decode mi_X0_weigh.2.1 97 = .ok (.iinc 2 1, 3) := by decide +kernel
theorem dX0_weigh_100 : decode mi_X0_weigh.2.1 100 = .ok (.goto (-89), 3) := by decide +kernel
theorem dX0_weigh_103 : decode mi_X0_weigh.2.1 103 = .ok (.return_, 1) := by decide +kernel
theorem v_X0_weigh {G : ma_G} {d : Nat} {a0 : Nat} {x1 : Int32} {h : ah_T} {Q : Option ma_V → ah_T → Prop} {E : Nat → ah_T → Prop} (La0_h : LY0 h a0) (H : MX G mi_X0_lawOf d 0 [some (rv a0), some (iv x1), none, none] [] h (Qr fun r2 h1 => ah_ext h h1 → ∀ h3 : ah_T, h3 = ah_wR h1 a0 23 r2 → ah_ext h1 h3 → MX G mi_X0_weigh (d + 1) 11 [some (rv a0), some (iv x1), some (iv (0 : Int32)), none] [] h3 Q E) E) : MX G mi_X0_weigh (d + 1) 0 [some (rv a0), some (iv x1), none, none] [] h Q E := by
  refine mx_aload_n dX0_weigh_0 rfl rfl ?_
  refine mx_aload_n dX0_weigh_1 rfl rfl ?_
  refine mx_iload_n dX0_weigh_2 rfl rfl ?_
  refine mx_callV 0 (y' := mi_X0_lawOf) (vs := [iv x1]) (st := [rv a0]) (al' := [some (rv a0), some (iv x1), none, none]) cl_0 V_X0_lawOf (Or.inl q994) dX0_weigh_3 rfl rfl (Nat.le_of_ble_eq_true rfl) (Nat.le_of_ble_eq_true rfl) (ly0_k La0_h) ?_
  refine ma_kr H (fun r2 h1 Xh1 H => ?_) (fun x1 h1 X1 H => mt_out rfl H)
  have H := H Xh1
  have La0_h1 := La0_h.ext Xh1
  refine mx_putO 0 23 (ref := "PrairiePool") cl_0 (Nat.le_of_ble_eq_true rfl) (Or.inl q483) (Or.inl rfl) dX0_weigh_6 (Or.inl rfl) rfl (Or.inl rfl) (ly0_k La0_h1) ?_
  refine mx_nmR (ah_ext.wR (Or.inl (by rw [(ly0_k La0_h1)]; rfl))) (fun h3 eh3 Xh3 Kh3 Lh3 => ?_)
  have H := H h3 eh3 Xh3
  have La0_h3 := La0_h1.ext Xh3
  refine mx_iconst dX0_weigh_9 ic_0 ?_
  refine mx_istore_n (al' := [some (rv a0), some (iv x1), some (iv (0 : Int32)), none]) dX0_weigh_10 rfl (Nat.le_of_ble_eq_true rfl) rfl ?_
  exact mx_weak (al' := [some (rv a0), some (iv x1), some (iv (0 : Int32)), none]) ⟨rfl, ⟨rfl, ⟨rfl, trivial⟩⟩⟩ H
theorem v_X0_weigh_11 {G : ma_G} {d : Nat} {a0 : Nat} {x1 : Int32} {x2 : Int32} {h : ah_T} {Q : Option ma_V → ah_T → Prop} {E : Nat → ah_T → Prop} (La0_h : LY0 h a0) (H : ((ah_I h a0 14) ≤ x2 → Q none h) ∧ (¬ (ah_I h a0 14) ≤ x2 → MX G mi_X0_clear d 0 [some (rv a0), none] [] h (Qr fun r3 h2 => ah_ext h h2 → aok h2 41 r3 (2 : Int32) ∧ ∀ h5 : ah_T, h5 = ah_wJ h2 r3 2 x1.toInt64 → ah_ext h2 h5 → aok h2 41 r3 (3 : Int32) ∧ ∀ h7 : ah_T, h7 = ah_wJ h5 r3 3 (x1 / (52 : Int32)).toInt64 → ah_ext h5 h7 → vp_in x2 20 ∧ ah_kd h2 (ah_R h2 (a0 + 2) x2.toNatClampNeg) = 10 ∧ aok h2 41 r3 (5 : Int32) ∧ ∀ h11 : ah_T, h11 = ah_wJ h7 r3 5 (ah_I h2 (ah_R h2 (a0 + 2) x2.toNatClampNeg) 2).toInt64 → ah_ext h7 h11 → aok h2 41 r3 (6 : Int32) ∧ ∀ h13 : ah_T, h13 = ah_wJ h11 r3 6 (ah_I h2 (ah_R h2 (a0 + 2) x2.toNatClampNeg) 3).toInt64 → ah_ext h11 h13 → aok h2 41 r3 (7 : Int32) ∧ ∀ h15 : ah_T, h15 = ah_wJ h13 r3 7 (ah_I h2 (ah_R h2 (a0 + 2) x2.toNatClampNeg) 1).toInt64 → ah_ext h13 h15 → MX G mi_X0_asks d 0 [some (rv a0), some (jv (508676040051 : Int64)), none, some (jv (1 : Int64)), none, some (jv (0 : Int64)), none, some (jv (1000 : Int64)), none, none] [] h15 (Ql fun r17 h16 => ah_ext h15 h16 → ∀ h25 : ah_T, h25 = ah_wI h16 (a0 + 1449) x2.toNatClampNeg r17.toInt32 → ah_ext h16 h25 → MX G mi_X0_weigh (d + 1) 11 [some (rv a0), some (iv x1), some (iv (x2 + (1 : Int32))), none] [] h25 Q E) E) E)) : MX G mi_X0_weigh (d + 1) 11 [some (rv a0), some (iv x1), some (iv x2), none] [] h Q E := by
  refine mx_iload_n dX0_weigh_11 rfl rfl ?_
  refine mx_aload_n dX0_weigh_12 rfl rfl ?_
  refine mx_get 0 14 (ref := "PrairiePool") cl_0 (Nat.le_of_ble_eq_true rfl) (Or.inl q474) (Or.inl rfl) dX0_weigh_13 (fv_0_14 _ _) (ly0_k La0_h) ?_
  refine mx_icmp_ge (tgt := 103) dX0_weigh_16 rfl (fun c1 => ?_) (fun c1 => ?_)
  · have H := H.1 c1
    exact mx_vret rfl dX0_weigh_103 H
  · have H := H.2 c1
    refine mx_aload_n dX0_weigh_19 rfl rfl ?_
    refine mx_callV 0 (y' := mi_X0_clear) (vs := []) (st := []) (al' := [some (rv a0), none]) cl_0 V_X0_clear (Or.inl q998) dX0_weigh_20 rfl rfl (Nat.le_of_ble_eq_true rfl) (Nat.le_of_ble_eq_true rfl) (ly0_k La0_h) ?_
    refine ma_kr H (fun r3 h2 Xh2 H => ?_) (fun x1 h1 X1 H => mt_out rfl H)
    have H := H Xh2
    have La0_h2 := La0_h.ext Xh2
    refine mx_astore_n (al' := [some (rv a0), some (iv x1), some (iv x2), some (rv r3)]) dX0_weigh_23 rfl (Nat.le_of_ble_eq_true rfl) rfl ?_
    refine mx_aload_n dX0_weigh_24 rfl rfl ?_
    refine mx_iconst dX0_weigh_25 ic_2 ?_
    refine mx_iload_n dX0_weigh_26 rfl rfl ?_
    refine mx_i2l dX0_weigh_27 ?_
    obtain ⟨k4, H⟩ := H
    refine my_last dX0_weigh_28 cn_2 k4 ?_
    refine mx_nmJ  (fun h5 eh5 Xh5 Kh5 Lh5 => ?_)
    have H := H h5 eh5 Xh5
    have La0_h5 := La0_h2.ext Xh5
    refine mx_aload_n dX0_weigh_29 rfl rfl ?_
    refine mx_iconst dX0_weigh_30 ic_3 ?_
    refine mx_iload_n dX0_weigh_31 rfl rfl ?_
    refine mx_bipush dX0_weigh_32 ib_52 ?_
    refine mx_idiv dX0_weigh_34 (by decide) ?_
    refine mx_i2l dX0_weigh_35 ?_
    obtain ⟨k6, H⟩ := H
    refine my_last dX0_weigh_36 cn_3 (ma_aok Kh5 Lh5 (k6)) ?_
    refine mx_nmJ  (fun h7 eh7 Xh7 Kh7 Lh7 => ?_)
    have H := H h7 eh7 Xh7
    have Kh7 := Kh7.trans Kh5
    have Lh7 := Lh7.trans Lh5
    have La0_h7 := La0_h5.ext Xh7
    refine mx_aload_n dX0_weigh_37 rfl rfl ?_
    refine mx_iconst dX0_weigh_38 ic_5 ?_
    refine mx_aload_n dX0_weigh_39 rfl rfl ?_
    refine mx_get 0 1 (ref := "PrairiePool") cl_0 (Nat.le_of_ble_eq_true rfl) (Or.inl q461) (Or.inl rfl) dX0_weigh_40 (fv_0_1 _ _) (ly0_k La0_h7) ?_
    refine mx_tr (ly0_R_0_1 La0_h7) ?_
    refine mx_iload_n dX0_weigh_43 rfl rfl ?_
    obtain ⟨k8, H⟩ := H
    refine my_aald 6 dX0_weigh_44 (by decide) rfl (ly0_A_2 La0_h7 k8) ?_
    refine mx_tr ((ah_RJ eh7).trans (ah_RJ eh5)) ?_
    obtain ⟨k9, H⟩ := H
    refine mx_get 9 2 (ref := "PrairiePool$Farm") cl_9 (Nat.le_of_ble_eq_true rfl) (Or.inl q773) (Or.inl rfl) dX0_weigh_45 (fv_9_2 _ _) (ma_kde Kh7 (k9)) ?_
    refine mx_ti ((ah_IJ eh7).trans (ah_IJ eh5)) ?_
    refine mx_i2l dX0_weigh_48 ?_
    obtain ⟨k10, H⟩ := H
    refine my_last dX0_weigh_49 cn_5 (ma_aok Kh7 Lh7 (k10)) ?_
    refine mx_nmJ  (fun h11 eh11 Xh11 Kh11 Lh11 => ?_)
    have H := H h11 eh11 Xh11
    have Kh11 := Kh11.trans Kh7
    have Lh11 := Lh11.trans Lh7
    have La0_h11 := La0_h7.ext Xh11
    refine mx_aload_n dX0_weigh_50 rfl rfl ?_
    refine mx_bipush dX0_weigh_51 ib_6 ?_
    refine mx_aload_n dX0_weigh_53 rfl rfl ?_
    refine mx_get 0 1 (ref := "PrairiePool") cl_0 (Nat.le_of_ble_eq_true rfl) (Or.inl q461) (Or.inl rfl) dX0_weigh_54 (fv_0_1 _ _) (ly0_k La0_h11) ?_
    refine mx_tr (ly0_R_0_1 La0_h11) ?_
    refine mx_iload_n dX0_weigh_57 rfl rfl ?_
    refine my_aald 6 dX0_weigh_58 (by decide) rfl (ly0_A_2 La0_h11 k8) ?_
    refine mx_tr (((ah_RJ eh11).trans (ah_RJ eh7)).trans (ah_RJ eh5)) ?_
    refine mx_get 9 3 (ref := "PrairiePool$Farm") cl_9 (Nat.le_of_ble_eq_true rfl) (Or.inl q775) (Or.inl rfl) dX0_weigh_59 (fv_9_3 _ _) (ma_kde Kh11 (k9)) ?_
    refine mx_ti (((ah_IJ eh11).trans (ah_IJ eh7)).trans (ah_IJ eh5)) ?_
    refine mx_i2l dX0_weigh_62 ?_
    obtain ⟨k12, H⟩ := H
    refine my_last dX0_weigh_63 cn_6 (ma_aok Kh11 Lh11 (k12)) ?_
    refine mx_nmJ  (fun h13 eh13 Xh13 Kh13 Lh13 => ?_)
    have H := H h13 eh13 Xh13
    have Kh13 := Kh13.trans Kh11
    have Lh13 := Lh13.trans Lh11
    have La0_h13 := La0_h11.ext Xh13
    refine mx_aload_n dX0_weigh_64 rfl rfl ?_
    refine mx_bipush dX0_weigh_65 ib_7 ?_
    refine mx_aload_n dX0_weigh_67 rfl rfl ?_
    refine mx_get 0 1 (ref := "PrairiePool") cl_0 (Nat.le_of_ble_eq_true rfl) (Or.inl q461) (Or.inl rfl) dX0_weigh_68 (fv_0_1 _ _) (ly0_k La0_h13) ?_
    refine mx_tr (ly0_R_0_1 La0_h13) ?_
    refine mx_iload_n dX0_weigh_71 rfl rfl ?_
    refine my_aald 6 dX0_weigh_72 (by decide) rfl (ly0_A_2 La0_h13 k8) ?_
    refine mx_tr ((((ah_RJ eh13).trans (ah_RJ eh11)).trans (ah_RJ eh7)).trans (ah_RJ eh5)) ?_
    refine mx_get 9 1 (ref := "PrairiePool$Farm") cl_9 (Nat.le_of_ble_eq_true rfl) (Or.inl q771) (Or.inl rfl) dX0_weigh_73 (fv_9_1 _ _) (ma_kde Kh13 (k9)) ?_
    refine mx_ti ((((ah_IJ eh13).trans (ah_IJ eh11)).trans (ah_IJ eh7)).trans (ah_IJ eh5)) ?_
    refine mx_i2l dX0_weigh_76 ?_
    obtain ⟨k14, H⟩ := H
    refine my_last dX0_weigh_77 cn_7 (ma_aok Kh13 Lh13 (k14)) ?_
    refine mx_nmJ  (fun h15 eh15 Xh15 Kh15 Lh15 => ?_)
    have H := H h15 eh15 Xh15
    have Kh15 := Kh15.trans Kh13
    have Lh15 := Lh15.trans Lh13
    have La0_h15 := La0_h13.ext Xh15
    refine mx_aload_n dX0_weigh_78 rfl rfl ?_
    refine mx_get 0 40 (ref := "PrairiePool") cl_0 (Nat.le_of_ble_eq_true rfl) (Or.inl q500) (Or.inl rfl) dX0_weigh_79 (fv_0_40 _ _) (ly0_k La0_h15) ?_
    refine mx_tr (ly0_R_0_40 La0_h15) ?_
    refine mx_iload_n dX0_weigh_82 rfl rfl ?_
    refine mx_aload_n dX0_weigh_83 rfl rfl ?_
    refine mx_ldc2 q1578 dX0_weigh_84 ?_
    refine mx_lconst dX0_weigh_87 lc_1 ?_
    refine mx_lconst dX0_weigh_88 lc_0 ?_
    refine mx_ldc2 q836 dX0_weigh_89 ?_
    refine mx_callV 0 (y' := mi_X0_asks) (vs := [jv (508676040051 : Int64), jv (1 : Int64), jv (0 : Int64), jv (1000 : Int64)]) (st := [iv x2, rv (a0 + 1449)]) (al' := [some (rv a0), some (jv (508676040051 : Int64)), none, some (jv (1 : Int64)), none, some (jv (0 : Int64)), none, some (jv (1000 : Int64)), none, none]) cl_0 V_X0_asks (Or.inl q1015) dX0_weigh_92 rfl rfl (Nat.le_of_ble_eq_true rfl) (Nat.le_of_ble_eq_true rfl) (ly0_k La0_h15) ?_
    refine ma_kl H (fun r17 h16 Xh16 H => ?_) (fun x1 h1 X1 H => mt_out rfl H)
    have H := H Xh16
    have k18 := ma_aokx Xh16 ((ma_aok Kh15 Lh15 (k4)))
    have k19 := Xh16.kd ((ma_kde Kh15 (k4.1)))
    have k20 := ma_aokx Xh16 ((ma_aok Kh15 Lh15 (k6)))
    have k21 := Xh16.kd ((ma_kde Kh15 (k9)))
    have k22 := ma_aokx Xh16 ((ma_aok Kh15 Lh15 (k10)))
    have k23 := ma_aokx Xh16 ((ma_aok Kh15 Lh15 (k12)))
    have k24 := ma_aokx Xh16 ((ma_aok Kh15 Lh15 (k14)))
    have La0_h16 := La0_h15.ext Xh16
    refine mx_l2i dX0_weigh_95 ?_
    refine my_iast dX0_weigh_96 rfl (ly0_A_1449 La0_h16 k8) ?_
    refine mx_nmI  (fun h25 eh25 Xh25 Kh25 Lh25 => ?_)
    have H := H h25 eh25 Xh25
    have La0_h25 := La0_h16.ext Xh25
    refine mx_iinc (al' := [some (rv a0), some (iv x1), some (iv (x2 + (1 : Int32))), some (rv r3)]) dX0_weigh_97 rfl ic_1 rfl ?_
    refine mx_goto (tgt := 11) dX0_weigh_100 rfl ?_
    exact mx_weak (al' := [some (rv a0), some (iv x1), some (iv (x2 + (1 : Int32))), none]) ⟨rfl, ⟨rfl, ⟨rfl, trivial⟩⟩⟩ H
theorem dX0_wholeFor_0 : decode mi_X0_wholeFor.2.1 0 = .ok (.iconst 0, 1) := by decide +kernel
theorem dX0_wholeFor_1 : decode mi_X0_wholeFor.2.1 1 = .ok (.istore_n 3, 1) := by decide +kernel
theorem dX0_wholeFor_2 : decode mi_X0_wholeFor.2.1 2 = .ok (.iload_n 3, 1) := by decide +kernel
theorem dX0_wholeFor_3 : decode mi_X0_wholeFor.2.1 3 = .ok (.bipush 6, 2) := by decide +kernel
theorem dX0_wholeFor_5 : decode mi_X0_wholeFor.2.1 5 = .ok (.if_icmp .ge 16, 3) := by decide +kernel
theorem dX0_wholeFor_8 : decode mi_X0_wholeFor.2.1 8 = .ok (.aload_n 0, 1) := by decide +kernel
theorem dX0_wholeFor_9 : decode mi_X0_wholeFor.2.1 9 = .ok (.getfield 139, 3) := by decide +kernel
theorem dX0_wholeFor_12 : decode mi_X0_wholeFor.2.1 12 = .ok (.iload_n 3, 1) := by decide +kernel
theorem dX0_wholeFor_13 : decode mi_X0_wholeFor.2.1 13 = .ok (.iconst 0, 1) := by decide +kernel
theorem dX0_wholeFor_14 : decode mi_X0_wholeFor.2.1 14 = .ok (.iastore, 1) := by decide +kernel
theorem dX0_wholeFor_15 : decode mi_X0_wholeFor.2.1 15 = .ok (.iinc 3 1, 3) := by decide +kernel
theorem dX0_wholeFor_18 : decode mi_X0_wholeFor.2.1 18 = .ok (.goto (-16), 3) := by decide +kernel
theorem dX0_wholeFor_21 : decode mi_X0_wholeFor.2.1 21 = .ok (.iconst 0, 1) := by decide +kernel
theorem dX0_wholeFor_22 : decode mi_X0_wholeFor.2.1 22 = .ok (.istore_n 3, 1) := by decide +kernel
theorem dX0_wholeFor_23 : decode mi_X0_wholeFor.2.1 23 = .ok (.iload_n 3, 1) := by decide +kernel
theorem dX0_wholeFor_24 : decode mi_X0_wholeFor.2.1 24 = .ok (.aload_n 0, 1) := by decide +kernel
theorem dX0_wholeFor_25 : decode mi_X0_wholeFor.2.1 25 = .ok (.getfield 230, 3) := by decide +kernel
theorem dX0_wholeFor_28 : decode mi_X0_wholeFor.2.1 28 = .ok (.if_icmp .ge 94, 3) := by decide +kernel
theorem dX0_wholeFor_31 : decode mi_X0_wholeFor.2.1 31 = .ok (.aload_n 0, 1) := by decide +kernel
theorem dX0_wholeFor_32 : decode mi_X0_wholeFor.2.1 32 = .ok (.getfield 17, 3) := by decide +kernel
theorem dX0_wholeFor_35 : decode mi_X0_wholeFor.2.1 35 = .ok (.iload_n 3, 1) := by decide +kernel
theorem dX0_wholeFor_36 : decode mi_X0_wholeFor.2.1 36 = .ok (.aaload, 1) := by decide +kernel
theorem dX0_wholeFor_37 : decode mi_X0_wholeFor.2.1 37 = .ok (.getfield 564, 3) := by decide +kernel
theorem dX0_wholeFor_40 : decode mi_X0_wholeFor.2.1 40 = .ok (.iconst (-1), 1) := by decide +kernel
theorem dX0_wholeFor_41 : decode mi_X0_wholeFor.2.1 41 = .ok (.if_icmp .ne 16, 3) := by decide +kernel
theorem dX0_wholeFor_44 : decode mi_X0_wholeFor.2.1 44 = .ok (.iload_n 1, 1) := by decide +kernel
theorem dX0_wholeFor_45 : decode mi_X0_wholeFor.2.1 45 = .ok (.iload_n 3, 1) := by decide +kernel
theorem dX0_wholeFor_46 : decode mi_X0_wholeFor.2.1 46 = .ok (.ishr, 1) := by decide +kernel
theorem dX0_wholeFor_47 : decode mi_X0_wholeFor.2.1 47 = .ok (.iconst 1, 1) := by decide +kernel
theorem dX0_wholeFor_48 : decode mi_X0_wholeFor.2.1 48 = .ok (.iand, 1) := by decide +kernel
theorem dX0_wholeFor_49 : decode mi_X0_wholeFor.2.1 49 = .ok (.iconst 1, 1) := by decide +kernel
theorem dX0_wholeFor_50 : decode mi_X0_wholeFor.2.1 50 = .ok (.if_icmp .ne 7, 3) := by decide +kernel
theorem dX0_wholeFor_53 : decode mi_X0_wholeFor.2.1 53 = .ok (.iload_n 2, 1) := by decide +kernel
theorem dX0_wholeFor_54 : decode mi_X0_wholeFor.2.1 54 = .ok (.goto 12, 3) := by decide +kernel
theorem dX0_wholeFor_57 : decode mi_X0_wholeFor.2.1 57 = .ok (.aload_n 0, 1) := by decide +kernel
theorem dX0_wholeFor_58 : decode mi_X0_wholeFor.2.1 58 = .ok (.getfield 17, 3) := by decide +kernel
theorem dX0_wholeFor_61 : decode mi_X0_wholeFor.2.1 61 = .ok (.iload_n 3, 1) := by decide +kernel
theorem dX0_wholeFor_62 : decode mi_X0_wholeFor.2.1 62 = .ok (.aaload, 1) := by decide +kernel
theorem dX0_wholeFor_63 : decode mi_X0_wholeFor.2.1 63 = .ok (.getfield 564, 3) := by decide +kernel
theorem dX0_wholeFor_66 : decode mi_X0_wholeFor.2.1 66 = .ok (.istore 4, 2) := by decide +kernel
theorem dX0_wholeFor_68 : decode mi_X0_wholeFor.2.1 68 = .ok (.aload_n 0, 1) := by decide +kernel
theorem dX0_wholeFor_69 : decode mi_X0_wholeFor.2.1 69 = .ok (.getfield 139, 3) := by decide +kernel
theorem dX0_wholeFor_72 : decode mi_X0_wholeFor.2.1 72 = .ok (.aload_n 0, 1) := by decide +kernel
theorem dX0_wholeFor_73 : decode mi_X0_wholeFor.2.1 73 = .ok (.getfield 17, 3) := by decide +kernel
theorem dX0_wholeFor_76 : decode mi_X0_wholeFor.2.1 76 = .ok (.iload_n 3, 1) := by decide +kernel
theorem dX0_wholeFor_77 : decode mi_X0_wholeFor.2.1 77 = .ok (.aaload, 1) := by decide +kernel
theorem dX0_wholeFor_78 : decode mi_X0_wholeFor.2.1 78 = .ok (.getfield 354, 3) := by decide +kernel
theorem dX0_wholeFor_81 : decode mi_X0_wholeFor.2.1 81 = .ok (.dup2, 1) := by decide +kernel
theorem dX0_wholeFor_82 : decode mi_X0_wholeFor.2.1 82 = .ok (.iaload, 1) := by decide +kernel
theorem dX0_wholeFor_83 : decode mi_X0_wholeFor.2.1 83 = .ok (.iload 4, 2) := by decide +kernel
theorem dX0_wholeFor_85 : decode mi_X0_wholeFor.2.1 85 = .ok (.iconst 1, 1) := by decide +kernel
theorem dX0_wholeFor_86 : decode mi_X0_wholeFor.2.1 86 = .ok (.if_icmp .ne 12, 3) := by decide +kernel
theorem dX0_wholeFor_89 : decode mi_X0_wholeFor.2.1 89 = .ok (.aload_n 0, 1) := by decide +kernel
theorem dX0_wholeFor_90 : decode mi_X0_wholeFor.2.1 90 = .ok (.getfield 136, 3) := by decide +kernel
theorem dX0_wholeFor_93 : decode mi_X0_wholeFor.2.1 93 = .ok (.iload_n 3, 1) := by decide +kernel
theorem dX0_wholeFor_94 : decode mi_X0_wholeFor.2.1 94 = .ok (.iaload, 1) := by decide +kernel
theorem dX0_wholeFor_95 : decode mi_X0_wholeFor.2.1 95 = .ok (.goto 19, 3) := by decide +kernel
theorem dX0_wholeFor_98 : decode mi_X0_wholeFor.2.1 98 = .ok (.iload 4, 2) := by decide +kernel
theorem dX0_wholeFor_100 : decode mi_X0_wholeFor.2.1 100 = .ok (.ifCond .ne 13, 3) := by decide +kernel
theorem dX0_wholeFor_103 : decode mi_X0_wholeFor.2.1 103 = .ok (.aload_n 0, 1) := by decide +kernel
theorem dX0_wholeFor_104 : decode mi_X0_wholeFor.2.1 104 = .ok (.getfield 136, 3) := by decide +kernel
theorem dX0_wholeFor_107 : decode mi_X0_wholeFor.2.1 107 = .ok (.iload_n 3, 1) := by decide +kernel
theorem dX0_wholeFor_108 : decode mi_X0_wholeFor.2.1 108 = .ok (.iaload, 1) := by decide +kernel
theorem dX0_wholeFor_109 : decode mi_X0_wholeFor.2.1 109 = .ok (.ineg, 1) := by decide +kernel
theorem dX0_wholeFor_110 : decode mi_X0_wholeFor.2.1 110 = .ok (.goto 4, 3) := by decide +kernel
theorem dX0_wholeFor_113 : decode mi_X0_wholeFor.2.1 113 = .ok (.iconst 0, 1) := by decide +kernel
theorem dX0_wholeFor_114 : decode mi_X0_wholeFor.2.1 114 = .ok (.iadd, 1) := by decide +kernel
theorem dX0_wholeFor_115 : decode mi_X0_wholeFor.2.1 115 = .ok (.iastore, 1) := by decide +kernel
theorem dX0_wholeFor_116 : decode mi_X0_wholeFor.2.1 116 = .ok (.iinc 3 1, 3) := by decide +kernel
theorem dX0_wholeFor_119 : decode mi_X0_wholeFor.2.1 119 = .ok (.goto (-96), 3) := by decide +kernel
theorem dX0_wholeFor_122 : decode mi_X0_wholeFor.2.1 122 = .ok (.iconst 0, 1) := by decide +kernel
theorem dX0_wholeFor_123 : decode mi_X0_wholeFor.2.1 123 = .ok (.istore_n 3, 1) := by decide +kernel
theorem dX0_wholeFor_124 : decode mi_X0_wholeFor.2.1 124 = .ok (.iconst 0, 1) := by decide +kernel
theorem dX0_wholeFor_125 : decode mi_X0_wholeFor.2.1 125 = .ok (.istore 4, 2) := by decide +kernel
theorem dX0_wholeFor_127 : decode mi_X0_wholeFor.2.1 127 = .ok (.iload 4, 2) := by decide +kernel
theorem dX0_wholeFor_129 : decode mi_X0_wholeFor.2.1 129 = .ok (.bipush 6, 2) := by decide +kernel
theorem dX0_wholeFor_131 : decode mi_X0_wholeFor.2.1 131 = .ok (.if_icmp .ge 41, 3) := by decide +kernel
theorem dX0_wholeFor_134 : decode mi_X0_wholeFor.2.1 134 = .ok (.iload_n 3, 1) := by decide +kernel
theorem dX0_wholeFor_135 : decode mi_X0_wholeFor.2.1 135 = .ok (.aload_n 0, 1) := by decide +kernel
theorem dX0_wholeFor_136 : decode mi_X0_wholeFor.2.1 136 = .ok (.getfield 139, 3) := by decide +kernel
theorem dX0_wholeFor_139 : decode mi_X0_wholeFor.2.1 139 = .ok (.iload 4, 2) := by decide +kernel
theorem dX0_wholeFor_141 : decode mi_X0_wholeFor.2.1 141 = .ok (.iaload, 1) := by decide +kernel
theorem dX0_wholeFor_142 : decode mi_X0_wholeFor.2.1 142 = .ok (.ifCond .le 7, 3) := by decide +kernel
theorem dX0_wholeFor_145 : decode mi_X0_wholeFor.2.1 145 = .ok (.iconst 1, 1) := by decide +kernel
theorem dX0_wholeFor_146 : decode mi_X0_wholeFor.2.1 146 = .ok (.goto 18, 3) := by decide +kernel
theorem dX0_wholeFor_149 : decode mi_X0_wholeFor.2.1 149 = .ok (.aload_n 0, 1) := by decide +kernel
theorem dX0_wholeFor_150 : decode mi_X0_wholeFor.2.1 150 = .ok (.getfield 139, 3) := by decide +kernel
theorem dX0_wholeFor_153 : decode mi_X0_wholeFor.2.1 153 = .ok (.iload 4, 2) := by decide +kernel
theorem dX0_wholeFor_155 : decode mi_X0_wholeFor.2.1 155 = .ok (.iaload, 1) := by decide +kernel
theorem dX0_wholeFor_156 : decode mi_X0_wholeFor.2.1 156 = .ok (.ifCond .ge 7, 3) := by decide +kernel
theorem dX0_wholeFor_159 : decode mi_X0_wholeFor.2.1 159 = .ok (.iconst (-1), 1) := by decide +kernel
theorem dX0_wholeFor_160 : decode mi_X0_wholeFor.2.1 160 = .ok (.goto 4, 3) := by decide +kernel
theorem dX0_wholeFor_163 : decode mi_X0_wholeFor.2.1 163 = .ok (.iconst 0, 1) := by decide +kernel
theorem dX0_wholeFor_164 : decode mi_X0_wholeFor.2.1 164 = .ok (.iadd, 1) := by decide +kernel
theorem dX0_wholeFor_165 : decode mi_X0_wholeFor.2.1 165 = .ok (.istore_n 3, 1) := by decide +kernel
theorem dX0_wholeFor_166 : decode mi_X0_wholeFor.2.1 166 = .ok (.iinc 4 1, 3) := by decide +kernel
theorem dX0_wholeFor_169 : decode mi_X0_wholeFor.2.1 169 = .ok (.goto (-42), 3) := by decide +kernel
theorem dX0_wholeFor_172 : decode mi_X0_wholeFor.2.1 172 = .ok (.iload_n 3, 1) := by decide +kernel
theorem dX0_wholeFor_173 : decode mi_X0_wholeFor.2.1 173 = .ok (.ireturn, 1) := by decide +kernel
theorem v_X0_wholeFor {G : ma_G} {d : Nat} {a0 : Nat} {x1 : Int32} {x2 : Int32} {h : ah_T} {Q : Option ma_V → ah_T → Prop} {E : Nat → ah_T → Prop} (La0_h : LY0 h a0) (H : MX G mi_X0_wholeFor d 2 [some (rv a0), some (iv x1), some (iv x2), some (iv (0 : Int32)), none] [] h Q E) : MX G mi_X0_wholeFor d 0 [some (rv a0), some (iv x1), some (iv x2), none, none] [] h Q E := by
  refine mx_iconst dX0_wholeFor_0 ic_0 ?_
  refine mx_istore_n (al' := [some (rv a0), some (iv x1), some (iv x2), some (iv (0 : Int32)), none]) dX0_wholeFor_1 rfl (Nat.le_of_ble_eq_true rfl) rfl ?_
  exact mx_weak (al' := [some (rv a0), some (iv x1), some (iv x2), some (iv (0 : Int32)), none]) ⟨rfl, ⟨rfl, ⟨rfl, ⟨rfl, trivial⟩⟩⟩⟩ H
theorem v_X0_wholeFor_2 {G : ma_G} {d : Nat} {a0 : Nat} {x1 : Int32} {x2 : Int32} {x3 : Int32} {h : ah_T} {Q : Option ma_V → ah_T → Prop} {E : Nat → ah_T → Prop} (La0_h : LY0 h a0) (H : ((6 : Int32) ≤ x3 → MX G mi_X0_wholeFor d 23 [some (rv a0), some (iv x1), some (iv x2), some (iv (0 : Int32)), none] [] h Q E) ∧ (¬ (6 : Int32) ≤ x3 → vp_in x3 6 ∧ ∀ h3 : ah_T, h3 = ah_wI h (a0 + 1450) x3.toNatClampNeg (0 : Int32) → ah_ext h h3 → MX G mi_X0_wholeFor d 2 [some (rv a0), some (iv x1), some (iv x2), some (iv (x3 + (1 : Int32))), none] [] h3 Q E)) : MX G mi_X0_wholeFor d 2 [some (rv a0), some (iv x1), some (iv x2), some (iv x3), none] [] h Q E := by
  refine mx_iload_n dX0_wholeFor_2 rfl rfl ?_
  refine mx_bipush dX0_wholeFor_3 ib_6 ?_
  refine mx_icmp_ge (tgt := 21) dX0_wholeFor_5 rfl (fun c1 => ?_) (fun c1 => ?_)
  · have H := H.1 c1
    refine mx_iconst dX0_wholeFor_21 ic_0 ?_
    refine mx_istore_n (al' := [some (rv a0), some (iv x1), some (iv x2), some (iv (0 : Int32)), none]) dX0_wholeFor_22 rfl (Nat.le_of_ble_eq_true rfl) rfl ?_
    exact mx_weak (al' := [some (rv a0), some (iv x1), some (iv x2), some (iv (0 : Int32)), none]) ⟨rfl, ⟨rfl, ⟨rfl, ⟨rfl, trivial⟩⟩⟩⟩ H
  · have H := H.2 c1
    refine mx_aload_n dX0_wholeFor_8 rfl rfl ?_
    refine mx_get 0 41 (ref := "PrairiePool") cl_0 (Nat.le_of_ble_eq_true rfl) (Or.inl q501) (Or.inl rfl) dX0_wholeFor_9 (fv_0_41 _ _) (ly0_k La0_h) ?_
    refine mx_tr (ly0_R_0_41 La0_h) ?_
    refine mx_iload_n dX0_wholeFor_12 rfl rfl ?_
    refine mx_iconst dX0_wholeFor_13 ic_0 ?_
    obtain ⟨k2, H⟩ := H
    refine my_iast dX0_wholeFor_14 rfl (ly0_A_1450 La0_h k2) ?_
    refine mx_nmI  (fun h3 eh3 Xh3 Kh3 Lh3 => ?_)
    have H := H h3 eh3 Xh3
    have La0_h3 := La0_h.ext Xh3
    refine mx_iinc (al' := [some (rv a0), some (iv x1), some (iv x2), some (iv (x3 + (1 : Int32))), none]) dX0_wholeFor_15 rfl ic_1 rfl ?_
    refine mx_goto (tgt := 2) dX0_wholeFor_18 rfl ?_
    exact mx_weak (al' := [some (rv a0), some (iv x1), some (iv x2), some (iv (x3 + (1 : Int32))), none]) ⟨rfl, ⟨rfl, ⟨rfl, ⟨rfl, trivial⟩⟩⟩⟩ H
theorem v_X0_wholeFor_23 {G : ma_G} {d : Nat} {a0 : Nat} {x1 : Int32} {x2 : Int32} {x3 : Int32} {h : ah_T} {Q : Option ma_V → ah_T → Prop} {E : Nat → ah_T → Prop} (La0_h : LY0 h a0) (H : ((ah_I h a0 14) ≤ x3 → MX G mi_X0_wholeFor d 127 [some (rv a0), none, none, some (iv (0 : Int32)), some (iv (0 : Int32))] [] h Q E) ∧ (¬ (ah_I h a0 14) ≤ x3 → vp_in x3 20 ∧ ah_kd h (ah_R h (a0 + 2) x3.toNatClampNeg) = 10 ∧ (¬ (ah_I h (ah_R h (a0 + 2) x3.toNatClampNeg) 6) = (-1 : Int32) → MX G mi_X0_wholeFor d 66 [some (rv a0), some (iv x1), some (iv x2), some (iv x3), none] [iv (ah_I h (ah_R h (a0 + 2) x3.toNatClampNeg) 6)] h Q E) ∧ ((ah_I h (ah_R h (a0 + 2) x3.toNatClampNeg) 6) = (-1 : Int32) → (¬ ((x1 >>> (x3 &&& 31)) &&& (1 : Int32)) = (1 : Int32) → MX G mi_X0_wholeFor d 66 [some (rv a0), some (iv x1), some (iv x2), some (iv x3), none] [iv (ah_I h (ah_R h (a0 + 2) x3.toNatClampNeg) 6)] h Q E) ∧ (((x1 >>> (x3 &&& 31)) &&& (1 : Int32)) = (1 : Int32) → MX G mi_X0_wholeFor d 66 [some (rv a0), some (iv x1), some (iv x2), some (iv x3), none] [iv x2] h Q E)))) : MX G mi_X0_wholeFor d 23 [some (rv a0), some (iv x1), some (iv x2), some (iv x3), none] [] h Q E := by
  refine mx_iload_n dX0_wholeFor_23 rfl rfl ?_
  refine mx_aload_n dX0_wholeFor_24 rfl rfl ?_
  refine mx_get 0 14 (ref := "PrairiePool") cl_0 (Nat.le_of_ble_eq_true rfl) (Or.inl q474) (Or.inl rfl) dX0_wholeFor_25 (fv_0_14 _ _) (ly0_k La0_h) ?_
  refine mx_icmp_ge (tgt := 122) dX0_wholeFor_28 rfl (fun c1 => ?_) (fun c1 => ?_)
  · have H := H.1 c1
    refine mx_iconst dX0_wholeFor_122 ic_0 ?_
    refine mx_istore_n (al' := [some (rv a0), some (iv x1), some (iv x2), some (iv (0 : Int32)), none]) dX0_wholeFor_123 rfl (Nat.le_of_ble_eq_true rfl) rfl ?_
    refine mx_iconst dX0_wholeFor_124 ic_0 ?_
    refine mx_istore (al' := [some (rv a0), some (iv x1), some (iv x2), some (iv (0 : Int32)), some (iv (0 : Int32))]) dX0_wholeFor_125 (Nat.le_of_ble_eq_true rfl) rfl ?_
    exact mx_weak (al' := [some (rv a0), none, none, some (iv (0 : Int32)), some (iv (0 : Int32))]) ⟨rfl, ⟨rfl, ⟨rfl, trivial⟩⟩⟩ H
  · have H := H.2 c1
    refine mx_aload_n dX0_wholeFor_31 rfl rfl ?_
    refine mx_get 0 1 (ref := "PrairiePool") cl_0 (Nat.le_of_ble_eq_true rfl) (Or.inl q461) (Or.inl rfl) dX0_wholeFor_32 (fv_0_1 _ _) (ly0_k La0_h) ?_
    refine mx_tr (ly0_R_0_1 La0_h) ?_
    refine mx_iload_n dX0_wholeFor_35 rfl rfl ?_
    obtain ⟨k2, H⟩ := H
    refine my_aald 6 dX0_wholeFor_36 (by decide) rfl (ly0_A_2 La0_h k2) ?_
    obtain ⟨k3, H⟩ := H
    refine mx_get 9 6 (ref := "PrairiePool$Farm") cl_9 (Nat.le_of_ble_eq_true rfl) (Or.inr ⟨_, q781⟩) (Or.inl rfl) dX0_wholeFor_37 (fv_9_6 _ _) k3 ?_
    refine mx_iconst dX0_wholeFor_40 ic_m1 ?_
    refine mx_icmp_ne (tgt := 57) dX0_wholeFor_41 rfl (fun c4 => ?_) (fun c4 => ?_)
    · have H := H.1 c4
      refine mx_aload_n dX0_wholeFor_57 rfl rfl ?_
      refine mx_get 0 1 (ref := "PrairiePool") cl_0 (Nat.le_of_ble_eq_true rfl) (Or.inl q461) (Or.inl rfl) dX0_wholeFor_58 (fv_0_1 _ _) (ly0_k La0_h) ?_
      refine mx_tr (ly0_R_0_1 La0_h) ?_
      refine mx_iload_n dX0_wholeFor_61 rfl rfl ?_
      refine my_aald 6 dX0_wholeFor_62 (by decide) rfl (ly0_A_2 La0_h k2) ?_
      refine mx_get 9 6 (ref := "PrairiePool$Farm") cl_9 (Nat.le_of_ble_eq_true rfl) (Or.inr ⟨_, q781⟩) (Or.inl rfl) dX0_wholeFor_63 (fv_9_6 _ _) k3 ?_
      exact mx_weak (al' := [some (rv a0), some (iv x1), some (iv x2), some (iv x3), none]) ⟨rfl, ⟨rfl, ⟨rfl, ⟨rfl, trivial⟩⟩⟩⟩ H
    · have H := H.2 c4
      refine mx_iload_n dX0_wholeFor_44 rfl rfl ?_
      refine mx_iload_n dX0_wholeFor_45 rfl rfl ?_
      refine mx_ishr dX0_wholeFor_46 ?_
      refine mx_iconst dX0_wholeFor_47 ic_1 ?_
      refine mx_iand dX0_wholeFor_48 ?_
      refine mx_iconst dX0_wholeFor_49 ic_1 ?_
      refine mx_icmp_ne (tgt := 57) dX0_wholeFor_50 rfl (fun c5 => ?_) (fun c5 => ?_)
      · have H := H.1 c5
        refine mx_aload_n dX0_wholeFor_57 rfl rfl ?_
        refine mx_get 0 1 (ref := "PrairiePool") cl_0 (Nat.le_of_ble_eq_true rfl) (Or.inl q461) (Or.inl rfl) dX0_wholeFor_58 (fv_0_1 _ _) (ly0_k La0_h) ?_
        refine mx_tr (ly0_R_0_1 La0_h) ?_
        refine mx_iload_n dX0_wholeFor_61 rfl rfl ?_
        refine my_aald 6 dX0_wholeFor_62 (by decide) rfl (ly0_A_2 La0_h k2) ?_
        refine mx_get 9 6 (ref := "PrairiePool$Farm") cl_9 (Nat.le_of_ble_eq_true rfl) (Or.inr ⟨_, q781⟩) (Or.inl rfl) dX0_wholeFor_63 (fv_9_6 _ _) k3 ?_
        exact mx_weak (al' := [some (rv a0), some (iv x1), some (iv x2), some (iv x3), none]) ⟨rfl, ⟨rfl, ⟨rfl, ⟨rfl, trivial⟩⟩⟩⟩ H
      · have H := H.2 c5
        refine mx_iload_n dX0_wholeFor_53 rfl rfl ?_
        refine mx_goto (tgt := 66) dX0_wholeFor_54 rfl ?_
        exact mx_weak (al' := [some (rv a0), some (iv x1), some (iv x2), some (iv x3), none]) ⟨rfl, ⟨rfl, ⟨rfl, ⟨rfl, trivial⟩⟩⟩⟩ H
theorem v_X0_wholeFor_127 {G : ma_G} {d : Nat} {a0 : Nat} {x3 : Int32} {x4 : Int32} {h : ah_T} {Q : Option ma_V → ah_T → Prop} {E : Nat → ah_T → Prop} (La0_h : LY0 h a0) (H : ((6 : Int32) ≤ x4 → Q (some (iv x3)) h) ∧ (¬ (6 : Int32) ≤ x4 → vp_in x4 6 ∧ ((ah_I h (a0 + 1450) x4.toNatClampNeg) ≤ 0 → (0 ≤ (ah_I h (a0 + 1450) x4.toNatClampNeg) → MX G mi_X0_wholeFor d 127 [some (rv a0), none, none, some (iv (x3 + (0 : Int32))), some (iv (x4 + (1 : Int32)))] [] h Q E) ∧ (¬ 0 ≤ (ah_I h (a0 + 1450) x4.toNatClampNeg) → MX G mi_X0_wholeFor d 127 [some (rv a0), none, none, some (iv (x3 + (-1 : Int32))), some (iv (x4 + (1 : Int32)))] [] h Q E)) ∧ (¬ (ah_I h (a0 + 1450) x4.toNatClampNeg) ≤ 0 → MX G mi_X0_wholeFor d 127 [some (rv a0), none, none, some (iv (x3 + (1 : Int32))), some (iv (x4 + (1 : Int32)))] [] h Q E))) : MX G mi_X0_wholeFor d 127 [some (rv a0), none, none, some (iv x3), some (iv x4)] [] h Q E := by
  refine mx_iload dX0_wholeFor_127 rfl ?_
  refine mx_bipush dX0_wholeFor_129 ib_6 ?_
  refine mx_icmp_ge (tgt := 172) dX0_wholeFor_131 rfl (fun c1 => ?_) (fun c1 => ?_)
  · have H := H.1 c1
    refine mx_iload_n dX0_wholeFor_172 rfl rfl ?_
    exact mx_iret rfl dX0_wholeFor_173 H
  · have H := H.2 c1
    refine mx_iload_n dX0_wholeFor_134 rfl rfl ?_
    refine mx_aload_n dX0_wholeFor_135 rfl rfl ?_
    refine mx_get 0 41 (ref := "PrairiePool") cl_0 (Nat.le_of_ble_eq_true rfl) (Or.inl q501) (Or.inl rfl) dX0_wholeFor_136 (fv_0_41 _ _) (ly0_k La0_h) ?_
    refine mx_tr (ly0_R_0_41 La0_h) ?_
    refine mx_iload dX0_wholeFor_139 rfl ?_
    obtain ⟨k2, H⟩ := H
    refine my_iald dX0_wholeFor_141 rfl (ly0_A_1450 La0_h k2) ?_
    refine mx_if_le (tgt := 149) dX0_wholeFor_142 rfl (fun c3 => ?_) (fun c3 => ?_)
    · have H := H.1 c3
      refine mx_aload_n dX0_wholeFor_149 rfl rfl ?_
      refine mx_get 0 41 (ref := "PrairiePool") cl_0 (Nat.le_of_ble_eq_true rfl) (Or.inl q501) (Or.inl rfl) dX0_wholeFor_150 (fv_0_41 _ _) (ly0_k La0_h) ?_
      refine mx_tr (ly0_R_0_41 La0_h) ?_
      refine mx_iload dX0_wholeFor_153 rfl ?_
      refine my_iald dX0_wholeFor_155 rfl (ly0_A_1450 La0_h k2) ?_
      refine mx_if_ge (tgt := 163) dX0_wholeFor_156 rfl (fun c4 => ?_) (fun c4 => ?_)
      · have H := H.1 c4
        refine mx_iconst dX0_wholeFor_163 ic_0 ?_
        refine mx_iadd dX0_wholeFor_164 ?_
        refine mx_istore_n (al' := [some (rv a0), none, none, some (iv (x3 + (0 : Int32))), some (iv x4)]) dX0_wholeFor_165 rfl (Nat.le_of_ble_eq_true rfl) rfl ?_
        refine mx_iinc (al' := [some (rv a0), none, none, some (iv (x3 + (0 : Int32))), some (iv (x4 + (1 : Int32)))]) dX0_wholeFor_166 rfl ic_1 rfl ?_
        refine mx_goto (tgt := 127) dX0_wholeFor_169 rfl ?_
        exact mx_weak (al' := [some (rv a0), none, none, some (iv (x3 + (0 : Int32))), some (iv (x4 + (1 : Int32)))]) ⟨rfl, ⟨rfl, ⟨rfl, trivial⟩⟩⟩ H
      · have H := H.2 c4
        refine mx_iconst dX0_wholeFor_159 ic_m1 ?_
        refine mx_goto (tgt := 164) dX0_wholeFor_160 rfl ?_
        refine mx_iadd dX0_wholeFor_164 ?_
        refine mx_istore_n (al' := [some (rv a0), none, none, some (iv (x3 + (-1 : Int32))), some (iv x4)]) dX0_wholeFor_165 rfl (Nat.le_of_ble_eq_true rfl) rfl ?_
        refine mx_iinc (al' := [some (rv a0), none, none, some (iv (x3 + (-1 : Int32))), some (iv (x4 + (1 : Int32)))]) dX0_wholeFor_166 rfl ic_1 rfl ?_
        refine mx_goto (tgt := 127) dX0_wholeFor_169 rfl ?_
        exact mx_weak (al' := [some (rv a0), none, none, some (iv (x3 + (-1 : Int32))), some (iv (x4 + (1 : Int32)))]) ⟨rfl, ⟨rfl, ⟨rfl, trivial⟩⟩⟩ H
    · have H := H.2 c3
      refine mx_iconst dX0_wholeFor_145 ic_1 ?_
      refine mx_goto (tgt := 164) dX0_wholeFor_146 rfl ?_
      refine mx_iadd dX0_wholeFor_164 ?_
      refine mx_istore_n (al' := [some (rv a0), none, none, some (iv (x3 + (1 : Int32))), some (iv x4)]) dX0_wholeFor_165 rfl (Nat.le_of_ble_eq_true rfl) rfl ?_
      refine mx_iinc (al' := [some (rv a0), none, none, some (iv (x3 + (1 : Int32))), some (iv (x4 + (1 : Int32)))]) dX0_wholeFor_166 rfl ic_1 rfl ?_
      refine mx_goto (tgt := 127) dX0_wholeFor_169 rfl ?_
      exact mx_weak (al' := [some (rv a0), none, none, some (iv (x3 + (1 : Int32))), some (iv (x4 + (1 : Int32)))]) ⟨rfl, ⟨rfl, ⟨rfl, trivial⟩⟩⟩ H
theorem v_X0_wholeFor_66 {G : ma_G} {d : Nat} {a0 : Nat} {x1 : Int32} {x2 : Int32} {x3 : Int32} {z0 : Int32} {h : ah_T} {Q : Option ma_V → ah_T → Prop} {E : Nat → ah_T → Prop} (La0_h : LY0 h a0) (H : vp_in x3 20 ∧ ah_kd h (ah_R h (a0 + 2) x3.toNatClampNeg) = 10 ∧ vp_in (ah_I h (ah_R h (a0 + 2) x3.toNatClampNeg) 1) 6 ∧ (¬ z0 = (1 : Int32) → (¬ z0 = 0 → ∀ h6 : ah_T, h6 = ah_wI h (a0 + 1450) (ah_I h (ah_R h (a0 + 2) x3.toNatClampNeg) 1).toNatClampNeg ((ah_I h (a0 + 1450) (ah_I h (ah_R h (a0 + 2) x3.toNatClampNeg) 1).toNatClampNeg) + (0 : Int32)) → ah_ext h h6 → MX G mi_X0_wholeFor d 23 [some (rv a0), some (iv x1), some (iv x2), some (iv (x3 + (1 : Int32))), none] [] h6 Q E) ∧ (z0 = 0 → ∀ h7 : ah_T, h7 = ah_wI h (a0 + 1450) (ah_I h (ah_R h (a0 + 2) x3.toNatClampNeg) 1).toNatClampNeg ((ah_I h (a0 + 1450) (ah_I h (ah_R h (a0 + 2) x3.toNatClampNeg) 1).toNatClampNeg) + (-(ah_I h (a0 + 1449) x3.toNatClampNeg))) → ah_ext h h7 → MX G mi_X0_wholeFor d 23 [some (rv a0), some (iv x1), some (iv x2), some (iv (x3 + (1 : Int32))), none] [] h7 Q E)) ∧ (z0 = (1 : Int32) → ∀ h8 : ah_T, h8 = ah_wI h (a0 + 1450) (ah_I h (ah_R h (a0 + 2) x3.toNatClampNeg) 1).toNatClampNeg ((ah_I h (a0 + 1450) (ah_I h (ah_R h (a0 + 2) x3.toNatClampNeg) 1).toNatClampNeg) + (ah_I h (a0 + 1449) x3.toNatClampNeg)) → ah_ext h h8 → MX G mi_X0_wholeFor d 23 [some (rv a0), some (iv x1), some (iv x2), some (iv (x3 + (1 : Int32))), none] [] h8 Q E)) : MX G mi_X0_wholeFor d 66 [some (rv a0), some (iv x1), some (iv x2), some (iv x3), none] [iv z0] h Q E := by
  refine mx_istore (al' := [some (rv a0), some (iv x1), some (iv x2), some (iv x3), some (iv z0)]) dX0_wholeFor_66 (Nat.le_of_ble_eq_true rfl) rfl ?_
  refine mx_aload_n dX0_wholeFor_68 rfl rfl ?_
  refine mx_get 0 41 (ref := "PrairiePool") cl_0 (Nat.le_of_ble_eq_true rfl) (Or.inl q501) (Or.inl rfl) dX0_wholeFor_69 (fv_0_41 _ _) (ly0_k La0_h) ?_
  refine mx_tr (ly0_R_0_41 La0_h) ?_
  refine mx_aload_n dX0_wholeFor_72 rfl rfl ?_
  refine mx_get 0 1 (ref := "PrairiePool") cl_0 (Nat.le_of_ble_eq_true rfl) (Or.inl q461) (Or.inl rfl) dX0_wholeFor_73 (fv_0_1 _ _) (ly0_k La0_h) ?_
  refine mx_tr (ly0_R_0_1 La0_h) ?_
  refine mx_iload_n dX0_wholeFor_76 rfl rfl ?_
  obtain ⟨k1, H⟩ := H
  refine my_aald 6 dX0_wholeFor_77 (by decide) rfl (ly0_A_2 La0_h k1) ?_
  obtain ⟨k2, H⟩ := H
  refine mx_get 9 1 (ref := "PrairiePool$Farm") cl_9 (Nat.le_of_ble_eq_true rfl) (Or.inl q771) (Or.inl rfl) dX0_wholeFor_78 (fv_9_1 _ _) k2 ?_
  refine mx_dup2_ir dX0_wholeFor_81 ?_
  obtain ⟨k3, H⟩ := H
  refine my_iald dX0_wholeFor_82 rfl (ly0_A_1450 La0_h k3) ?_
  refine mx_iload dX0_wholeFor_83 rfl ?_
  refine mx_iconst dX0_wholeFor_85 ic_1 ?_
  refine mx_icmp_ne (tgt := 98) dX0_wholeFor_86 rfl (fun c4 => ?_) (fun c4 => ?_)
  · have H := H.1 c4
    refine mx_iload dX0_wholeFor_98 rfl ?_
    refine mx_if_ne (tgt := 113) dX0_wholeFor_100 rfl (fun c5 => ?_) (fun c5 => ?_)
    · have H := H.1 c5
      refine mx_iconst dX0_wholeFor_113 ic_0 ?_
      refine mx_iadd dX0_wholeFor_114 ?_
      refine my_iast dX0_wholeFor_115 rfl (ly0_A_1450 La0_h k3) ?_
      refine mx_nmI  (fun h6 eh6 Xh6 Kh6 Lh6 => ?_)
      have H := H h6 eh6 Xh6
      have La0_h6 := La0_h.ext Xh6
      refine mx_iinc (al' := [some (rv a0), some (iv x1), some (iv x2), some (iv (x3 + (1 : Int32))), some (iv z0)]) dX0_wholeFor_116 rfl ic_1 rfl ?_
      refine mx_goto (tgt := 23) dX0_wholeFor_119 rfl ?_
      exact mx_weak (al' := [some (rv a0), some (iv x1), some (iv x2), some (iv (x3 + (1 : Int32))), none]) ⟨rfl, ⟨rfl, ⟨rfl, ⟨rfl, trivial⟩⟩⟩⟩ H
    · have H := H.2 c5
      refine mx_aload_n dX0_wholeFor_103 rfl rfl ?_
      refine mx_get 0 40 (ref := "PrairiePool") cl_0 (Nat.le_of_ble_eq_true rfl) (Or.inl q500) (Or.inl rfl) dX0_wholeFor_104 (fv_0_40 _ _) (ly0_k La0_h) ?_
      refine mx_tr (ly0_R_0_40 La0_h) ?_
      refine mx_iload_n dX0_wholeFor_107 rfl rfl ?_
      refine my_iald dX0_wholeFor_108 rfl (ly0_A_1449 La0_h k1) ?_
      refine mx_ineg dX0_wholeFor_109 ?_
      refine mx_goto (tgt := 114) dX0_wholeFor_110 rfl ?_
      refine mx_iadd dX0_wholeFor_114 ?_
      refine my_iast dX0_wholeFor_115 rfl (ly0_A_1450 La0_h k3) ?_
      refine mx_nmI  (fun h7 eh7 Xh7 Kh7 Lh7 => ?_)
      have H := H h7 eh7 Xh7
      have La0_h7 := La0_h.ext Xh7
      refine mx_iinc (al' := [some (rv a0), some (iv x1), some (iv x2), some (iv (x3 + (1 : Int32))), some (iv z0)]) dX0_wholeFor_116 rfl ic_1 rfl ?_
      refine mx_goto (tgt := 23) dX0_wholeFor_119 rfl ?_
      exact mx_weak (al' := [some (rv a0), some (iv x1), some (iv x2), some (iv (x3 + (1 : Int32))), none]) ⟨rfl, ⟨rfl, ⟨rfl, ⟨rfl, trivial⟩⟩⟩⟩ H
  · have H := H.2 c4
    refine mx_aload_n dX0_wholeFor_89 rfl rfl ?_
    refine mx_get 0 40 (ref := "PrairiePool") cl_0 (Nat.le_of_ble_eq_true rfl) (Or.inl q500) (Or.inl rfl) dX0_wholeFor_90 (fv_0_40 _ _) (ly0_k La0_h) ?_
    refine mx_tr (ly0_R_0_40 La0_h) ?_
    refine mx_iload_n dX0_wholeFor_93 rfl rfl ?_
    refine my_iald dX0_wholeFor_94 rfl (ly0_A_1449 La0_h k1) ?_
    refine mx_goto (tgt := 114) dX0_wholeFor_95 rfl ?_
    refine mx_iadd dX0_wholeFor_114 ?_
    refine my_iast dX0_wholeFor_115 rfl (ly0_A_1450 La0_h k3) ?_
    refine mx_nmI  (fun h8 eh8 Xh8 Kh8 Lh8 => ?_)
    have H := H h8 eh8 Xh8
    have La0_h8 := La0_h.ext Xh8
    refine mx_iinc (al' := [some (rv a0), some (iv x1), some (iv x2), some (iv (x3 + (1 : Int32))), some (iv z0)]) dX0_wholeFor_116 rfl ic_1 rfl ?_
    refine mx_goto (tgt := 23) dX0_wholeFor_119 rfl ?_
    exact mx_weak (al' := [some (rv a0), some (iv x1), some (iv x2), some (iv (x3 + (1 : Int32))), none]) ⟨rfl, ⟨rfl, ⟨rfl, ⟨rfl, trivial⟩⟩⟩⟩ H
theorem dX0_hangs_0 : decode mi_X0_hangs.2.1 0 = .ok (.iload_n 1, 1) := by decide +kernel
theorem dX0_hangs_1 : decode mi_X0_hangs.2.1 1 = .ok (.invokestatic 260, 3) := by decide +kernel
theorem dX0_hangs_4 : decode mi_X0_hangs.2.1 4 = .ok (.ifCond .ne 9, 3) := by decide +kernel
theorem dX0_hangs_7 : decode mi_X0_hangs.2.1 7 = .ok (.aload_n 0, 1) := by decide +kernel
theorem dX0_hangs_8 : decode mi_X0_hangs.2.1 8 = .ok (.iconst 5, 1) := by decide +kernel
theorem dX0_hangs_9 : decode mi_X0_hangs.2.1 9 = .ok (.invokevirtual 205, 3) := by decide +kernel
theorem dX0_hangs_12 : decode mi_X0_hangs.2.1 12 = .ok (.ireturn, 1) := by decide +kernel
theorem dX0_hangs_13 : decode mi_X0_hangs.2.1 13 = .ok (.aload_n 0, 1) := by decide +kernel
theorem dX0_hangs_14 : decode mi_X0_hangs.2.1 14 = .ok (.iload_n 1, 1) := by decide +kernel
theorem dX0_hangs_15 : decode mi_X0_hangs.2.1 15 = .ok (.invokevirtual 569, 3) := by decide +kernel
theorem dX0_hangs_18 : decode mi_X0_hangs.2.1 18 = .ok (.aload_n 0, 1) := by decide +kernel
theorem dX0_hangs_19 : decode mi_X0_hangs.2.1 19 = .ok (.iconst 0, 1) := by decide +kernel
theorem dX0_hangs_20 : decode mi_X0_hangs.2.1 20 = .ok (.iconst 0, 1) := by decide +kernel
theorem dX0_hangs_21 : decode mi_X0_hangs.2.1 21 = .ok (.invokevirtual 572, 3) := by decide +kernel
theorem dX0_hangs_24 : decode mi_X0_hangs.2.1 24 = .ok (.ifCond .le 7, 3) := by decide +kernel
theorem dX0_hangs_27 : decode mi_X0_hangs.2.1 27 = .ok (.iconst 1, 1) := by decide +kernel
theorem dX0_hangs_28 : decode mi_X0_hangs.2.1 28 = .ok (.goto 4, 3) := by decide +kernel
theorem dX0_hangs_31 : decode mi_X0_hangs.2.1 31 = .ok (.iconst 0, 1) := by decide +kernel
theorem dX0_hangs_32 : decode mi_X0_hangs.2.1 32 = .ok (.istore_n 2, 1) := by decide +kernel
theorem dX0_hangs_33 : decode mi_X0_hangs.2.1 33 = .ok (.iconst 0, 1) := by decide +kernel
theorem dX0_hangs_34 : decode mi_X0_hangs.2.1 34 = .ok (.istore_n 3, 1) := by decide +kernel
theorem dX0_hangs_35 : decode mi_X0_hangs.2.1 35 = .ok (.iconst 0, 1) := by decide +kernel
theorem dX0_hangs_36 : decode mi_X0_hangs.2.1 36 = .ok (.istore 4, 2) := by decide +kernel
theorem dX0_hangs_38 : decode mi_X0_hangs.2.1 38 = .ok (.iload 4, 2) := by decide +kernel
theorem dX0_hangs_40 : decode mi_X0_hangs.2.1 40 = .ok (.aload_n 0, 1) := by decide +kernel
theorem dX0_hangs_41 : decode mi_X0_hangs.2.1 41 = .ok (.getfield 230, 3) := by decide +kernel
theorem dX0_hangs_44 : decode mi_X0_hangs.2.1 44 = .ok (.if_icmp .ge 34, 3) := by decide +kernel
theorem dX0_hangs_47 : decode mi_X0_hangs.2.1 47 = .ok (.iload_n 3, 1) := by decide +kernel
theorem dX0_hangs_48 : decode mi_X0_hangs.2.1 48 = .ok (.aload_n 0, 1) := by decide +kernel
theorem dX0_hangs_49 : decode mi_X0_hangs.2.1 49 = .ok (.getfield 17, 3) := by decide +kernel
theorem dX0_hangs_52 : decode mi_X0_hangs.2.1 52 = .ok (.iload 4, 2) := by decide +kernel
theorem dX0_hangs_54 : decode mi_X0_hangs.2.1 54 = .ok (.aaload, 1) := by decide +kernel
theorem dX0_hangs_55 : decode mi_X0_hangs.2.1 55 = .ok (.getfield 564, 3) := by decide +kernel
theorem dX0_hangs_58 : decode mi_X0_hangs.2.1 58 = .ok (.iconst (-1), 1) := by decide +kernel
theorem dX0_hangs_59 : decode mi_X0_hangs.2.1 59 = .ok (.if_icmp .ne 10, 3) := by decide +kernel
theorem dX0_hangs_62 : decode mi_X0_hangs.2.1 62 = .ok (.iconst 1, 1) := by decide +kernel
theorem dX0_hangs_63 : decode mi_X0_hangs.2.1 63 = .ok (.iload 4, 2) := by decide +kernel
theorem dX0_hangs_65 : decode mi_X0_hangs.2.1 65 = .ok (.ishl, 1) := by decide +kernel
theorem dX0_hangs_66 : decode mi_X0_hangs.2.1 66 = .ok (.goto 4, 3) := by decide +kernel
theorem dX0_hangs_69 : decode mi_X0_hangs.2.1 69 = .ok (.iconst 0, 1) := by decide +kernel
theorem dX0_hangs_70 : decode mi_X0_hangs.2.1 70 = .ok (.ior, 1) := by decide +kernel
theorem dX0_hangs_71 : decode mi_X0_hangs.2.1 71 = .ok (.istore_n 3, 1) := by decide +kernel
theorem dX0_hangs_72 : decode mi_X0_hangs.2.1 72 = .ok (.iinc 4 1, 3) := by decide +kernel
theorem dX0_hangs_75 : decode mi_X0_hangs.2.1 75 = .ok (.goto (-37), 3) := by decide +kernel
theorem dX0_hangs_78 : decode mi_X0_hangs.2.1 78 = .ok (.iconst (-1), 1) := by decide +kernel
theorem dX0_hangs_79 : decode mi_X0_hangs.2.1 79 = .ok (.istore 4, 2) := by decide +kernel
theorem dX0_hangs_81 : decode mi_X0_hangs.2.1 81 = .ok (.iconst 0, 1) := by decide +kernel
theorem dX0_hangs_82 : decode mi_X0_hangs.2.1 82 = .ok (.istore 5, 2) := by decide +kernel
theorem dX0_hangs_84 : decode mi_X0_hangs.2.1 84 = .ok (.iload 5, 2) := by decide +kernel
theorem dX0_hangs_86 : decode mi_X0_hangs.2.1 86 = .ok (.iload_n 3, 1) := by decide +kernel
theorem dX0_hangs_87 : decode mi_X0_hangs.2.1 87 = .ok (.if_icmp .gt 71, 3) := by decide +kernel
theorem dX0_hangs_90 : decode mi_X0_hangs.2.1 90 = .ok (.iload 5, 2) := by decide +kernel
theorem dX0_hangs_92 : decode mi_X0_hangs.2.1 92 = .ok (.iload_n 3, 1) := by decide +kernel
theorem dX0_hangs_93 : decode mi_X0_hangs.2.1 93 = .ok (.iconst (-1), 1) := by decide +kernel
theorem dX0_hangs_94 : decode mi_X0_hangs.2.1 94 = .ok (.ixor, 1) := by decide +kernel
theorem dX0_hangs_95 : decode mi_X0_hangs.2.1 95 = .ok (.iand, 1) := by decide +kernel
theorem dX0_hangs_96 : decode mi_X0_hangs.2.1 96 = .ok (.ifCond .ne 56, 3) := by decide +kernel
theorem dX0_hangs_99 : decode mi_X0_hangs.2.1 99 = .ok (.iload 4, 2) := by decide +kernel
theorem dX0_hangs_101 : decode mi_X0_hangs.2.1 101 = .ok (.iconst (-1), 1) := by decide +kernel
theorem dX0_hangs_102 : decode mi_X0_hangs.2.1 102 = .ok (.if_icmp .eq 19, 3) := by decide +kernel
theorem dX0_hangs_105 : decode mi_X0_hangs.2.1 105 = .ok (.iload 5, 2) := by decide +kernel
theorem dX0_hangs_107 : decode mi_X0_hangs.2.1 107 = .ok (.invokestatic 575, 3) := by decide +kernel
theorem dX0_hangs_110 : decode mi_X0_hangs.2.1 110 = .ok (.iload 4, 2) := by decide +kernel
theorem dX0_hangs_112 : decode mi_X0_hangs.2.1 112 = .ok (.invokestatic 575, 3) := by decide +kernel
theorem dX0_hangs_115 : decode mi_X0_hangs.2.1 115 = .ok (.if_icmp .lt 6, 3) := by decide +kernel
theorem dX0_hangs_118 : decode mi_X0_hangs.2.1 118 = .ok (.goto 34, 3) := by decide +kernel
theorem dX0_hangs_121 : decode mi_X0_hangs.2.1 121 = .ok (.aload_n 0, 1) := by decide +kernel
theorem dX0_hangs_122 : decode mi_X0_hangs.2.1 122 = .ok (.iload 5, 2) := by decide +kernel
theorem dX0_hangs_124 : decode mi_X0_hangs.2.1 124 = .ok (.iload_n 2, 1) := by decide +kernel
theorem dX0_hangs_125 : decode mi_X0_hangs.2.1 125 = .ok (.ifCond .eq 7, 3) := by decide +kernel
theorem dX0_hangs_128 : decode mi_X0_hangs.2.1 128 = .ok (.iconst 0, 1) := by decide +kernel
theorem dX0_hangs_129 : decode mi_X0_hangs.2.1 129 = .ok (.goto 4, 3) := by decide +kernel
theorem dX0_hangs_132 : decode mi_X0_hangs.2.1 132 = .ok (.iconst 1, 1) := by decide +kernel
theorem dX0_hangs_133 : decode mi_X0_hangs.2.1 133 = .ok (.invokevirtual 572, 3) := by decide +kernel
theorem dX0_hangs_136 : decode mi_X0_hangs.2.1 136 = .ok (.ifCond .le 7, 3) := by decide +kernel
theorem dX0_hangs_139 : decode mi_X0_hangs.2.1 139 = .ok (.iconst 1, 1) := by decide +kernel
theorem dX0_hangs_140 : decode mi_X0_hangs.2.1 140 = .ok (.goto 4, 3) := by decide +kernel
theorem dX0_hangs_143 : decode mi_X0_hangs.2.1 143 = .ok (.iconst 0, 1) := by decide +kernel
theorem dX0_hangs_144 : decode mi_X0_hangs.2.1 144 = .ok (.iload_n 2, 1) := by decide +kernel
theorem dX0_hangs_145 : decode mi_X0_hangs.2.1 145 = .ok (.if_icmp .eq 7, 3) := by decide +kernel
theorem dX0_hangs_148 : decode mi_X0_hangs.2.1 148 = .ok (.iload 5, 2) := by decide +kernel
theorem dX0_hangs_150 : decode mi_X0_hangs.2.1 150 = .ok (.istore 4, 2) := by decide +kernel
theorem dX0_hangs_152 : decode mi_X0_hangs.2.1 152 = .ok (.iinc 5 1, 3) := by decide +kernel
theorem dX0_hangs_155 : decode mi_X0_hangs.2.1 155 = .ok (.goto (-71), 3) := by decide +kernel
theorem dX0_hangs_158 : decode mi_X0_hangs.2.1 158 = .ok (.aload_n 0, 1) := by decide +kernel
theorem dX0_hangs_159 : decode mi_X0_hangs.2.1 159 = .ok (.iload 4, 2) := by decide +kernel
theorem dX0_hangs_161 : decode mi_X0_hangs.2.1 161 = .ok (.invokevirtual 250, 3) := by decide +kernel
theorem dX0_hangs_164 : decode mi_X0_hangs.2.1 164 = .ok (.ireturn, 1) := by decide +kernel
theorem v_X0_hangs {G : ma_G} {d : Nat} {a0 : Nat} {x1 : Int32} {h : ah_T} {Q : Option ma_V → ah_T → Prop} {E : Nat → ah_T → Prop} (La0_h : LY0 h a0) (H : (x1 < 0 → ∀ h2 : ah_T, h2 = ah_wI h a0 20 (5 : Int32) → ah_ext h h2 → Q (some (iv (-1 : Int32))) h2) ∧ (¬ x1 < 0 → ((520 : Int32) ≤ x1 → ∀ h4 : ah_T, h4 = ah_wI h a0 20 (5 : Int32) → ah_ext h h4 → Q (some (iv (-1 : Int32))) h4) ∧ (¬ (520 : Int32) ≤ x1 → MX G mi_X0_weigh d 0 [some (rv a0), some (iv x1), none, none] [] h (Qv fun h5 => ah_ext h h5 → MX G mi_X0_wholeFor d 0 [some (rv a0), some (iv (0 : Int32)), some (iv (0 : Int32)), none, none] [] h5 (Qi fun r8 h7 => ah_ext h5 h7 → (r8 ≤ 0 → MX G mi_X0_hangs (d + 1) 38 [some (rv a0), none, some (iv (0 : Int32)), some (iv (0 : Int32)), some (iv (0 : Int32)), none] [] h7 Q E) ∧ (¬ r8 ≤ 0 → MX G mi_X0_hangs (d + 1) 38 [some (rv a0), none, some (iv (1 : Int32)), some (iv (0 : Int32)), some (iv (0 : Int32)), none] [] h7 Q E)) E) E))) : MX G mi_X0_hangs (d + 1) 0 [some (rv a0), some (iv x1), none, none, none, none] [] h Q E := by
  refine mx_iload_n dX0_hangs_0 rfl rfl ?_
  refine mx_callS (y' := mi_X0_isWeek) (vs := [iv x1]) (st := []) (al' := [some (iv x1)]) S_X0_isWeek q841 dX0_hangs_1 rfl rfl (Nat.le_of_ble_eq_true rfl) (Nat.le_of_ble_eq_true rfl) ?_
  refine mx_iload_n dX0_isWeek_0 rfl rfl ?_
  refine mx_if_lt (tgt := 15) dX0_isWeek_1 rfl (fun c1 => ?_) (fun c1 => ?_)
  · have H := H.1 c1
    refine mx_iconst dX0_isWeek_15 ic_0 ?_
    refine mx_zretK rfl dX0_isWeek_16 (Or.inl rfl) ?_
    refine mx_if_ne (tgt := 13) dX0_hangs_4 rfl (fun _ => absurd ‹_› (by decide)) (fun _ => ?_)
    refine mx_aload_n dX0_hangs_7 rfl rfl ?_
    refine mx_iconst dX0_hangs_8 ic_5 ?_
    refine mx_callV 0 (y' := mi_X0_none) (vs := [iv (5 : Int32)]) (st := []) (al' := [some (rv a0), some (iv (5 : Int32))]) cl_0 V_X0_none (Or.inl q733) dX0_hangs_9 rfl rfl (Nat.le_of_ble_eq_true rfl) (Nat.le_of_ble_eq_true rfl) (ly0_k La0_h) ?_
    refine mx_aload_n dX0_none_0 rfl rfl ?_
    refine mx_iload_n dX0_none_1 rfl rfl ?_
    refine mx_putI 0 20 (ref := "PrairiePool") cl_0 (Nat.le_of_ble_eq_true rfl) (Or.inl q480) (Or.inl rfl) dX0_none_2 (Or.inl rfl) rfl (ly0_k La0_h) ?_
    refine mx_nmI  (fun h2 eh2 Xh2 Kh2 Lh2 => ?_)
    have H := H h2 eh2 Xh2
    have La0_h2 := La0_h.ext Xh2
    refine mx_iconst dX0_none_5 ic_m1 ?_
    refine mx_iretK rfl dX0_none_6 ?_
    exact mx_iret rfl dX0_hangs_12 H
  · have H := H.2 c1
    refine mx_iload_n dX0_isWeek_4 rfl rfl ?_
    refine mx_sipush dX0_isWeek_5 is_520 ?_
    refine mx_icmp_ge (tgt := 15) dX0_isWeek_8 rfl (fun c3 => ?_) (fun c3 => ?_)
    · have H := H.1 c3
      refine mx_iconst dX0_isWeek_15 ic_0 ?_
      refine mx_zretK rfl dX0_isWeek_16 (Or.inl rfl) ?_
      refine mx_if_ne (tgt := 13) dX0_hangs_4 rfl (fun _ => absurd ‹_› (by decide)) (fun _ => ?_)
      refine mx_aload_n dX0_hangs_7 rfl rfl ?_
      refine mx_iconst dX0_hangs_8 ic_5 ?_
      refine mx_callV 0 (y' := mi_X0_none) (vs := [iv (5 : Int32)]) (st := []) (al' := [some (rv a0), some (iv (5 : Int32))]) cl_0 V_X0_none (Or.inl q733) dX0_hangs_9 rfl rfl (Nat.le_of_ble_eq_true rfl) (Nat.le_of_ble_eq_true rfl) (ly0_k La0_h) ?_
      refine mx_aload_n dX0_none_0 rfl rfl ?_
      refine mx_iload_n dX0_none_1 rfl rfl ?_
      refine mx_putI 0 20 (ref := "PrairiePool") cl_0 (Nat.le_of_ble_eq_true rfl) (Or.inl q480) (Or.inl rfl) dX0_none_2 (Or.inl rfl) rfl (ly0_k La0_h) ?_
      refine mx_nmI  (fun h4 eh4 Xh4 Kh4 Lh4 => ?_)
      have H := H h4 eh4 Xh4
      have La0_h4 := La0_h.ext Xh4
      refine mx_iconst dX0_none_5 ic_m1 ?_
      refine mx_iretK rfl dX0_none_6 ?_
      exact mx_iret rfl dX0_hangs_12 H
    · have H := H.2 c3
      refine mx_iconst dX0_isWeek_11 ic_1 ?_
      refine mx_goto (tgt := 16) dX0_isWeek_12 rfl ?_
      refine mx_zretK rfl dX0_isWeek_16 (Or.inr rfl) ?_
      refine mx_if_ne (tgt := 13) dX0_hangs_4 rfl (fun _ => ?_) (fun _ => absurd ‹_› (by decide))
      refine mx_aload_n dX0_hangs_13 rfl rfl ?_
      refine mx_iload_n dX0_hangs_14 rfl rfl ?_
      refine mx_callV 0 (y' := mi_X0_weigh) (vs := [iv x1]) (st := []) (al' := [some (rv a0), some (iv x1), none, none]) cl_0 V_X0_weigh (Or.inl q1574) dX0_hangs_15 rfl rfl (Nat.le_of_ble_eq_true rfl) (Nat.le_of_ble_eq_true rfl) (ly0_k La0_h) ?_
      refine ma_kv H (fun h5 Xh5 H => ?_) (fun x1 h1 X1 H => mt_out rfl H)
      have H := H Xh5
      have La0_h5 := La0_h.ext Xh5
      refine mx_aload_n dX0_hangs_18 rfl rfl ?_
      refine mx_iconst dX0_hangs_19 ic_0 ?_
      refine mx_iconst dX0_hangs_20 ic_0 ?_
      refine mx_callV 0 (y' := mi_X0_wholeFor) (vs := [iv (0 : Int32), iv (0 : Int32)]) (st := []) (al' := [some (rv a0), some (iv (0 : Int32)), some (iv (0 : Int32)), none, none]) cl_0 V_X0_wholeFor (Or.inl q1579) dX0_hangs_21 rfl rfl (Nat.le_of_ble_eq_true rfl) (Nat.le_of_ble_eq_true rfl) (ly0_k La0_h5) ?_
      refine ma_ki H (fun r8 h7 Xh7 H => ?_) (fun x1 h1 X1 H => mt_out rfl H)
      have H := H Xh7
      have La0_h7 := La0_h5.ext Xh7
      refine mx_if_le (tgt := 31) dX0_hangs_24 rfl (fun c9 => ?_) (fun c9 => ?_)
      · have H := H.1 c9
        refine mx_iconst dX0_hangs_31 ic_0 ?_
        refine mx_istore_n (al' := [some (rv a0), some (iv x1), some (iv (0 : Int32)), none, none, none]) dX0_hangs_32 rfl (Nat.le_of_ble_eq_true rfl) rfl ?_
        refine mx_iconst dX0_hangs_33 ic_0 ?_
        refine mx_istore_n (al' := [some (rv a0), some (iv x1), some (iv (0 : Int32)), some (iv (0 : Int32)), none, none]) dX0_hangs_34 rfl (Nat.le_of_ble_eq_true rfl) rfl ?_
        refine mx_iconst dX0_hangs_35 ic_0 ?_
        refine mx_istore (al' := [some (rv a0), some (iv x1), some (iv (0 : Int32)), some (iv (0 : Int32)), some (iv (0 : Int32)), none]) dX0_hangs_36 (Nat.le_of_ble_eq_true rfl) rfl ?_
        exact mx_weak (al' := [some (rv a0), none, some (iv (0 : Int32)), some (iv (0 : Int32)), some (iv (0 : Int32)), none]) ⟨rfl, ⟨rfl, ⟨rfl, ⟨rfl, trivial⟩⟩⟩⟩ H
      · have H := H.2 c9
        refine mx_iconst dX0_hangs_27 ic_1 ?_
        refine mx_goto (tgt := 32) dX0_hangs_28 rfl ?_
        refine mx_istore_n (al' := [some (rv a0), some (iv x1), some (iv (1 : Int32)), none, none, none]) dX0_hangs_32 rfl (Nat.le_of_ble_eq_true rfl) rfl ?_
        refine mx_iconst dX0_hangs_33 ic_0 ?_
        refine mx_istore_n (al' := [some (rv a0), some (iv x1), some (iv (1 : Int32)), some (iv (0 : Int32)), none, none]) dX0_hangs_34 rfl (Nat.le_of_ble_eq_true rfl) rfl ?_
        refine mx_iconst dX0_hangs_35 ic_0 ?_
        refine mx_istore (al' := [some (rv a0), some (iv x1), some (iv (1 : Int32)), some (iv (0 : Int32)), some (iv (0 : Int32)), none]) dX0_hangs_36 (Nat.le_of_ble_eq_true rfl) rfl ?_
        exact mx_weak (al' := [some (rv a0), none, some (iv (1 : Int32)), some (iv (0 : Int32)), some (iv (0 : Int32)), none]) ⟨rfl, ⟨rfl, ⟨rfl, ⟨rfl, trivial⟩⟩⟩⟩ H
theorem v_X0_hangs_38 {G : ma_G} {d : Nat} {a0 : Nat} {x2 : Int32} {x3 : Int32} {x4 : Int32} {h : ah_T} {Q : Option ma_V → ah_T → Prop} {E : Nat → ah_T → Prop} (La0_h : LY0 h a0) (H : ((ah_I h a0 14) ≤ x4 → MX G mi_X0_hangs (d + 1) 84 [some (rv a0), none, some (iv x2), some (iv x3), some (iv (-1 : Int32)), some (iv (0 : Int32))] [] h Q E) ∧ (¬ (ah_I h a0 14) ≤ x4 → vp_in x4 20 ∧ ah_kd h (ah_R h (a0 + 2) x4.toNatClampNeg) = 10 ∧ (¬ (ah_I h (ah_R h (a0 + 2) x4.toNatClampNeg) 6) = (-1 : Int32) → MX G mi_X0_hangs (d + 1) 38 [some (rv a0), none, some (iv x2), some (iv (x3 ||| (0 : Int32))), some (iv (x4 + (1 : Int32))), none] [] h Q E) ∧ ((ah_I h (ah_R h (a0 + 2) x4.toNatClampNeg) 6) = (-1 : Int32) → MX G mi_X0_hangs (d + 1) 38 [some (rv a0), none, some (iv x2), some (iv (x3 ||| ((1 : Int32) <<< (x4 &&& 31)))), some (iv (x4 + (1 : Int32))), none] [] h Q E))) : MX G mi_X0_hangs (d + 1) 38 [some (rv a0), none, some (iv x2), some (iv x3), some (iv x4), none] [] h Q E := by
  refine mx_iload dX0_hangs_38 rfl ?_
  refine mx_aload_n dX0_hangs_40 rfl rfl ?_
  refine mx_get 0 14 (ref := "PrairiePool") cl_0 (Nat.le_of_ble_eq_true rfl) (Or.inl q474) (Or.inl rfl) dX0_hangs_41 (fv_0_14 _ _) (ly0_k La0_h) ?_
  refine mx_icmp_ge (tgt := 78) dX0_hangs_44 rfl (fun c1 => ?_) (fun c1 => ?_)
  · have H := H.1 c1
    refine mx_iconst dX0_hangs_78 ic_m1 ?_
    refine mx_istore (al' := [some (rv a0), none, some (iv x2), some (iv x3), some (iv (-1 : Int32)), none]) dX0_hangs_79 (Nat.le_of_ble_eq_true rfl) rfl ?_
    refine mx_iconst dX0_hangs_81 ic_0 ?_
    refine mx_istore (al' := [some (rv a0), none, some (iv x2), some (iv x3), some (iv (-1 : Int32)), some (iv (0 : Int32))]) dX0_hangs_82 (Nat.le_of_ble_eq_true rfl) rfl ?_
    exact mx_weak (al' := [some (rv a0), none, some (iv x2), some (iv x3), some (iv (-1 : Int32)), some (iv (0 : Int32))]) ⟨rfl, ⟨rfl, ⟨rfl, ⟨rfl, ⟨rfl, trivial⟩⟩⟩⟩⟩ H
  · have H := H.2 c1
    refine mx_iload_n dX0_hangs_47 rfl rfl ?_
    refine mx_aload_n dX0_hangs_48 rfl rfl ?_
    refine mx_get 0 1 (ref := "PrairiePool") cl_0 (Nat.le_of_ble_eq_true rfl) (Or.inl q461) (Or.inl rfl) dX0_hangs_49 (fv_0_1 _ _) (ly0_k La0_h) ?_
    refine mx_tr (ly0_R_0_1 La0_h) ?_
    refine mx_iload dX0_hangs_52 rfl ?_
    obtain ⟨k2, H⟩ := H
    refine my_aald 6 dX0_hangs_54 (by decide) rfl (ly0_A_2 La0_h k2) ?_
    obtain ⟨k3, H⟩ := H
    refine mx_get 9 6 (ref := "PrairiePool$Farm") cl_9 (Nat.le_of_ble_eq_true rfl) (Or.inr ⟨_, q781⟩) (Or.inl rfl) dX0_hangs_55 (fv_9_6 _ _) k3 ?_
    refine mx_iconst dX0_hangs_58 ic_m1 ?_
    refine mx_icmp_ne (tgt := 69) dX0_hangs_59 rfl (fun c4 => ?_) (fun c4 => ?_)
    · have H := H.1 c4
      refine mx_iconst dX0_hangs_69 ic_0 ?_
      refine mx_ior dX0_hangs_70 ?_
      refine mx_istore_n (al' := [some (rv a0), none, some (iv x2), some (iv (x3 ||| (0 : Int32))), some (iv x4), none]) dX0_hangs_71 rfl (Nat.le_of_ble_eq_true rfl) rfl ?_
      refine mx_iinc (al' := [some (rv a0), none, some (iv x2), some (iv (x3 ||| (0 : Int32))), some (iv (x4 + (1 : Int32))), none]) dX0_hangs_72 rfl ic_1 rfl ?_
      refine mx_goto (tgt := 38) dX0_hangs_75 rfl ?_
      exact mx_weak (al' := [some (rv a0), none, some (iv x2), some (iv (x3 ||| (0 : Int32))), some (iv (x4 + (1 : Int32))), none]) ⟨rfl, ⟨rfl, ⟨rfl, ⟨rfl, trivial⟩⟩⟩⟩ H
    · have H := H.2 c4
      refine mx_iconst dX0_hangs_62 ic_1 ?_
      refine mx_iload dX0_hangs_63 rfl ?_
      refine mx_ishl dX0_hangs_65 ?_
      refine mx_goto (tgt := 70) dX0_hangs_66 rfl ?_
      refine mx_ior dX0_hangs_70 ?_
      refine mx_istore_n (al' := [some (rv a0), none, some (iv x2), some (iv (x3 ||| ((1 : Int32) <<< (x4 &&& 31)))), some (iv x4), none]) dX0_hangs_71 rfl (Nat.le_of_ble_eq_true rfl) rfl ?_
      refine mx_iinc (al' := [some (rv a0), none, some (iv x2), some (iv (x3 ||| ((1 : Int32) <<< (x4 &&& 31)))), some (iv (x4 + (1 : Int32))), none]) dX0_hangs_72 rfl ic_1 rfl ?_
      refine mx_goto (tgt := 38) dX0_hangs_75 rfl ?_
      exact mx_weak (al' := [some (rv a0), none, some (iv x2), some (iv (x3 ||| ((1 : Int32) <<< (x4 &&& 31)))), some (iv (x4 + (1 : Int32))), none]) ⟨rfl, ⟨rfl, ⟨rfl, ⟨rfl, trivial⟩⟩⟩⟩ H
theorem v_X0_hangs_84 {G : ma_G} {d : Nat} {a0 : Nat} {x2 : Int32} {x3 : Int32} {x4 : Int32} {x5 : Int32} {h : ah_T} {Q : Option ma_V → ah_T → Prop} {E : Nat → ah_T → Prop} (La0_h : LY0 h a0) (H : (x3 < x5 → ∀ h2 : ah_T, h2 = ah_wI h a0 20 (0 : Int32) → ah_ext h h2 → Q (some (iv x4)) h2) ∧ (¬ x3 < x5 → (¬ (x5 &&& (x3 ^^^ (-1 : Int32))) = 0 → MX G mi_X0_hangs (d + 1) 84 [some (rv a0), none, some (iv x2), some (iv x3), some (iv x4), some (iv (x5 + (1 : Int32)))] [] h Q E) ∧ ((x5 &&& (x3 ^^^ (-1 : Int32))) = 0 → (x4 = (-1 : Int32) → (x2 = 0 → MX G mi_X0_hangs (d + 1) 133 [some (rv a0), none, some (iv x2), some (iv x3), some (iv x4), some (iv x5)] [iv (1 : Int32), iv x5, rv a0] h Q E) ∧ (¬ x2 = 0 → MX G mi_X0_hangs (d + 1) 133 [some (rv a0), none, some (iv x2), some (iv x3), some (iv x4), some (iv x5)] [iv (0 : Int32), iv x5, rv a0] h Q E)) ∧ (¬ x4 = (-1 : Int32) → ((iBits x5) < (iBits x4) → (x2 = 0 → MX G mi_X0_hangs (d + 1) 133 [some (rv a0), none, some (iv x2), some (iv x3), some (iv x4), some (iv x5)] [iv (1 : Int32), iv x5, rv a0] h Q E) ∧ (¬ x2 = 0 → MX G mi_X0_hangs (d + 1) 133 [some (rv a0), none, some (iv x2), some (iv x3), some (iv x4), some (iv x5)] [iv (0 : Int32), iv x5, rv a0] h Q E)) ∧ (¬ (iBits x5) < (iBits x4) → MX G mi_X0_hangs (d + 1) 84 [some (rv a0), none, some (iv x2), some (iv x3), some (iv x4), some (iv (x5 + (1 : Int32)))] [] h Q E))))) : MX G mi_X0_hangs (d + 1) 84 [some (rv a0), none, some (iv x2), some (iv x3), some (iv x4), some (iv x5)] [] h Q E := by
  refine mx_iload dX0_hangs_84 rfl ?_
  refine mx_iload_n dX0_hangs_86 rfl rfl ?_
  refine mx_icmp_gt (tgt := 158) dX0_hangs_87 rfl (fun c1 => ?_) (fun c1 => ?_)
  · have H := H.1 c1
    refine mx_aload_n dX0_hangs_158 rfl rfl ?_
    refine mx_iload dX0_hangs_159 rfl ?_
    refine mx_callV 0 (y' := mi_X0_gives) (vs := [iv x4]) (st := []) (al' := [some (rv a0), some (iv x4)]) cl_0 V_X0_gives (Or.inl q801) dX0_hangs_161 rfl rfl (Nat.le_of_ble_eq_true rfl) (Nat.le_of_ble_eq_true rfl) (ly0_k La0_h) ?_
    refine mx_aload_n dX0_gives_0 rfl rfl ?_
    refine mx_iconst dX0_gives_1 ic_0 ?_
    refine mx_putI 0 20 (ref := "PrairiePool") cl_0 (Nat.le_of_ble_eq_true rfl) (Or.inl q480) (Or.inl rfl) dX0_gives_2 (Or.inl rfl) rfl (ly0_k La0_h) ?_
    refine mx_nmI  (fun h2 eh2 Xh2 Kh2 Lh2 => ?_)
    have H := H h2 eh2 Xh2
    have La0_h2 := La0_h.ext Xh2
    refine mx_iload_n dX0_gives_5 rfl rfl ?_
    refine mx_iretK rfl dX0_gives_6 ?_
    exact mx_iret rfl dX0_hangs_164 H
  · have H := H.2 c1
    refine mx_iload dX0_hangs_90 rfl ?_
    refine mx_iload_n dX0_hangs_92 rfl rfl ?_
    refine mx_iconst dX0_hangs_93 ic_m1 ?_
    refine mx_ixor dX0_hangs_94 ?_
    refine mx_iand dX0_hangs_95 ?_
    refine mx_if_ne (tgt := 152) dX0_hangs_96 rfl (fun c3 => ?_) (fun c3 => ?_)
    · have H := H.1 c3
      refine mx_iinc (al' := [some (rv a0), none, some (iv x2), some (iv x3), some (iv x4), some (iv (x5 + (1 : Int32)))]) dX0_hangs_152 rfl ic_1 rfl ?_
      refine mx_goto (tgt := 84) dX0_hangs_155 rfl ?_
      exact mx_weak (al' := [some (rv a0), none, some (iv x2), some (iv x3), some (iv x4), some (iv (x5 + (1 : Int32)))]) ⟨rfl, ⟨rfl, ⟨rfl, ⟨rfl, ⟨rfl, trivial⟩⟩⟩⟩⟩ H
    · have H := H.2 c3
      refine mx_iload dX0_hangs_99 rfl ?_
      refine mx_iconst dX0_hangs_101 ic_m1 ?_
      refine mx_icmp_eq (tgt := 121) dX0_hangs_102 rfl (fun c4 => ?_) (fun c4 => ?_)
      · have H := H.1 c4
        refine mx_aload_n dX0_hangs_121 rfl rfl ?_
        refine mx_iload dX0_hangs_122 rfl ?_
        refine mx_iload_n dX0_hangs_124 rfl rfl ?_
        refine mx_if_eq (tgt := 132) dX0_hangs_125 rfl (fun c5 => ?_) (fun c5 => ?_)
        · have H := H.1 c5
          refine mx_iconst dX0_hangs_132 ic_1 ?_
          exact mx_weak (al' := [some (rv a0), none, some (iv x2), some (iv x3), some (iv x4), some (iv x5)]) ⟨rfl, ⟨rfl, ⟨rfl, ⟨rfl, ⟨rfl, trivial⟩⟩⟩⟩⟩ H
        · have H := H.2 c5
          refine mx_iconst dX0_hangs_128 ic_0 ?_
          refine mx_goto (tgt := 133) dX0_hangs_129 rfl ?_
          exact mx_weak (al' := [some (rv a0), none, some (iv x2), some (iv x3), some (iv x4), some (iv x5)]) ⟨rfl, ⟨rfl, ⟨rfl, ⟨rfl, ⟨rfl, trivial⟩⟩⟩⟩⟩ H
      · have H := H.2 c4
        refine mx_iload dX0_hangs_105 rfl ?_
        refine mx_callS (y' := mi_J12_bitCount) (vs := [iv x5]) (st := []) (al' := [some (iv x5)]) S_J12_bitCount q1587 dX0_hangs_107 rfl rfl (Nat.le_of_ble_eq_true rfl) (Nat.le_of_ble_eq_true rfl) ?_
        refine pv_J12_bitCount ?_
        refine mx_iload dX0_hangs_110 rfl ?_
        refine mx_callS (y' := mi_J12_bitCount) (vs := [iv x4]) (st := [iv (iBits x5)]) (al' := [some (iv x4)]) S_J12_bitCount q1587 dX0_hangs_112 rfl rfl (Nat.le_of_ble_eq_true rfl) (Nat.le_of_ble_eq_true rfl) ?_
        refine pv_J12_bitCount ?_
        refine mx_icmp_lt (tgt := 121) dX0_hangs_115 rfl (fun c6 => ?_) (fun c6 => ?_)
        · have H := H.1 c6
          refine mx_aload_n dX0_hangs_121 rfl rfl ?_
          refine mx_iload dX0_hangs_122 rfl ?_
          refine mx_iload_n dX0_hangs_124 rfl rfl ?_
          refine mx_if_eq (tgt := 132) dX0_hangs_125 rfl (fun c7 => ?_) (fun c7 => ?_)
          · have H := H.1 c7
            refine mx_iconst dX0_hangs_132 ic_1 ?_
            exact mx_weak (al' := [some (rv a0), none, some (iv x2), some (iv x3), some (iv x4), some (iv x5)]) ⟨rfl, ⟨rfl, ⟨rfl, ⟨rfl, ⟨rfl, trivial⟩⟩⟩⟩⟩ H
          · have H := H.2 c7
            refine mx_iconst dX0_hangs_128 ic_0 ?_
            refine mx_goto (tgt := 133) dX0_hangs_129 rfl ?_
            exact mx_weak (al' := [some (rv a0), none, some (iv x2), some (iv x3), some (iv x4), some (iv x5)]) ⟨rfl, ⟨rfl, ⟨rfl, ⟨rfl, ⟨rfl, trivial⟩⟩⟩⟩⟩ H
        · have H := H.2 c6
          refine mx_goto (tgt := 152) dX0_hangs_118 rfl ?_
          refine mx_iinc (al' := [some (rv a0), none, some (iv x2), some (iv x3), some (iv x4), some (iv (x5 + (1 : Int32)))]) dX0_hangs_152 rfl ic_1 rfl ?_
          refine mx_goto (tgt := 84) dX0_hangs_155 rfl ?_
          exact mx_weak (al' := [some (rv a0), none, some (iv x2), some (iv x3), some (iv x4), some (iv (x5 + (1 : Int32)))]) ⟨rfl, ⟨rfl, ⟨rfl, ⟨rfl, ⟨rfl, trivial⟩⟩⟩⟩⟩ H
theorem v_X0_hangs_133 {G : ma_G} {d : Nat} {a0 : Nat} {x2 : Int32} {x3 : Int32} {x4 : Int32} {x5 : Int32} {z0 : Int32} {h : ah_T} {Q : Option ma_V → ah_T → Prop} {E : Nat → ah_T → Prop} (La0_h : LY0 h a0) (H : MX G mi_X0_wholeFor d 0 [some (rv a0), some (iv x5), some (iv z0), none, none] [] h (Qi fun r2 h1 => ah_ext h h1 → (r2 ≤ 0 → ((0 : Int32) = x2 → MX G mi_X0_hangs (d + 1) 84 [some (rv a0), none, some (iv x2), some (iv x3), some (iv x4), some (iv (x5 + (1 : Int32)))] [] h1 Q E) ∧ (¬ (0 : Int32) = x2 → MX G mi_X0_hangs (d + 1) 84 [some (rv a0), none, some (iv x2), some (iv x3), some (iv x5), some (iv (x5 + (1 : Int32)))] [] h1 Q E)) ∧ (¬ r2 ≤ 0 → ((1 : Int32) = x2 → MX G mi_X0_hangs (d + 1) 84 [some (rv a0), none, some (iv x2), some (iv x3), some (iv x4), some (iv (x5 + (1 : Int32)))] [] h1 Q E) ∧ (¬ (1 : Int32) = x2 → MX G mi_X0_hangs (d + 1) 84 [some (rv a0), none, some (iv x2), some (iv x3), some (iv x5), some (iv (x5 + (1 : Int32)))] [] h1 Q E))) E) : MX G mi_X0_hangs (d + 1) 133 [some (rv a0), none, some (iv x2), some (iv x3), some (iv x4), some (iv x5)] [iv z0, iv x5, rv a0] h Q E := by
  refine mx_callV 0 (y' := mi_X0_wholeFor) (vs := [iv x5, iv z0]) (st := []) (al' := [some (rv a0), some (iv x5), some (iv z0), none, none]) cl_0 V_X0_wholeFor (Or.inl q1579) dX0_hangs_133 rfl rfl (Nat.le_of_ble_eq_true rfl) (Nat.le_of_ble_eq_true rfl) (ly0_k La0_h) ?_
  refine ma_ki H (fun r2 h1 Xh1 H => ?_) (fun x1 h1 X1 H => mt_out rfl H)
  have H := H Xh1
  have La0_h1 := La0_h.ext Xh1
  refine mx_if_le (tgt := 143) dX0_hangs_136 rfl (fun c3 => ?_) (fun c3 => ?_)
  · have H := H.1 c3
    refine mx_iconst dX0_hangs_143 ic_0 ?_
    refine mx_iload_n dX0_hangs_144 rfl rfl ?_
    refine mx_icmp_eq (tgt := 152) dX0_hangs_145 rfl (fun c4 => ?_) (fun c4 => ?_)
    · have H := H.1 c4
      refine mx_iinc (al' := [some (rv a0), none, some (iv x2), some (iv x3), some (iv x4), some (iv (x5 + (1 : Int32)))]) dX0_hangs_152 rfl ic_1 rfl ?_
      refine mx_goto (tgt := 84) dX0_hangs_155 rfl ?_
      exact mx_weak (al' := [some (rv a0), none, some (iv x2), some (iv x3), some (iv x4), some (iv (x5 + (1 : Int32)))]) ⟨rfl, ⟨rfl, ⟨rfl, ⟨rfl, ⟨rfl, trivial⟩⟩⟩⟩⟩ H
    · have H := H.2 c4
      refine mx_iload dX0_hangs_148 rfl ?_
      refine mx_istore (al' := [some (rv a0), none, some (iv x2), some (iv x3), some (iv x5), some (iv x5)]) dX0_hangs_150 (Nat.le_of_ble_eq_true rfl) rfl ?_
      refine mx_iinc (al' := [some (rv a0), none, some (iv x2), some (iv x3), some (iv x5), some (iv (x5 + (1 : Int32)))]) dX0_hangs_152 rfl ic_1 rfl ?_
      refine mx_goto (tgt := 84) dX0_hangs_155 rfl ?_
      exact mx_weak (al' := [some (rv a0), none, some (iv x2), some (iv x3), some (iv x5), some (iv (x5 + (1 : Int32)))]) ⟨rfl, ⟨rfl, ⟨rfl, ⟨rfl, ⟨rfl, trivial⟩⟩⟩⟩⟩ H
  · have H := H.2 c3
    refine mx_iconst dX0_hangs_139 ic_1 ?_
    refine mx_goto (tgt := 144) dX0_hangs_140 rfl ?_
    refine mx_iload_n dX0_hangs_144 rfl rfl ?_
    refine mx_icmp_eq (tgt := 152) dX0_hangs_145 rfl (fun c5 => ?_) (fun c5 => ?_)
    · have H := H.1 c5
      refine mx_iinc (al' := [some (rv a0), none, some (iv x2), some (iv x3), some (iv x4), some (iv (x5 + (1 : Int32)))]) dX0_hangs_152 rfl ic_1 rfl ?_
      refine mx_goto (tgt := 84) dX0_hangs_155 rfl ?_
      exact mx_weak (al' := [some (rv a0), none, some (iv x2), some (iv x3), some (iv x4), some (iv (x5 + (1 : Int32)))]) ⟨rfl, ⟨rfl, ⟨rfl, ⟨rfl, ⟨rfl, trivial⟩⟩⟩⟩⟩ H
    · have H := H.2 c5
      refine mx_iload dX0_hangs_148 rfl ?_
      refine mx_istore (al' := [some (rv a0), none, some (iv x2), some (iv x3), some (iv x5), some (iv x5)]) dX0_hangs_150 (Nat.le_of_ble_eq_true rfl) rfl ?_
      refine mx_iinc (al' := [some (rv a0), none, some (iv x2), some (iv x3), some (iv x5), some (iv (x5 + (1 : Int32)))]) dX0_hangs_152 rfl ic_1 rfl ?_
      refine mx_goto (tgt := 84) dX0_hangs_155 rfl ?_
      exact mx_weak (al' := [some (rv a0), none, some (iv x2), some (iv x3), some (iv x5), some (iv (x5 + (1 : Int32)))]) ⟨rfl, ⟨rfl, ⟨rfl, ⟨rfl, ⟨rfl, trivial⟩⟩⟩⟩⟩ H
theorem dX0_warm_0 : decode mi_X0_warm.2.1 0 = .ok (.iload_n 1, 1) := by decide +kernel
theorem dX0_warm_1 : decode mi_X0_warm.2.1 1 = .ok (.invokestatic 184, 3) := by decide +kernel
theorem dX0_warm_4 : decode mi_X0_warm.2.1 4 = .ok (.ifCond .eq 10, 3) := by decide +kernel
theorem dX0_warm_7 : decode mi_X0_warm.2.1 7 = .ok (.iload_n 2, 1) := by decide +kernel
theorem dX0_warm_8 : decode mi_X0_warm.2.1 8 = .ok (.invokestatic 184, 3) := by decide +kernel
theorem dX0_warm_11 : decode mi_X0_warm.2.1 11 = .ok (.ifCond .ne 9, 3) := by decide +kernel
theorem dX0_warm_14 : decode mi_X0_warm.2.1 14 = .ok (.aload_n 0, 1) := by decide +kernel
theorem dX0_warm_15 : decode mi_X0_warm.2.1 15 = .ok (.iconst 1, 1) := by decide +kernel
theorem dX0_warm_16 : decode mi_X0_warm.2.1 16 = .ok (.invokevirtual 205, 3) := by decide +kernel
theorem dX0_warm_19 : decode mi_X0_warm.2.1 19 = .ok (.ireturn, 1) := by decide +kernel
theorem dX0_warm_20 : decode mi_X0_warm.2.1 20 = .ok (.aload_n 0, 1) := by decide +kernel
theorem dX0_warm_21 : decode mi_X0_warm.2.1 21 = .ok (.getfield 11, 3) := by decide +kernel
theorem dX0_warm_24 : decode mi_X0_warm.2.1 24 = .ok (.iload_n 1, 1) := by decide +kernel
theorem dX0_warm_25 : decode mi_X0_warm.2.1 25 = .ok (.aaload, 1) := by decide +kernel
theorem dX0_warm_26 : decode mi_X0_warm.2.1 26 = .ok (.getfield 215, 3) := by decide +kernel
theorem dX0_warm_29 : decode mi_X0_warm.2.1 29 = .ok (.ifnull 15, 3) := by decide +kernel
theorem dX0_warm_32 : decode mi_X0_warm.2.1 32 = .ok (.aload_n 0, 1) := by decide +kernel
theorem dX0_warm_33 : decode mi_X0_warm.2.1 33 = .ok (.getfield 11, 3) := by decide +kernel
theorem dX0_warm_36 : decode mi_X0_warm.2.1 36 = .ok (.iload_n 2, 1) := by decide +kernel
theorem dX0_warm_37 : decode mi_X0_warm.2.1 37 = .ok (.aaload, 1) := by decide +kernel
theorem dX0_warm_38 : decode mi_X0_warm.2.1 38 = .ok (.getfield 215, 3) := by decide +kernel
theorem dX0_warm_41 : decode mi_X0_warm.2.1 41 = .ok (.ifnonnull 9, 3) := by decide +kernel
theorem dX0_warm_44 : decode mi_X0_warm.2.1 44 = .ok (.aload_n 0, 1) := by decide +kernel
theorem dX0_warm_45 : decode mi_X0_warm.2.1 45 = .ok (.iconst 3, 1) := by decide +kernel
theorem dX0_warm_46 : decode mi_X0_warm.2.1 46 = .ok (.invokevirtual 205, 3) := by decide +kernel
theorem dX0_warm_49 : decode mi_X0_warm.2.1 49 = .ok (.ireturn, 1) := by decide +kernel
theorem dX0_warm_50 : decode mi_X0_warm.2.1 50 = .ok (.iload_n 3, 1) := by decide +kernel
theorem dX0_warm_51 : decode mi_X0_warm.2.1 51 = .ok (.iconst 1, 1) := by decide +kernel
theorem dX0_warm_52 : decode mi_X0_warm.2.1 52 = .ok (.if_icmp .lt 9, 3) := by decide +kernel
theorem dX0_warm_55 : decode mi_X0_warm.2.1 55 = .ok (.iload_n 3, 1) := by decide +kernel
theorem dX0_warm_56 : decode mi_X0_warm.2.1 56 = .ok (.bipush 8, 2) := by decide +kernel
theorem dX0_warm_58 : decode mi_X0_warm.2.1 58 = .ok (.if_icmp .le 9, 3) := by decide +kernel
theorem dX0_warm_61 : decode mi_X0_warm.2.1 61 = .ok (.aload_n 0, 1) := by decide +kernel
theorem dX0_warm_62 : decode mi_X0_warm.2.1 62 = .ok (.iconst 5, 1) := by decide +kernel
theorem dX0_warm_63 : decode mi_X0_warm.2.1 63 = .ok (.invokevirtual 205, 3) := by decide +kernel
theorem dX0_warm_66 : decode mi_X0_warm.2.1 66 = .ok (.ireturn, 1) := by decide +kernel
theorem dX0_warm_67 : decode mi_X0_warm.2.1 67 = .ok (.aload_n 0, 1) := by decide +kernel
theorem dX0_warm_68 : decode mi_X0_warm.2.1 68 = .ok (.getfield 11, 3) := by decide +kernel
theorem dX0_warm_71 : decode mi_X0_warm.2.1 71 = .ok (.iload_n 1, 1) := by decide +kernel
theorem dX0_warm_72 : decode mi_X0_warm.2.1 72 = .ok (.aaload, 1) := by decide +kernel
theorem dX0_warm_73 : decode mi_X0_warm.2.1 73 = .ok (.invokevirtual 580, 3) := by decide +kernel
theorem dX0_warm_76 : decode mi_X0_warm.2.1 76 = .ok (.iload_n 3, 1) := by decide +kernel
theorem dX0_warm_77 : decode mi_X0_warm.2.1 77 = .ok (.if_icmp .lt 16, 3) := by decide +kernel
theorem dX0_warm_80 : decode mi_X0_warm.2.1 80 = .ok (.aload_n 0, 1) := by decide +kernel
theorem dX0_warm_81 : decode mi_X0_warm.2.1 81 = .ok (.getfield 11, 3) := by decide +kernel
theorem dX0_warm_84 : decode mi_X0_warm.2.1 84 = .ok (.iload_n 2, 1) := by decide +kernel
theorem dX0_warm_85 : decode mi_X0_warm.2.1 85 = .ok (.aaload, 1) := by decide +kernel
theorem dX0_warm_86 : decode mi_X0_warm.2.1 86 = .ok (.invokevirtual 580, 3) := by decide +kernel
theorem dX0_warm_89 : decode mi_X0_warm.2.1 89 = .ok (.iload_n 3, 1) := by decide +kernel
theorem dX0_warm_90 : decode mi_X0_warm.2.1 90 = .ok (.if_icmp .ge 9, 3) := by decide +kernel
theorem dX0_warm_93 : decode mi_X0_warm.2.1 93 = .ok (.aload_n 0, 1) := by decide +kernel
theorem dX0_warm_94 : decode mi_X0_warm.2.1 94 = .ok (.iconst 4, 1) := by decide +kernel
theorem dX0_warm_95 : decode mi_X0_warm.2.1 95 = .ok (.invokevirtual 205, 3) := by decide +kernel
theorem dX0_warm_98 : decode mi_X0_warm.2.1 98 = .ok (.ireturn, 1) := by decide +kernel
theorem dX0_warm_99 : decode mi_X0_warm.2.1 99 = .ok (.aload_n 0, 1) := by decide +kernel
theorem dX0_warm_100 : decode mi_X0_warm.2.1 100 = .ok (.iload_n 1, 1) := by decide +kernel
theorem dX0_warm_101 : decode mi_X0_warm.2.1 101 = .ok (.iload_n 3, 1) := by decide +kernel
theorem dX0_warm_102 : decode mi_X0_warm.2.1 102 = .ok (.lconst 0, 1) := by decide +kernel
theorem dX0_warm_103 : decode mi_X0_warm.2.1 103 = .ok (.ldc2_w 582, 3) := by decide +kernel
theorem dX0_warm_106 : decode mi_X0_warm.2.1 106 = .ok (.invokevirtual 584, 3) := by decide +kernel
theorem dX0_warm_109 : decode mi_X0_warm.2.1 109 = .ok (.ifCond .eq 16, 3) := by decide +kernel
theorem dX0_warm_112 : decode mi_X0_warm.2.1 112 = .ok (.aload_n 0, 1) := by decide +kernel
theorem dX0_warm_113 : decode mi_X0_warm.2.1 113 = .ok (.iload_n 2, 1) := by decide +kernel
theorem dX0_warm_114 : decode mi_X0_warm.2.1 114 = .ok (.iload_n 3, 1) := by decide +kernel
theorem dX0_warm_115 : decode mi_X0_warm.2.1 115 = .ok (.lconst 1, 1) := by decide +kernel
theorem dX0_warm_116 : decode mi_X0_warm.2.1 116 = .ok (.ldc2_w 281, 3) := by decide +kernel
theorem dX0_warm_119 : decode mi_X0_warm.2.1 119 = .ok (.invokevirtual 584, 3) := by decide +kernel
theorem dX0_warm_122 : decode mi_X0_warm.2.1 122 = .ok (.ifCond .ne 9, 3) := by decide +kernel
theorem dX0_warm_125 : decode mi_X0_warm.2.1 125 = .ok (.aload_n 0, 1) := by decide +kernel
theorem dX0_warm_126 : decode mi_X0_warm.2.1 126 = .ok (.iconst 5, 1) := by decide +kernel
theorem dX0_warm_127 : decode mi_X0_warm.2.1 127 = .ok (.invokevirtual 205, 3) := by decide +kernel
theorem dX0_warm_130 : decode mi_X0_warm.2.1 130 = .ok (.ireturn, 1) := by decide +kernel
theorem dX0_warm_131 : decode mi_X0_warm.2.1 131 = .ok (.iconst 0, 1) := by decide +kernel
theorem dX0_warm_132 : decode mi_X0_warm.2.1 132 = .ok (.istore 4, 2) := by decide +kernel
theorem dX0_warm_134 : decode mi_X0_warm.2.1 134 = .ok (.iload 4, 2) := by decide +kernel
theorem dX0_warm_136 : decode mi_X0_warm.2.1 136 = .ok (.iload_n 3, 1) := by decide +kernel
theorem dX0_warm_137 : decode mi_X0_warm.2.1 137 = .ok (.if_icmp .ge 47, 3) := by decide +kernel
theorem dX0_warm_140 : decode mi_X0_warm.2.1 140 = .ok (.aload_n 0, 1) := by decide +kernel
theorem dX0_warm_141 : decode mi_X0_warm.2.1 141 = .ok (.getfield 142, 3) := by decide +kernel
theorem dX0_warm_144 : decode mi_X0_warm.2.1 144 = .ok (.iload 4, 2) := by decide +kernel
theorem dX0_warm_146 : decode mi_X0_warm.2.1 146 = .ok (.aload_n 0, 1) := by decide +kernel
theorem dX0_warm_147 : decode mi_X0_warm.2.1 147 = .ok (.getfield 11, 3) := by decide +kernel
theorem dX0_warm_150 : decode mi_X0_warm.2.1 150 = .ok (.iload_n 1, 1) := by decide +kernel
theorem dX0_warm_151 : decode mi_X0_warm.2.1 151 = .ok (.aaload, 1) := by decide +kernel
theorem dX0_warm_152 : decode mi_X0_warm.2.1 152 = .ok (.iload 4, 2) := by decide +kernel
theorem dX0_warm_154 : decode mi_X0_warm.2.1 154 = .ok (.invokevirtual 209, 3) := by decide +kernel
theorem dX0_warm_157 : decode mi_X0_warm.2.1 157 = .ok (.l2i, 1) := by decide +kernel
theorem dX0_warm_158 : decode mi_X0_warm.2.1 158 = .ok (.iastore, 1) := by decide +kernel
theorem dX0_warm_159 : decode mi_X0_warm.2.1 159 = .ok (.aload_n 0, 1) := by decide +kernel
theorem dX0_warm_160 : decode mi_X0_warm.2.1 160 = .ok (.getfield 145, 3) := by decide +kernel
theorem dX0_warm_163 : decode mi_X0_warm.2.1 163 = .ok (.iload 4, 2) := by decide +kernel
theorem dX0_warm_165 : decode mi_X0_warm.2.1 165 = .ok (.aload_n 0, 1) := by decide +kernel
theorem dX0_warm_166 : decode mi_X0_warm.2.1 166 = .ok (.getfield 11, 3) := by decide +kernel
theorem dX0_warm_169 : decode mi_X0_warm.2.1 169 = .ok (.iload_n 2, 1) := by decide +kernel
theorem dX0_warm_170 : decode mi_X0_warm.2.1 170 = .ok (.aaload, 1) := by decide +kernel
theorem dX0_warm_171 : decode mi_X0_warm.2.1 171 = .ok (.iload 4, 2) := by decide +kernel
theorem dX0_warm_173 : decode mi_X0_warm.2.1 173 = .ok (.invokevirtual 209, 3) := by decide +kernel
theorem dX0_warm_176 : decode mi_X0_warm.2.1 176 = .ok (.l2i, 1) := by decide +kernel
theorem dX0_warm_177 : decode mi_X0_warm.2.1 177 = .ok (.iastore, 1) := by decide +kernel
theorem dX0_warm_178 : decode mi_X0_warm.2.1 178 = .ok (.iinc 4 1, 3) := by decide +kernel
theorem dX0_warm_181 : decode mi_X0_warm.2.1 181 = .ok (.goto (-47), 3) := by decide +kernel
theorem dX0_warm_184 : decode mi_X0_warm.2.1 184 = .ok (.bipush 20, 2) := by decide +kernel
theorem dX0_warm_186 : decode mi_X0_warm.2.1 186 = .ok (.istore 4, 2) := by decide +kernel
theorem dX0_warm_188 : decode mi_X0_warm.2.1 188 = .ok (.iload 4, 2) := by decide +kernel
theorem dX0_warm_190 : decode mi_X0_warm.2.1 190 = .ok (.ifCond .lt 139, 3) := by decide +kernel
theorem dX0_warm_193 : decode mi_X0_warm.2.1 193 = .ok (.iconst 0, 1) := by decide +kernel
theorem dX0_warm_194 : decode mi_X0_warm.2.1 194 = .ok (.istore 5, 2) := by decide +kernel
theorem dX0_warm_196 : decode mi_X0_warm.2.1 196 = .ok (.iload 5, 2) := by decide +kernel
theorem dX0_warm_198 : decode mi_X0_warm.2.1 198 = .ok (.iconst 1, 1) := by decide +kernel
theorem dX0_warm_199 : decode mi_X0_warm.2.1 199 = .ok (.iload_n 3, 1) := by decide +kernel
theorem dX0_warm_200 : decode mi_X0_warm.2.1 200 = .ok (.ishl, 1) := by decide +kernel
theorem dX0_warm_201 : decode mi_X0_warm.2.1 201 = .ok (.if_icmp .ge 122, 3) := by decide +kernel
theorem dX0_warm_204 : decode mi_X0_warm.2.1 204 = .ok (.iload 4, 2) := by decide +kernel
theorem dX0_warm_206 : decode mi_X0_warm.2.1 206 = .ok (.bipush 20, 2) := by decide +kernel
theorem dX0_warm_208 : decode mi_X0_warm.2.1 208 = .ok (.if_icmp .ne 7, 3) := by decide +kernel
theorem dX0_warm_211 : decode mi_X0_warm.2.1 211 = .ok (.iconst 0, 1) := by decide +kernel
theorem dX0_warm_212 : decode mi_X0_warm.2.1 212 = .ok (.goto 15, 3) := by decide +kernel
theorem dX0_warm_215 : decode mi_X0_warm.2.1 215 = .ok (.aload_n 0, 1) := by decide +kernel
theorem dX0_warm_216 : decode mi_X0_warm.2.1 216 = .ok (.getfield 153, 3) := by decide +kernel
theorem dX0_warm_219 : decode mi_X0_warm.2.1 219 = .ok (.iload 4, 2) := by decide +kernel
theorem dX0_warm_221 : decode mi_X0_warm.2.1 221 = .ok (.iconst 1, 1) := by decide +kernel
theorem dX0_warm_222 : decode mi_X0_warm.2.1 222 = .ok (.iadd, 1) := by decide +kernel
theorem dX0_warm_223 : decode mi_X0_warm.2.1 223 = .ok (.aaload, 1) := by decide +kernel
theorem dX0_warm_224 : decode mi_X0_warm.2.1 224 = .ok (.iload 5, 2) := by decide +kernel
theorem dX0_warm_226 : decode mi_X0_warm.2.1 226 = .ok (.iaload, 1) := by decide +kernel
theorem dX0_warm_227 : decode mi_X0_warm.2.1 227 = .ok (.istore 6, 2) := by decide +kernel
theorem dX0_warm_229 : decode mi_X0_warm.2.1 229 = .ok (.iconst 0, 1) := by decide +kernel
theorem dX0_warm_230 : decode mi_X0_warm.2.1 230 = .ok (.istore 7, 2) := by decide +kernel
theorem dX0_warm_232 : decode mi_X0_warm.2.1 232 = .ok (.iload 7, 2) := by decide +kernel
theorem dX0_warm_234 : decode mi_X0_warm.2.1 234 = .ok (.iload_n 3, 1) := by decide +kernel
theorem dX0_warm_235 : decode mi_X0_warm.2.1 235 = .ok (.if_icmp .ge 70, 3) := by decide +kernel
theorem dX0_warm_238 : decode mi_X0_warm.2.1 238 = .ok (.iload 4, 2) := by decide +kernel
theorem dX0_warm_240 : decode mi_X0_warm.2.1 240 = .ok (.bipush 20, 2) := by decide +kernel
theorem dX0_warm_242 : decode mi_X0_warm.2.1 242 = .ok (.if_icmp .ge 63, 3) := by decide +kernel
theorem dX0_warm_245 : decode mi_X0_warm.2.1 245 = .ok (.iload 5, 2) := by decide +kernel
theorem dX0_warm_247 : decode mi_X0_warm.2.1 247 = .ok (.iload 7, 2) := by decide +kernel
theorem dX0_warm_249 : decode mi_X0_warm.2.1 249 = .ok (.ishr, 1) := by decide +kernel
theorem dX0_warm_250 : decode mi_X0_warm.2.1 250 = .ok (.iconst 1, 1) := by decide +kernel
theorem dX0_warm_251 : decode mi_X0_warm.2.1 251 = .ok (.iand, 1) := by decide +kernel
theorem dX0_warm_252 : decode mi_X0_warm.2.1 252 = .ok (.ifCond .ne 47, 3) := by decide +kernel
theorem dX0_warm_255 : decode mi_X0_warm.2.1 255 = .ok (.iload 4, 2) := by decide +kernel
theorem dX0_warm_257 : decode mi_X0_warm.2.1 257 = .ok (.aload_n 0, 1) := by decide +kernel
theorem dX0_warm_258 : decode mi_X0_warm.2.1 258 = .ok (.getfield 142, 3) := by decide +kernel
theorem dX0_warm_261 : decode mi_X0_warm.2.1 261 = .ok (.iload 7, 2) := by decide +kernel
theorem dX0_warm_263 : decode mi_X0_warm.2.1 263 = .ok (.iaload, 1) := by decide +kernel
theorem dX0_warm_264 : decode mi_X0_warm.2.1 264 = .ok (.if_icmp .ge 35, 3) := by decide +kernel
theorem dX0_warm_267 : decode mi_X0_warm.2.1 267 = .ok (.iload 6, 2) := by decide +kernel
theorem dX0_warm_269 : decode mi_X0_warm.2.1 269 = .ok (.aload_n 0, 1) := by decide +kernel
theorem dX0_warm_270 : decode mi_X0_warm.2.1 270 = .ok (.getfield 145, 3) := by decide +kernel
theorem dX0_warm_273 : decode mi_X0_warm.2.1 273 = .ok (.iload 7, 2) := by decide +kernel
theorem dX0_warm_275 : decode mi_X0_warm.2.1 275 = .ok (.iaload, 1) := by decide +kernel
theorem dX0_warm_276 : decode mi_X0_warm.2.1 276 = .ok (.aload_n 0, 1) := by decide +kernel
theorem dX0_warm_277 : decode mi_X0_warm.2.1 277 = .ok (.getfield 153, 3) := by decide +kernel
theorem dX0_warm_280 : decode mi_X0_warm.2.1 280 = .ok (.iload 4, 2) := by decide +kernel
theorem dX0_warm_282 : decode mi_X0_warm.2.1 282 = .ok (.iconst 1, 1) := by decide +kernel
theorem dX0_warm_283 : decode mi_X0_warm.2.1 283 = .ok (.iadd, 1) := by decide +kernel
theorem dX0_warm_284 : decode mi_X0_warm.2.1 284 = .ok (.aaload, 1) := by decide +kernel
theorem dX0_warm_285 : decode mi_X0_warm.2.1 285 = .ok (.iload 5, 2) := by decide +kernel
theorem dX0_warm_287 : decode mi_X0_warm.2.1 287 = .ok (.iconst 1, 1) := by decide +kernel
theorem dX0_warm_288 : decode mi_X0_warm.2.1 288 = .ok (.iload 7, 2) := by decide +kernel
theorem dX0_warm_290 : decode mi_X0_warm.2.1 290 = .ok (.ishl, 1) := by decide +kernel
theorem dX0_warm_291 : decode mi_X0_warm.2.1 291 = .ok (.ior, 1) := by decide +kernel
theorem dX0_warm_292 : decode mi_X0_warm.2.1 292 = .ok (.iaload, 1) := by decide +kernel
theorem dX0_warm_293 : decode mi_X0_warm.2.1 293 = .ok (.iadd, 1) := by decide +kernel
theorem dX0_warm_294 : decode mi_X0_warm.2.1 294 = .ok (.invokestatic 525, 3) := by decide +kernel
theorem dX0_warm_297 : decode mi_X0_warm.2.1 297 = .ok (.istore 6, 2) := by decide +kernel
theorem dX0_warm_299 : decode mi_X0_warm.2.1 299 = .ok (.iinc 7 1, 3) := by decide +kernel
theorem dX0_warm_302 : decode mi_X0_warm.2.1 302 = .ok (.goto (-70), 3) := by decide +kernel
theorem dX0_warm_305 : decode mi_X0_warm.2.1 305 = .ok (.aload_n 0, 1) := by decide +kernel
theorem dX0_warm_306 : decode mi_X0_warm.2.1 306 = .ok (.getfield 153, 3) := by decide +kernel
theorem dX0_warm_309 : decode mi_X0_warm.2.1 309 = .ok (.iload 4, 2) := by decide +kernel
theorem dX0_warm_311 : decode mi_X0_warm.2.1 311 = .ok (.aaload, 1) := by decide +kernel
theorem dX0_warm_312 : decode mi_X0_warm.2.1 312 = .ok (.iload 5, 2) := by decide +kernel
theorem dX0_warm_314 : decode mi_X0_warm.2.1 314 = .ok (.iload 6, 2) := by decide +kernel
theorem dX0_warm_316 : decode mi_X0_warm.2.1 316 = .ok (.iastore, 1) := by decide +kernel
theorem dX0_warm_317 : decode mi_X0_warm.2.1 317 = .ok (.iinc 5 1, 3) := by decide +kernel
theorem dX0_warm_320 : decode mi_X0_warm.2.1 320 = .ok (.goto (-124), 3) := by decide +kernel
theorem dX0_warm_323 : decode mi_X0_warm.2.1 323 = .ok (.iinc 4 (-1), 3) := by decide +kernel
theorem dX0_warm_326 : decode mi_X0_warm.2.1 326 = .ok (.goto (-138), 3) := by decide +kernel
theorem dX0_warm_329 : decode mi_X0_warm.2.1 329 = .ok (.iconst 0, 1) := by decide +kernel
theorem dX0_warm_330 : decode mi_X0_warm.2.1 330 = .ok (.istore 4, 2) := by decide +kernel
theorem dX0_warm_332 : decode mi_X0_warm.2.1 332 = .ok (.iconst 0, 1) := by decide +kernel
theorem dX0_warm_333 : decode mi_X0_warm.2.1 333 = .ok (.istore 5, 2) := by decide +kernel
theorem dX0_warm_335 : decode mi_X0_warm.2.1 335 = .ok (.iload 5, 2) := by decide +kernel
theorem dX0_warm_337 : decode mi_X0_warm.2.1 337 = .ok (.bipush 20, 2) := by decide +kernel
theorem dX0_warm_339 : decode mi_X0_warm.2.1 339 = .ok (.if_icmp .ge 116, 3) := by decide +kernel
theorem dX0_warm_342 : decode mi_X0_warm.2.1 342 = .ok (.iconst (-1), 1) := by decide +kernel
theorem dX0_warm_343 : decode mi_X0_warm.2.1 343 = .ok (.istore 6, 2) := by decide +kernel
theorem dX0_warm_345 : decode mi_X0_warm.2.1 345 = .ok (.iload_n 3, 1) := by decide +kernel
theorem dX0_warm_346 : decode mi_X0_warm.2.1 346 = .ok (.iconst 1, 1) := by decide +kernel
theorem dX0_warm_347 : decode mi_X0_warm.2.1 347 = .ok (.isub, 1) := by decide +kernel
theorem dX0_warm_348 : decode mi_X0_warm.2.1 348 = .ok (.istore 7, 2) := by decide +kernel
theorem dX0_warm_350 : decode mi_X0_warm.2.1 350 = .ok (.iload 7, 2) := by decide +kernel
theorem dX0_warm_352 : decode mi_X0_warm.2.1 352 = .ok (.ifCond .lt 73, 3) := by decide +kernel
theorem dX0_warm_355 : decode mi_X0_warm.2.1 355 = .ok (.iload 4, 2) := by decide +kernel
theorem dX0_warm_357 : decode mi_X0_warm.2.1 357 = .ok (.iload 7, 2) := by decide +kernel
theorem dX0_warm_359 : decode mi_X0_warm.2.1 359 = .ok (.ishr, 1) := by decide +kernel
theorem dX0_warm_360 : decode mi_X0_warm.2.1 360 = .ok (.iconst 1, 1) := by decide +kernel
theorem dX0_warm_361 : decode mi_X0_warm.2.1 361 = .ok (.iand, 1) := by decide +kernel
theorem dX0_warm_362 : decode mi_X0_warm.2.1 362 = .ok (.ifCond .ne 57, 3) := by decide +kernel
theorem dX0_warm_365 : decode mi_X0_warm.2.1 365 = .ok (.iload 5, 2) := by decide +kernel
theorem dX0_warm_367 : decode mi_X0_warm.2.1 367 = .ok (.aload_n 0, 1) := by decide +kernel
theorem dX0_warm_368 : decode mi_X0_warm.2.1 368 = .ok (.getfield 142, 3) := by decide +kernel
theorem dX0_warm_371 : decode mi_X0_warm.2.1 371 = .ok (.iload 7, 2) := by decide +kernel
theorem dX0_warm_373 : decode mi_X0_warm.2.1 373 = .ok (.iaload, 1) := by decide +kernel
theorem dX0_warm_374 : decode mi_X0_warm.2.1 374 = .ok (.if_icmp .ge 45, 3) := by decide +kernel
theorem dX0_warm_377 : decode mi_X0_warm.2.1 377 = .ok (.aload_n 0, 1) := by decide +kernel
theorem dX0_warm_378 : decode mi_X0_warm.2.1 378 = .ok (.getfield 145, 3) := by decide +kernel
theorem dX0_warm_381 : decode mi_X0_warm.2.1 381 = .ok (.iload 7, 2) := by decide +kernel
theorem dX0_warm_383 : decode mi_X0_warm.2.1 383 = .ok (.iaload, 1) := by decide +kernel
theorem dX0_warm_384 : decode mi_X0_warm.2.1 384 = .ok (.aload_n 0, 1) := by decide +kernel
theorem dX0_warm_385 : decode mi_X0_warm.2.1 385 = .ok (.getfield 153, 3) := by decide +kernel
theorem dX0_warm_388 : decode mi_X0_warm.2.1 388 = .ok (.iload 5, 2) := by decide +kernel
theorem dX0_warm_390 : decode mi_X0_warm.2.1 390 = .ok (.iconst 1, 1) := by decide +kernel
theorem dX0_warm_391 : decode mi_X0_warm.2.1 391 = .ok (.iadd, 1) := by decide +kernel
theorem dX0_warm_392 : decode mi_X0_warm.2.1 392 = .ok (.aaload, 1) := by decide +kernel
theorem dX0_warm_393 : decode mi_X0_warm.2.1 393 = .ok (.iload 4, 2) := by decide +kernel
theorem dX0_warm_395 : decode mi_X0_warm.2.1 395 = .ok (.iconst 1, 1) := by decide +kernel
theorem dX0_warm_396 : decode mi_X0_warm.2.1 396 = .ok (.iload 7, 2) := by decide +kernel
theorem dX0_warm_398 : decode mi_X0_warm.2.1 398 = .ok (.ishl, 1) := by decide +kernel
theorem dX0_warm_399 : decode mi_X0_warm.2.1 399 = .ok (.ior, 1) := by decide +kernel
theorem dX0_warm_400 : decode mi_X0_warm.2.1 400 = .ok (.iaload, 1) := by decide +kernel
theorem dX0_warm_401 : decode mi_X0_warm.2.1 401 = .ok (.iadd, 1) := by decide +kernel
theorem dX0_warm_402 : decode mi_X0_warm.2.1 402 = .ok (.aload_n 0, 1) := by decide +kernel
theorem dX0_warm_403 : decode mi_X0_warm.2.1 403 = .ok (.getfield 153, 3) := by decide +kernel
theorem dX0_warm_406 : decode mi_X0_warm.2.1 406 = .ok (.iload 5, 2) := by decide +kernel
theorem dX0_warm_408 : decode mi_X0_warm.2.1 408 = .ok (.aaload, 1) := by decide +kernel
theorem dX0_warm_409 : decode mi_X0_warm.2.1 409 = .ok (.iload 4, 2) := by decide +kernel
theorem dX0_warm_411 : decode mi_X0_warm.2.1 411 = .ok (.iaload, 1) := by decide +kernel
theorem dX0_warm_412 : decode mi_X0_warm.2.1 412 = .ok (.if_icmp .ne 7, 3) := by decide +kernel
theorem dX0_warm_415 : decode mi_X0_warm.2.1 415 = .ok (.iload 7, 2) := by decide +kernel
theorem dX0_warm_417 : decode mi_X0_warm.2.1 417 = .ok (.istore 6, 2) := by decide +kernel
theorem dX0_warm_419 : decode mi_X0_warm.2.1 419 = .ok (.iinc 7 (-1), 3) := by decide +kernel
theorem dX0_warm_422 : decode mi_X0_warm.2.1 422 = .ok (.goto (-72), 3) := by decide +kernel
theorem dX0_warm_425 : decode mi_X0_warm.2.1 425 = .ok (.aload_n 0, 1) := by decide +kernel
theorem dX0_warm_426 : decode mi_X0_warm.2.1 426 = .ok (.getfield 148, 3) := by decide +kernel
theorem dX0_warm_429 : decode mi_X0_warm.2.1 429 = .ok (.iload 5, 2) := by decide +kernel
theorem dX0_warm_431 : decode mi_X0_warm.2.1 431 = .ok (.iload 6, 2) := by decide +kernel
theorem dX0_warm_433 : decode mi_X0_warm.2.1 433 = .ok (.iastore, 1) := by decide +kernel
theorem dX0_warm_434 : decode mi_X0_warm.2.1 434 = .ok (.iload 6, 2) := by decide +kernel
theorem dX0_warm_436 : decode mi_X0_warm.2.1 436 = .ok (.iconst (-1), 1) := by decide +kernel
theorem dX0_warm_437 : decode mi_X0_warm.2.1 437 = .ok (.if_icmp .eq 12, 3) := by decide +kernel
theorem dX0_warm_440 : decode mi_X0_warm.2.1 440 = .ok (.iload 4, 2) := by decide +kernel
theorem dX0_warm_442 : decode mi_X0_warm.2.1 442 = .ok (.iconst 1, 1) := by decide +kernel
theorem dX0_warm_443 : decode mi_X0_warm.2.1 443 = .ok (.iload 6, 2) := by decide +kernel
theorem dX0_warm_445 : decode mi_X0_warm.2.1 445 = .ok (.ishl, 1) := by decide +kernel
theorem dX0_warm_446 : decode mi_X0_warm.2.1 446 = .ok (.ior, 1) := by decide +kernel
theorem dX0_warm_447 : decode mi_X0_warm.2.1 447 = .ok (.istore 4, 2) := by decide +kernel
theorem dX0_warm_449 : decode mi_X0_warm.2.1 449 = .ok (.iinc 5 1, 3) := by decide +kernel
theorem dX0_warm_452 : decode mi_X0_warm.2.1 452 = .ok (.goto (-117), 3) := by decide +kernel
theorem dX0_warm_455 : decode mi_X0_warm.2.1 455 = .ok (.aload_n 0, 1) := by decide +kernel
theorem dX0_warm_456 : decode mi_X0_warm.2.1 456 = .ok (.iconst 1, 1) := by decide +kernel
theorem dX0_warm_457 : decode mi_X0_warm.2.1 457 = .ok (.putfield 588, 3) := by decide +kernel
theorem dX0_warm_460 : decode mi_X0_warm.2.1 460 = .ok (.aload_n 0, 1) := by decide +kernel
theorem dX0_warm_461 : decode mi_X0_warm.2.1 461 = .ok (.aload_n 0, 1) := by decide +kernel
theorem dX0_warm_462 : decode mi_X0_warm.2.1 462 = .ok (.getfield 153, 3) := by decide +kernel
theorem dX0_warm_465 : decode mi_X0_warm.2.1 465 = .ok (.iconst 0, 1) := by decide +kernel
theorem dX0_warm_466 : decode mi_X0_warm.2.1 466 = .ok (.aaload, 1) := by decide +kernel
theorem dX0_warm_467 : decode mi_X0_warm.2.1 467 = .ok (.iconst 0, 1) := by decide +kernel
theorem dX0_warm_468 : decode mi_X0_warm.2.1 468 = .ok (.iaload, 1) := by decide +kernel
theorem dX0_warm_469 : decode mi_X0_warm.2.1 469 = .ok (.invokevirtual 250, 3) := by decide +kernel
theorem dX0_warm_472 : decode mi_X0_warm.2.1 472 = .ok (.ireturn, 1) := by decide +kernel
theorem v_X0_warm {G : ma_G} {d : Nat} {a0 : Nat} {x1 : Int32} {x2 : Int32} {x3 : Int32} {h : ah_T} {Q : Option ma_V → ah_T → Prop} {E : Nat → ah_T → Prop} (La0_h : LY0 h a0) (H : (x1 < 0 → ∀ h2 : ah_T, h2 = ah_wI h a0 20 (1 : Int32) → ah_ext h h2 → Q (some (iv (-1 : Int32))) h2) ∧ (¬ x1 < 0 → ((4 : Int32) ≤ x1 → ∀ h4 : ah_T, h4 = ah_wI h a0 20 (1 : Int32) → ah_ext h h4 → Q (some (iv (-1 : Int32))) h4) ∧ (¬ (4 : Int32) ≤ x1 → (x2 < 0 → ∀ h6 : ah_T, h6 = ah_wI h a0 20 (1 : Int32) → ah_ext h h6 → Q (some (iv (-1 : Int32))) h6) ∧ (¬ x2 < 0 → ((4 : Int32) ≤ x2 → ∀ h8 : ah_T, h8 = ah_wI h a0 20 (1 : Int32) → ah_ext h h8 → Q (some (iv (-1 : Int32))) h8) ∧ (¬ (4 : Int32) ≤ x2 → vp_in x1 4 ∧ ((ah_R h (a0 + (1494 + x1.toNatClampNeg)) 0) = 0 → ∀ h11 : ah_T, h11 = ah_wI h a0 20 (3 : Int32) → ah_ext h h11 → Q (some (iv (-1 : Int32))) h11) ∧ (¬ (ah_R h (a0 + (1494 + x1.toNatClampNeg)) 0) = 0 → vp_in x2 4 ∧ (¬ (ah_R h (a0 + (1494 + x2.toNatClampNeg)) 0) = 0 → (x3 < (1 : Int32) → ∀ h15 : ah_T, h15 = ah_wI h a0 20 (5 : Int32) → ah_ext h h15 → Q (some (iv (-1 : Int32))) h15) ∧ (¬ x3 < (1 : Int32) → (x3 ≤ (8 : Int32) → MX G mi_X7_many d 0 [some (rv (a0 + (1494 + x1.toNatClampNeg)))] [] h (Qi fun r18 h17 => ah_ext h h17 → (r18 < x3 → ∀ h20 : ah_T, h20 = ah_wI h17 a0 20 (4 : Int32) → ah_ext h17 h20 → Q (some (iv (-1 : Int32))) h20) ∧ (¬ r18 < x3 → MX G mi_X7_many d 0 [some (rv (a0 + (1494 + x2.toNatClampNeg)))] [] h17 (Qi fun r22 h21 => ah_ext h17 h21 → (x3 ≤ r22 → MX G mi_X0_areFrom d 0 [some (rv a0), some (iv x1), some (iv x3), some (jv (0 : Int64)), none, some (jv (20 : Int64)), none, none] [] h21 (Qi fun r25 h24 => ah_ext h21 h24 → (r25 = 0 → ∀ h27 : ah_T, h27 = ah_wI h24 a0 20 (5 : Int32) → ah_ext h24 h27 → Q (some (iv (-1 : Int32))) h27) ∧ (¬ r25 = 0 → MX G mi_X0_areFrom d 0 [some (rv a0), some (iv x2), some (iv x3), some (jv (1 : Int64)), none, some (jv (10000 : Int64)), none, none] [] h24 (Qi fun r29 h28 => ah_ext h24 h28 → (¬ r29 = 0 → MX G mi_X0_warm (d + 1) 134 [some (rv a0), some (iv x1), some (iv x2), some (iv x3), some (iv (0 : Int32)), none, none, none] [] h28 Q E) ∧ (r29 = 0 → ∀ h31 : ah_T, h31 = ah_wI h28 a0 20 (5 : Int32) → ah_ext h28 h31 → Q (some (iv (-1 : Int32))) h31)) E)) E) ∧ (¬ x3 ≤ r22 → ∀ h32 : ah_T, h32 = ah_wI h21 a0 20 (4 : Int32) → ah_ext h21 h32 → Q (some (iv (-1 : Int32))) h32)) E)) E) ∧ (¬ x3 ≤ (8 : Int32) → ∀ h33 : ah_T, h33 = ah_wI h a0 20 (5 : Int32) → ah_ext h h33 → Q (some (iv (-1 : Int32))) h33))) ∧ ((ah_R h (a0 + (1494 + x2.toNatClampNeg)) 0) = 0 → ∀ h34 : ah_T, h34 = ah_wI h a0 20 (3 : Int32) → ah_ext h h34 → Q (some (iv (-1 : Int32))) h34))))))) : MX G mi_X0_warm (d + 1) 0 [some (rv a0), some (iv x1), some (iv x2), some (iv x3), none, none, none, none] [] h Q E := by
  refine mx_iload_n dX0_warm_0 rfl rfl ?_
  refine mx_callS (y' := mi_X0_isTray) (vs := [iv x1]) (st := []) (al' := [some (iv x1)]) S_X0_isTray q661 dX0_warm_1 rfl rfl (Nat.le_of_ble_eq_true rfl) (Nat.le_of_ble_eq_true rfl) ?_
  refine mx_iload_n dX0_isTray_0 rfl rfl ?_
  refine mx_if_lt (tgt := 13) dX0_isTray_1 rfl (fun c1 => ?_) (fun c1 => ?_)
  · have H := H.1 c1
    refine mx_iconst dX0_isTray_13 ic_0 ?_
    refine mx_zretK rfl dX0_isTray_14 (Or.inl rfl) ?_
    refine mx_if_eq (tgt := 14) dX0_warm_4 rfl (fun _ => ?_) (fun _ => absurd ‹_› (by decide))
    refine mx_aload_n dX0_warm_14 rfl rfl ?_
    refine mx_iconst dX0_warm_15 ic_1 ?_
    refine mx_callV 0 (y' := mi_X0_none) (vs := [iv (1 : Int32)]) (st := []) (al' := [some (rv a0), some (iv (1 : Int32))]) cl_0 V_X0_none (Or.inl q733) dX0_warm_16 rfl rfl (Nat.le_of_ble_eq_true rfl) (Nat.le_of_ble_eq_true rfl) (ly0_k La0_h) ?_
    refine mx_aload_n dX0_none_0 rfl rfl ?_
    refine mx_iload_n dX0_none_1 rfl rfl ?_
    refine mx_putI 0 20 (ref := "PrairiePool") cl_0 (Nat.le_of_ble_eq_true rfl) (Or.inl q480) (Or.inl rfl) dX0_none_2 (Or.inl rfl) rfl (ly0_k La0_h) ?_
    refine mx_nmI  (fun h2 eh2 Xh2 Kh2 Lh2 => ?_)
    have H := H h2 eh2 Xh2
    have La0_h2 := La0_h.ext Xh2
    refine mx_iconst dX0_none_5 ic_m1 ?_
    refine mx_iretK rfl dX0_none_6 ?_
    exact mx_iret rfl dX0_warm_19 H
  · have H := H.2 c1
    refine mx_iload_n dX0_isTray_4 rfl rfl ?_
    refine mx_iconst dX0_isTray_5 ic_4 ?_
    refine mx_icmp_ge (tgt := 13) dX0_isTray_6 rfl (fun c3 => ?_) (fun c3 => ?_)
    · have H := H.1 c3
      refine mx_iconst dX0_isTray_13 ic_0 ?_
      refine mx_zretK rfl dX0_isTray_14 (Or.inl rfl) ?_
      refine mx_if_eq (tgt := 14) dX0_warm_4 rfl (fun _ => ?_) (fun _ => absurd ‹_› (by decide))
      refine mx_aload_n dX0_warm_14 rfl rfl ?_
      refine mx_iconst dX0_warm_15 ic_1 ?_
      refine mx_callV 0 (y' := mi_X0_none) (vs := [iv (1 : Int32)]) (st := []) (al' := [some (rv a0), some (iv (1 : Int32))]) cl_0 V_X0_none (Or.inl q733) dX0_warm_16 rfl rfl (Nat.le_of_ble_eq_true rfl) (Nat.le_of_ble_eq_true rfl) (ly0_k La0_h) ?_
      refine mx_aload_n dX0_none_0 rfl rfl ?_
      refine mx_iload_n dX0_none_1 rfl rfl ?_
      refine mx_putI 0 20 (ref := "PrairiePool") cl_0 (Nat.le_of_ble_eq_true rfl) (Or.inl q480) (Or.inl rfl) dX0_none_2 (Or.inl rfl) rfl (ly0_k La0_h) ?_
      refine mx_nmI  (fun h4 eh4 Xh4 Kh4 Lh4 => ?_)
      have H := H h4 eh4 Xh4
      have La0_h4 := La0_h.ext Xh4
      refine mx_iconst dX0_none_5 ic_m1 ?_
      refine mx_iretK rfl dX0_none_6 ?_
      exact mx_iret rfl dX0_warm_19 H
    · have H := H.2 c3
      refine mx_iconst dX0_isTray_9 ic_1 ?_
      refine mx_goto (tgt := 14) dX0_isTray_10 rfl ?_
      refine mx_zretK rfl dX0_isTray_14 (Or.inr rfl) ?_
      refine mx_if_eq (tgt := 14) dX0_warm_4 rfl (fun _ => absurd ‹_› (by decide)) (fun _ => ?_)
      refine mx_iload_n dX0_warm_7 rfl rfl ?_
      refine mx_callS (y' := mi_X0_isTray) (vs := [iv x2]) (st := []) (al' := [some (iv x2)]) S_X0_isTray q661 dX0_warm_8 rfl rfl (Nat.le_of_ble_eq_true rfl) (Nat.le_of_ble_eq_true rfl) ?_
      refine mx_iload_n dX0_isTray_0 rfl rfl ?_
      refine mx_if_lt (tgt := 13) dX0_isTray_1 rfl (fun c5 => ?_) (fun c5 => ?_)
      · have H := H.1 c5
        refine mx_iconst dX0_isTray_13 ic_0 ?_
        refine mx_zretK rfl dX0_isTray_14 (Or.inl rfl) ?_
        refine mx_if_ne (tgt := 20) dX0_warm_11 rfl (fun _ => absurd ‹_› (by decide)) (fun _ => ?_)
        refine mx_aload_n dX0_warm_14 rfl rfl ?_
        refine mx_iconst dX0_warm_15 ic_1 ?_
        refine mx_callV 0 (y' := mi_X0_none) (vs := [iv (1 : Int32)]) (st := []) (al' := [some (rv a0), some (iv (1 : Int32))]) cl_0 V_X0_none (Or.inl q733) dX0_warm_16 rfl rfl (Nat.le_of_ble_eq_true rfl) (Nat.le_of_ble_eq_true rfl) (ly0_k La0_h) ?_
        refine mx_aload_n dX0_none_0 rfl rfl ?_
        refine mx_iload_n dX0_none_1 rfl rfl ?_
        refine mx_putI 0 20 (ref := "PrairiePool") cl_0 (Nat.le_of_ble_eq_true rfl) (Or.inl q480) (Or.inl rfl) dX0_none_2 (Or.inl rfl) rfl (ly0_k La0_h) ?_
        refine mx_nmI  (fun h6 eh6 Xh6 Kh6 Lh6 => ?_)
        have H := H h6 eh6 Xh6
        have La0_h6 := La0_h.ext Xh6
        refine mx_iconst dX0_none_5 ic_m1 ?_
        refine mx_iretK rfl dX0_none_6 ?_
        exact mx_iret rfl dX0_warm_19 H
      · have H := H.2 c5
        refine mx_iload_n dX0_isTray_4 rfl rfl ?_
        refine mx_iconst dX0_isTray_5 ic_4 ?_
        refine mx_icmp_ge (tgt := 13) dX0_isTray_6 rfl (fun c7 => ?_) (fun c7 => ?_)
        · have H := H.1 c7
          refine mx_iconst dX0_isTray_13 ic_0 ?_
          refine mx_zretK rfl dX0_isTray_14 (Or.inl rfl) ?_
          refine mx_if_ne (tgt := 20) dX0_warm_11 rfl (fun _ => absurd ‹_› (by decide)) (fun _ => ?_)
          refine mx_aload_n dX0_warm_14 rfl rfl ?_
          refine mx_iconst dX0_warm_15 ic_1 ?_
          refine mx_callV 0 (y' := mi_X0_none) (vs := [iv (1 : Int32)]) (st := []) (al' := [some (rv a0), some (iv (1 : Int32))]) cl_0 V_X0_none (Or.inl q733) dX0_warm_16 rfl rfl (Nat.le_of_ble_eq_true rfl) (Nat.le_of_ble_eq_true rfl) (ly0_k La0_h) ?_
          refine mx_aload_n dX0_none_0 rfl rfl ?_
          refine mx_iload_n dX0_none_1 rfl rfl ?_
          refine mx_putI 0 20 (ref := "PrairiePool") cl_0 (Nat.le_of_ble_eq_true rfl) (Or.inl q480) (Or.inl rfl) dX0_none_2 (Or.inl rfl) rfl (ly0_k La0_h) ?_
          refine mx_nmI  (fun h8 eh8 Xh8 Kh8 Lh8 => ?_)
          have H := H h8 eh8 Xh8
          have La0_h8 := La0_h.ext Xh8
          refine mx_iconst dX0_none_5 ic_m1 ?_
          refine mx_iretK rfl dX0_none_6 ?_
          exact mx_iret rfl dX0_warm_19 H
        · have H := H.2 c7
          refine mx_iconst dX0_isTray_9 ic_1 ?_
          refine mx_goto (tgt := 14) dX0_isTray_10 rfl ?_
          refine mx_zretK rfl dX0_isTray_14 (Or.inr rfl) ?_
          refine mx_if_ne (tgt := 20) dX0_warm_11 rfl (fun _ => ?_) (fun _ => absurd ‹_› (by decide))
          refine mx_aload_n dX0_warm_20 rfl rfl ?_
          refine mx_get 0 0 (ref := "PrairiePool") cl_0 (Nat.le_of_ble_eq_true rfl) (Or.inl q460) (Or.inl rfl) dX0_warm_21 (fv_0_0 _ _) (ly0_k La0_h) ?_
          refine mx_tr (ly0_R_0_0 La0_h) ?_
          refine mx_iload_n dX0_warm_24 rfl rfl ?_
          obtain ⟨k9, H⟩ := H
          refine my_aald 5 dX0_warm_25 (by decide) rfl (ly0_A_1 La0_h k9) ?_
          refine mx_tr (ly0_T La0_h (vp_lt k9)) ?_
          refine mx_get 7 0 (ref := "PrairiePool$Tray") cl_7 (Nat.le_of_ble_eq_true rfl) (Or.inr ⟨_, q452⟩) (Or.inl rfl) dX0_warm_26 (fv_7_0 _ _) (ly0_TK La0_h (vp_lt k9)) ?_
          refine mx_ifnull (tgt := 44) dX0_warm_29 rfl (fun c10 => ?_) (fun c10 => ?_)
          · have H := H.1 c10
            refine mx_aload_n dX0_warm_44 rfl rfl ?_
            refine mx_iconst dX0_warm_45 ic_3 ?_
            refine mx_callV 0 (y' := mi_X0_none) (vs := [iv (3 : Int32)]) (st := []) (al' := [some (rv a0), some (iv (3 : Int32))]) cl_0 V_X0_none (Or.inl q733) dX0_warm_46 rfl rfl (Nat.le_of_ble_eq_true rfl) (Nat.le_of_ble_eq_true rfl) (ly0_k La0_h) ?_
            refine mx_aload_n dX0_none_0 rfl rfl ?_
            refine mx_iload_n dX0_none_1 rfl rfl ?_
            refine mx_putI 0 20 (ref := "PrairiePool") cl_0 (Nat.le_of_ble_eq_true rfl) (Or.inl q480) (Or.inl rfl) dX0_none_2 (Or.inl rfl) rfl (ly0_k La0_h) ?_
            refine mx_nmI  (fun h11 eh11 Xh11 Kh11 Lh11 => ?_)
            have H := H h11 eh11 Xh11
            have La0_h11 := La0_h.ext Xh11
            refine mx_iconst dX0_none_5 ic_m1 ?_
            refine mx_iretK rfl dX0_none_6 ?_
            exact mx_iret rfl dX0_warm_49 H
          · have H := H.2 c10
            refine mx_aload_n dX0_warm_32 rfl rfl ?_
            refine mx_get 0 0 (ref := "PrairiePool") cl_0 (Nat.le_of_ble_eq_true rfl) (Or.inl q460) (Or.inl rfl) dX0_warm_33 (fv_0_0 _ _) (ly0_k La0_h) ?_
            refine mx_tr (ly0_R_0_0 La0_h) ?_
            refine mx_iload_n dX0_warm_36 rfl rfl ?_
            obtain ⟨k12, H⟩ := H
            refine my_aald 5 dX0_warm_37 (by decide) rfl (ly0_A_1 La0_h k12) ?_
            refine mx_tr (ly0_T La0_h (vp_lt k12)) ?_
            refine mx_get 7 0 (ref := "PrairiePool$Tray") cl_7 (Nat.le_of_ble_eq_true rfl) (Or.inr ⟨_, q452⟩) (Or.inl rfl) dX0_warm_38 (fv_7_0 _ _) (ly0_TK La0_h (vp_lt k12)) ?_
            refine mx_ifnonnull (tgt := 50) dX0_warm_41 rfl (fun c13 => ?_) (fun c13 => ?_)
            · have H := H.1 c13
              refine mx_iload_n dX0_warm_50 rfl rfl ?_
              refine mx_iconst dX0_warm_51 ic_1 ?_
              refine mx_icmp_lt (tgt := 61) dX0_warm_52 rfl (fun c14 => ?_) (fun c14 => ?_)
              · have H := H.1 c14
                refine mx_aload_n dX0_warm_61 rfl rfl ?_
                refine mx_iconst dX0_warm_62 ic_5 ?_
                refine mx_callV 0 (y' := mi_X0_none) (vs := [iv (5 : Int32)]) (st := []) (al' := [some (rv a0), some (iv (5 : Int32))]) cl_0 V_X0_none (Or.inl q733) dX0_warm_63 rfl rfl (Nat.le_of_ble_eq_true rfl) (Nat.le_of_ble_eq_true rfl) (ly0_k La0_h) ?_
                refine mx_aload_n dX0_none_0 rfl rfl ?_
                refine mx_iload_n dX0_none_1 rfl rfl ?_
                refine mx_putI 0 20 (ref := "PrairiePool") cl_0 (Nat.le_of_ble_eq_true rfl) (Or.inl q480) (Or.inl rfl) dX0_none_2 (Or.inl rfl) rfl (ly0_k La0_h) ?_
                refine mx_nmI  (fun h15 eh15 Xh15 Kh15 Lh15 => ?_)
                have H := H h15 eh15 Xh15
                have La0_h15 := La0_h.ext Xh15
                refine mx_iconst dX0_none_5 ic_m1 ?_
                refine mx_iretK rfl dX0_none_6 ?_
                exact mx_iret rfl dX0_warm_66 H
              · have H := H.2 c14
                refine mx_iload_n dX0_warm_55 rfl rfl ?_
                refine mx_bipush dX0_warm_56 ib_8 ?_
                refine mx_icmp_le (tgt := 67) dX0_warm_58 rfl (fun c16 => ?_) (fun c16 => ?_)
                · have H := H.1 c16
                  refine mx_aload_n dX0_warm_67 rfl rfl ?_
                  refine mx_get 0 0 (ref := "PrairiePool") cl_0 (Nat.le_of_ble_eq_true rfl) (Or.inl q460) (Or.inl rfl) dX0_warm_68 (fv_0_0 _ _) (ly0_k La0_h) ?_
                  refine mx_tr (ly0_R_0_0 La0_h) ?_
                  refine mx_iload_n dX0_warm_71 rfl rfl ?_
                  refine my_aald 5 dX0_warm_72 (by decide) rfl (ly0_A_1 La0_h k9) ?_
                  refine mx_tr (ly0_T La0_h (vp_lt k9)) ?_
                  refine mx_callV 7 (y' := mi_X7_many) (vs := []) (st := []) (al' := [some (rv (a0 + (1494 + x1.toNatClampNeg)))]) cl_7 V_X7_many (Or.inl q1597) dX0_warm_73 rfl rfl (Nat.le_of_ble_eq_true rfl) (Nat.le_of_ble_eq_true rfl) (ly0_TK La0_h (vp_lt k9)) ?_
                  refine ma_ki H (fun r18 h17 Xh17 H => ?_) (fun x1 h1 X1 H => mt_out rfl H)
                  have H := H Xh17
                  have La0_h17 := La0_h.ext Xh17
                  refine mx_iload_n dX0_warm_76 rfl rfl ?_
                  refine mx_icmp_lt (tgt := 93) dX0_warm_77 rfl (fun c19 => ?_) (fun c19 => ?_)
                  · have H := H.1 c19
                    refine mx_aload_n dX0_warm_93 rfl rfl ?_
                    refine mx_iconst dX0_warm_94 ic_4 ?_
                    refine mx_callV 0 (y' := mi_X0_none) (vs := [iv (4 : Int32)]) (st := []) (al' := [some (rv a0), some (iv (4 : Int32))]) cl_0 V_X0_none (Or.inl q733) dX0_warm_95 rfl rfl (Nat.le_of_ble_eq_true rfl) (Nat.le_of_ble_eq_true rfl) (ly0_k La0_h17) ?_
                    refine mx_aload_n dX0_none_0 rfl rfl ?_
                    refine mx_iload_n dX0_none_1 rfl rfl ?_
                    refine mx_putI 0 20 (ref := "PrairiePool") cl_0 (Nat.le_of_ble_eq_true rfl) (Or.inl q480) (Or.inl rfl) dX0_none_2 (Or.inl rfl) rfl (ly0_k La0_h17) ?_
                    refine mx_nmI  (fun h20 eh20 Xh20 Kh20 Lh20 => ?_)
                    have H := H h20 eh20 Xh20
                    have La0_h20 := La0_h17.ext Xh20
                    refine mx_iconst dX0_none_5 ic_m1 ?_
                    refine mx_iretK rfl dX0_none_6 ?_
                    exact mx_iret rfl dX0_warm_98 H
                  · have H := H.2 c19
                    refine mx_aload_n dX0_warm_80 rfl rfl ?_
                    refine mx_get 0 0 (ref := "PrairiePool") cl_0 (Nat.le_of_ble_eq_true rfl) (Or.inl q460) (Or.inl rfl) dX0_warm_81 (fv_0_0 _ _) (ly0_k La0_h17) ?_
                    refine mx_tr (ly0_R_0_0 La0_h17) ?_
                    refine mx_iload_n dX0_warm_84 rfl rfl ?_
                    refine my_aald 5 dX0_warm_85 (by decide) rfl (ly0_A_1 La0_h17 k12) ?_
                    refine mx_tr (ly0_T La0_h17 (vp_lt k12)) ?_
                    refine mx_callV 7 (y' := mi_X7_many) (vs := []) (st := []) (al' := [some (rv (a0 + (1494 + x2.toNatClampNeg)))]) cl_7 V_X7_many (Or.inl q1597) dX0_warm_86 rfl rfl (Nat.le_of_ble_eq_true rfl) (Nat.le_of_ble_eq_true rfl) (ly0_TK La0_h17 (vp_lt k12)) ?_
                    refine ma_ki H (fun r22 h21 Xh21 H => ?_) (fun x1 h1 X1 H => mt_out rfl H)
                    have H := H Xh21
                    have La0_h21 := La0_h17.ext Xh21
                    refine mx_iload_n dX0_warm_89 rfl rfl ?_
                    refine mx_icmp_ge (tgt := 99) dX0_warm_90 rfl (fun c23 => ?_) (fun c23 => ?_)
                    · have H := H.1 c23
                      refine mx_aload_n dX0_warm_99 rfl rfl ?_
                      refine mx_iload_n dX0_warm_100 rfl rfl ?_
                      refine mx_iload_n dX0_warm_101 rfl rfl ?_
                      refine mx_lconst dX0_warm_102 lc_0 ?_
                      refine mx_ldc2 q1601 dX0_warm_103 ?_
                      refine mx_callV 0 (y' := mi_X0_areFrom) (vs := [iv x1, iv x3, jv (0 : Int64), jv (20 : Int64)]) (st := []) (al' := [some (rv a0), some (iv x1), some (iv x3), some (jv (0 : Int64)), none, some (jv (20 : Int64)), none, none]) cl_0 V_X0_areFrom (Or.inl q1602) dX0_warm_106 rfl rfl (Nat.le_of_ble_eq_true rfl) (Nat.le_of_ble_eq_true rfl) (ly0_k La0_h21) ?_
                      refine ma_ki H (fun r25 h24 Xh24 H => ?_) (fun x1 h1 X1 H => mt_out rfl H)
                      have H := H Xh24
                      have La0_h24 := La0_h21.ext Xh24
                      refine mx_if_eq (tgt := 125) dX0_warm_109 rfl (fun c26 => ?_) (fun c26 => ?_)
                      · have H := H.1 c26
                        refine mx_aload_n dX0_warm_125 rfl rfl ?_
                        refine mx_iconst dX0_warm_126 ic_5 ?_
                        refine mx_callV 0 (y' := mi_X0_none) (vs := [iv (5 : Int32)]) (st := []) (al' := [some (rv a0), some (iv (5 : Int32))]) cl_0 V_X0_none (Or.inl q733) dX0_warm_127 rfl rfl (Nat.le_of_ble_eq_true rfl) (Nat.le_of_ble_eq_true rfl) (ly0_k La0_h24) ?_
                        refine mx_aload_n dX0_none_0 rfl rfl ?_
                        refine mx_iload_n dX0_none_1 rfl rfl ?_
                        refine mx_putI 0 20 (ref := "PrairiePool") cl_0 (Nat.le_of_ble_eq_true rfl) (Or.inl q480) (Or.inl rfl) dX0_none_2 (Or.inl rfl) rfl (ly0_k La0_h24) ?_
                        refine mx_nmI  (fun h27 eh27 Xh27 Kh27 Lh27 => ?_)
                        have H := H h27 eh27 Xh27
                        have La0_h27 := La0_h24.ext Xh27
                        refine mx_iconst dX0_none_5 ic_m1 ?_
                        refine mx_iretK rfl dX0_none_6 ?_
                        exact mx_iret rfl dX0_warm_130 H
                      · have H := H.2 c26
                        refine mx_aload_n dX0_warm_112 rfl rfl ?_
                        refine mx_iload_n dX0_warm_113 rfl rfl ?_
                        refine mx_iload_n dX0_warm_114 rfl rfl ?_
                        refine mx_lconst dX0_warm_115 lc_1 ?_
                        refine mx_ldc2 q835 dX0_warm_116 ?_
                        refine mx_callV 0 (y' := mi_X0_areFrom) (vs := [iv x2, iv x3, jv (1 : Int64), jv (10000 : Int64)]) (st := []) (al' := [some (rv a0), some (iv x2), some (iv x3), some (jv (1 : Int64)), none, some (jv (10000 : Int64)), none, none]) cl_0 V_X0_areFrom (Or.inl q1602) dX0_warm_119 rfl rfl (Nat.le_of_ble_eq_true rfl) (Nat.le_of_ble_eq_true rfl) (ly0_k La0_h24) ?_
                        refine ma_ki H (fun r29 h28 Xh28 H => ?_) (fun x1 h1 X1 H => mt_out rfl H)
                        have H := H Xh28
                        have La0_h28 := La0_h24.ext Xh28
                        refine mx_if_ne (tgt := 131) dX0_warm_122 rfl (fun c30 => ?_) (fun c30 => ?_)
                        · have H := H.1 c30
                          refine mx_iconst dX0_warm_131 ic_0 ?_
                          refine mx_istore (al' := [some (rv a0), some (iv x1), some (iv x2), some (iv x3), some (iv (0 : Int32)), none, none, none]) dX0_warm_132 (Nat.le_of_ble_eq_true rfl) rfl ?_
                          exact mx_weak (al' := [some (rv a0), some (iv x1), some (iv x2), some (iv x3), some (iv (0 : Int32)), none, none, none]) ⟨rfl, ⟨rfl, ⟨rfl, ⟨rfl, ⟨rfl, trivial⟩⟩⟩⟩⟩ H
                        · have H := H.2 c30
                          refine mx_aload_n dX0_warm_125 rfl rfl ?_
                          refine mx_iconst dX0_warm_126 ic_5 ?_
                          refine mx_callV 0 (y' := mi_X0_none) (vs := [iv (5 : Int32)]) (st := []) (al' := [some (rv a0), some (iv (5 : Int32))]) cl_0 V_X0_none (Or.inl q733) dX0_warm_127 rfl rfl (Nat.le_of_ble_eq_true rfl) (Nat.le_of_ble_eq_true rfl) (ly0_k La0_h28) ?_
                          refine mx_aload_n dX0_none_0 rfl rfl ?_
                          refine mx_iload_n dX0_none_1 rfl rfl ?_
                          refine mx_putI 0 20 (ref := "PrairiePool") cl_0 (Nat.le_of_ble_eq_true rfl) (Or.inl q480) (Or.inl rfl) dX0_none_2 (Or.inl rfl) rfl (ly0_k La0_h28) ?_
                          refine mx_nmI  (fun h31 eh31 Xh31 Kh31 Lh31 => ?_)
                          have H := H h31 eh31 Xh31
                          have La0_h31 := La0_h28.ext Xh31
                          refine mx_iconst dX0_none_5 ic_m1 ?_
                          refine mx_iretK rfl dX0_none_6 ?_
                          exact mx_iret rfl dX0_warm_130 H
                    · have H := H.2 c23
                      refine mx_aload_n dX0_warm_93 rfl rfl ?_
                      refine mx_iconst dX0_warm_94 ic_4 ?_
                      refine mx_callV 0 (y' := mi_X0_none) (vs := [iv (4 : Int32)]) (st := []) (al' := [some (rv a0), some (iv (4 : Int32))]) cl_0 V_X0_none (Or.inl q733) dX0_warm_95 rfl rfl (Nat.le_of_ble_eq_true rfl) (Nat.le_of_ble_eq_true rfl) (ly0_k La0_h21) ?_
                      refine mx_aload_n dX0_none_0 rfl rfl ?_
                      refine mx_iload_n dX0_none_1 rfl rfl ?_
                      refine mx_putI 0 20 (ref := "PrairiePool") cl_0 (Nat.le_of_ble_eq_true rfl) (Or.inl q480) (Or.inl rfl) dX0_none_2 (Or.inl rfl) rfl (ly0_k La0_h21) ?_
                      refine mx_nmI  (fun h32 eh32 Xh32 Kh32 Lh32 => ?_)
                      have H := H h32 eh32 Xh32
                      have La0_h32 := La0_h21.ext Xh32
                      refine mx_iconst dX0_none_5 ic_m1 ?_
                      refine mx_iretK rfl dX0_none_6 ?_
                      exact mx_iret rfl dX0_warm_98 H
                · have H := H.2 c16
                  refine mx_aload_n dX0_warm_61 rfl rfl ?_
                  refine mx_iconst dX0_warm_62 ic_5 ?_
                  refine mx_callV 0 (y' := mi_X0_none) (vs := [iv (5 : Int32)]) (st := []) (al' := [some (rv a0), some (iv (5 : Int32))]) cl_0 V_X0_none (Or.inl q733) dX0_warm_63 rfl rfl (Nat.le_of_ble_eq_true rfl) (Nat.le_of_ble_eq_true rfl) (ly0_k La0_h) ?_
                  refine mx_aload_n dX0_none_0 rfl rfl ?_
                  refine mx_iload_n dX0_none_1 rfl rfl ?_
                  refine mx_putI 0 20 (ref := "PrairiePool") cl_0 (Nat.le_of_ble_eq_true rfl) (Or.inl q480) (Or.inl rfl) dX0_none_2 (Or.inl rfl) rfl (ly0_k La0_h) ?_
                  refine mx_nmI  (fun h33 eh33 Xh33 Kh33 Lh33 => ?_)
                  have H := H h33 eh33 Xh33
                  have La0_h33 := La0_h.ext Xh33
                  refine mx_iconst dX0_none_5 ic_m1 ?_
                  refine mx_iretK rfl dX0_none_6 ?_
                  exact mx_iret rfl dX0_warm_66 H
            · have H := H.2 c13
              refine mx_aload_n dX0_warm_44 rfl rfl ?_
              refine mx_iconst dX0_warm_45 ic_3 ?_
              refine mx_callV 0 (y' := mi_X0_none) (vs := [iv (3 : Int32)]) (st := []) (al' := [some (rv a0), some (iv (3 : Int32))]) cl_0 V_X0_none (Or.inl q733) dX0_warm_46 rfl rfl (Nat.le_of_ble_eq_true rfl) (Nat.le_of_ble_eq_true rfl) (ly0_k La0_h) ?_
              refine mx_aload_n dX0_none_0 rfl rfl ?_
              refine mx_iload_n dX0_none_1 rfl rfl ?_
              refine mx_putI 0 20 (ref := "PrairiePool") cl_0 (Nat.le_of_ble_eq_true rfl) (Or.inl q480) (Or.inl rfl) dX0_none_2 (Or.inl rfl) rfl (ly0_k La0_h) ?_
              refine mx_nmI  (fun h34 eh34 Xh34 Kh34 Lh34 => ?_)
              have H := H h34 eh34 Xh34
              have La0_h34 := La0_h.ext Xh34
              refine mx_iconst dX0_none_5 ic_m1 ?_
              refine mx_iretK rfl dX0_none_6 ?_
              exact mx_iret rfl dX0_warm_49 H
theorem v_X0_warm_134 {G : ma_G} {d : Nat} {a0 : Nat} {x1 : Int32} {x2 : Int32} {x3 : Int32} {x4 : Int32} {h : ah_T} {Q : Option ma_V → ah_T → Prop} {E : Nat → ah_T → Prop} (La0_h : LY0 h a0) (H : (x3 ≤ x4 → MX G mi_X0_warm (d + 1) 188 [some (rv a0), none, none, some (iv x3), some (iv (20 : Int32)), none, none, none] [] h Q E) ∧ (¬ x3 ≤ x4 → vp_in x1 4 ∧ MX G mi_X7_get d 0 [some (rv (a0 + (1494 + x1.toNatClampNeg))), some (iv x4)] [] h (Ql fun r4 h3 => ah_ext h h3 → vp_in x4 8 ∧ ∀ h6 : ah_T, h6 = ah_wI h3 (a0 + 1451) x4.toNatClampNeg r4.toInt32 → ah_ext h3 h6 → vp_in x2 4 ∧ MX G mi_X7_get d 0 [some (rv (a0 + (1494 + x2.toNatClampNeg))), some (iv x4)] [] h6 (Ql fun r9 h8 => ah_ext h6 h8 → ∀ h10 : ah_T, h10 = ah_wI h8 (a0 + 1452) x4.toNatClampNeg r9.toInt32 → ah_ext h8 h10 → MX G mi_X0_warm (d + 1) 134 [some (rv a0), some (iv x1), some (iv x2), some (iv x3), some (iv (x4 + (1 : Int32))), none, none, none] [] h10 Q E) E) E)) : MX G mi_X0_warm (d + 1) 134 [some (rv a0), some (iv x1), some (iv x2), some (iv x3), some (iv x4), none, none, none] [] h Q E := by
  refine mx_iload dX0_warm_134 rfl ?_
  refine mx_iload_n dX0_warm_136 rfl rfl ?_
  refine mx_icmp_ge (tgt := 184) dX0_warm_137 rfl (fun c1 => ?_) (fun c1 => ?_)
  · have H := H.1 c1
    refine mx_bipush dX0_warm_184 ib_20 ?_
    refine mx_istore (al' := [some (rv a0), some (iv x1), some (iv x2), some (iv x3), some (iv (20 : Int32)), none, none, none]) dX0_warm_186 (Nat.le_of_ble_eq_true rfl) rfl ?_
    exact mx_weak (al' := [some (rv a0), none, none, some (iv x3), some (iv (20 : Int32)), none, none, none]) ⟨rfl, ⟨rfl, ⟨rfl, trivial⟩⟩⟩ H
  · have H := H.2 c1
    refine mx_aload_n dX0_warm_140 rfl rfl ?_
    refine mx_get 0 42 (ref := "PrairiePool") cl_0 (Nat.le_of_ble_eq_true rfl) (Or.inl q502) (Or.inl rfl) dX0_warm_141 (fv_0_42 _ _) (ly0_k La0_h) ?_
    refine mx_tr (ly0_R_0_42 La0_h) ?_
    refine mx_iload dX0_warm_144 rfl ?_
    refine mx_aload_n dX0_warm_146 rfl rfl ?_
    refine mx_get 0 0 (ref := "PrairiePool") cl_0 (Nat.le_of_ble_eq_true rfl) (Or.inl q460) (Or.inl rfl) dX0_warm_147 (fv_0_0 _ _) (ly0_k La0_h) ?_
    refine mx_tr (ly0_R_0_0 La0_h) ?_
    refine mx_iload_n dX0_warm_150 rfl rfl ?_
    obtain ⟨k2, H⟩ := H
    refine my_aald 5 dX0_warm_151 (by decide) rfl (ly0_A_1 La0_h k2) ?_
    refine mx_tr (ly0_T La0_h (vp_lt k2)) ?_
    refine mx_iload dX0_warm_152 rfl ?_
    refine mx_callV 7 (y' := mi_X7_get) (vs := [iv x4]) (st := [iv x4, rv (a0 + 1451)]) (al' := [some (rv (a0 + (1494 + x1.toNatClampNeg))), some (iv x4)]) cl_7 V_X7_get (Or.inl q737) dX0_warm_154 rfl rfl (Nat.le_of_ble_eq_true rfl) (Nat.le_of_ble_eq_true rfl) (ly0_TK La0_h (vp_lt k2)) ?_
    refine ma_kl H (fun r4 h3 Xh3 H => ?_) (fun x1 h1 X1 H => mt_out rfl H)
    have H := H Xh3
    have La0_h3 := La0_h.ext Xh3
    refine mx_l2i dX0_warm_157 ?_
    obtain ⟨k5, H⟩ := H
    refine my_iast dX0_warm_158 rfl (ly0_A_1451 La0_h3 k5) ?_
    refine mx_nmI  (fun h6 eh6 Xh6 Kh6 Lh6 => ?_)
    have H := H h6 eh6 Xh6
    have La0_h6 := La0_h3.ext Xh6
    refine mx_aload_n dX0_warm_159 rfl rfl ?_
    refine mx_get 0 43 (ref := "PrairiePool") cl_0 (Nat.le_of_ble_eq_true rfl) (Or.inl q503) (Or.inl rfl) dX0_warm_160 (fv_0_43 _ _) (ly0_k La0_h6) ?_
    refine mx_tr (ly0_R_0_43 La0_h6) ?_
    refine mx_iload dX0_warm_163 rfl ?_
    refine mx_aload_n dX0_warm_165 rfl rfl ?_
    refine mx_get 0 0 (ref := "PrairiePool") cl_0 (Nat.le_of_ble_eq_true rfl) (Or.inl q460) (Or.inl rfl) dX0_warm_166 (fv_0_0 _ _) (ly0_k La0_h6) ?_
    refine mx_tr (ly0_R_0_0 La0_h6) ?_
    refine mx_iload_n dX0_warm_169 rfl rfl ?_
    obtain ⟨k7, H⟩ := H
    refine my_aald 5 dX0_warm_170 (by decide) rfl (ly0_A_1 La0_h6 k7) ?_
    refine mx_tr (ly0_T La0_h6 (vp_lt k7)) ?_
    refine mx_iload dX0_warm_171 rfl ?_
    refine mx_callV 7 (y' := mi_X7_get) (vs := [iv x4]) (st := [iv x4, rv (a0 + 1452)]) (al' := [some (rv (a0 + (1494 + x2.toNatClampNeg))), some (iv x4)]) cl_7 V_X7_get (Or.inl q737) dX0_warm_173 rfl rfl (Nat.le_of_ble_eq_true rfl) (Nat.le_of_ble_eq_true rfl) (ly0_TK La0_h6 (vp_lt k7)) ?_
    refine ma_kl H (fun r9 h8 Xh8 H => ?_) (fun x1 h1 X1 H => mt_out rfl H)
    have H := H Xh8
    have La0_h8 := La0_h6.ext Xh8
    refine mx_l2i dX0_warm_176 ?_
    refine my_iast dX0_warm_177 rfl (ly0_A_1452 La0_h8 k5) ?_
    refine mx_nmI  (fun h10 eh10 Xh10 Kh10 Lh10 => ?_)
    have H := H h10 eh10 Xh10
    have La0_h10 := La0_h8.ext Xh10
    refine mx_iinc (al' := [some (rv a0), some (iv x1), some (iv x2), some (iv x3), some (iv (x4 + (1 : Int32))), none, none, none]) dX0_warm_178 rfl ic_1 rfl ?_
    refine mx_goto (tgt := 134) dX0_warm_181 rfl ?_
    exact mx_weak (al' := [some (rv a0), some (iv x1), some (iv x2), some (iv x3), some (iv (x4 + (1 : Int32))), none, none, none]) ⟨rfl, ⟨rfl, ⟨rfl, ⟨rfl, ⟨rfl, trivial⟩⟩⟩⟩⟩ H
theorem v_X0_warm_188 {G : ma_G} {d : Nat} {a0 : Nat} {x3 : Int32} {x4 : Int32} {h : ah_T} {Q : Option ma_V → ah_T → Prop} {E : Nat → ah_T → Prop} (La0_h : LY0 h a0) (H : (x4 < 0 → MX G mi_X0_warm (d + 1) 335 [some (rv a0), none, none, some (iv x3), some (iv (0 : Int32)), some (iv (0 : Int32)), none, none] [] h Q E) ∧ (¬ x4 < 0 → MX G mi_X0_warm (d + 1) 196 [some (rv a0), none, none, some (iv x3), some (iv x4), some (iv (0 : Int32)), none, none] [] h Q E)) : MX G mi_X0_warm (d + 1) 188 [some (rv a0), none, none, some (iv x3), some (iv x4), none, none, none] [] h Q E := by
  refine mx_iload dX0_warm_188 rfl ?_
  refine mx_if_lt (tgt := 329) dX0_warm_190 rfl (fun c1 => ?_) (fun c1 => ?_)
  · have H := H.1 c1
    refine mx_iconst dX0_warm_329 ic_0 ?_
    refine mx_istore (al' := [some (rv a0), none, none, some (iv x3), some (iv (0 : Int32)), none, none, none]) dX0_warm_330 (Nat.le_of_ble_eq_true rfl) rfl ?_
    refine mx_iconst dX0_warm_332 ic_0 ?_
    refine mx_istore (al' := [some (rv a0), none, none, some (iv x3), some (iv (0 : Int32)), some (iv (0 : Int32)), none, none]) dX0_warm_333 (Nat.le_of_ble_eq_true rfl) rfl ?_
    exact mx_weak (al' := [some (rv a0), none, none, some (iv x3), some (iv (0 : Int32)), some (iv (0 : Int32)), none, none]) ⟨rfl, ⟨rfl, ⟨rfl, ⟨rfl, trivial⟩⟩⟩⟩ H
  · have H := H.2 c1
    refine mx_iconst dX0_warm_193 ic_0 ?_
    refine mx_istore (al' := [some (rv a0), none, none, some (iv x3), some (iv x4), some (iv (0 : Int32)), none, none]) dX0_warm_194 (Nat.le_of_ble_eq_true rfl) rfl ?_
    exact mx_weak (al' := [some (rv a0), none, none, some (iv x3), some (iv x4), some (iv (0 : Int32)), none, none]) ⟨rfl, ⟨rfl, ⟨rfl, ⟨rfl, trivial⟩⟩⟩⟩ H
theorem v_X0_warm_335 {G : ma_G} {d : Nat} {a0 : Nat} {x3 : Int32} {x4 : Int32} {x5 : Int32} {h : ah_T} {Q : Option ma_V → ah_T → Prop} {E : Nat → ah_T → Prop} (La0_h : LY0 h a0) (H : ((20 : Int32) ≤ x5 → ∀ h2 : ah_T, h2 = ah_wI h a0 46 (1 : Int32) → ah_ext h h2 → ∀ h3 : ah_T, h3 = ah_wI h2 a0 20 (0 : Int32) → ah_ext h2 h3 → Q (some (iv (ah_I h (a0 + (1455 + 0)) 0))) h3) ∧ (¬ (20 : Int32) ≤ x5 → MX G mi_X0_warm (d + 1) 350 [some (rv a0), none, none, some (iv x3), some (iv x4), some (iv x5), some (iv (-1 : Int32)), some (iv (x3 - (1 : Int32)))] [] h Q E)) : MX G mi_X0_warm (d + 1) 335 [some (rv a0), none, none, some (iv x3), some (iv x4), some (iv x5), none, none] [] h Q E := by
  refine mx_iload dX0_warm_335 rfl ?_
  refine mx_bipush dX0_warm_337 ib_20 ?_
  refine mx_icmp_ge (tgt := 455) dX0_warm_339 rfl (fun c1 => ?_) (fun c1 => ?_)
  · have H := H.1 c1
    refine mx_aload_n dX0_warm_455 rfl rfl ?_
    refine mx_iconst dX0_warm_456 ic_1 ?_
    refine mx_putZ 0 46 (ref := "PrairiePool") cl_0 (Nat.le_of_ble_eq_true rfl) (Or.inl q506) (Or.inl rfl) dX0_warm_457 (Or.inl rfl) rfl (Or.inr rfl) (ly0_k La0_h) ?_
    refine mx_nmI  (fun h2 eh2 Xh2 Kh2 Lh2 => ?_)
    have H := H h2 eh2 Xh2
    have La0_h2 := La0_h.ext Xh2
    refine mx_aload_n dX0_warm_460 rfl rfl ?_
    refine mx_aload_n dX0_warm_461 rfl rfl ?_
    refine mx_get 0 45 (ref := "PrairiePool") cl_0 (Nat.le_of_ble_eq_true rfl) (Or.inl q505) (Or.inl rfl) dX0_warm_462 (fv_0_45 _ _) (ly0_k La0_h2) ?_
    refine mx_tr (ly0_R_0_45 La0_h2) ?_
    refine mx_iconst dX0_warm_465 ic_0 ?_
    refine my_aald 14 dX0_warm_466 (by decide) cn_0 (ly0_A_1454 La0_h2 (vp_c (by decide))) ?_
    refine mx_tr (ly0_G1_1454 La0_h2 (by decide)) ?_
    refine mx_iconst dX0_warm_467 ic_0 ?_
    refine my_iald dX0_warm_468 cn_0 ⟨(ly0_K1_1454 La0_h2 (by decide)), by rw [ly0_N1_1454 La0_h2 (by decide)]; exact vp_c (by decide)⟩ ?_
    refine mx_ti (ah_skIK eh2 (by decide)) ?_
    refine mx_callV 0 (y' := mi_X0_gives) (vs := [iv (ah_I h (a0 + (1455 + 0)) 0)]) (st := []) (al' := [some (rv a0), some (iv (ah_I h (a0 + (1455 + 0)) 0))]) cl_0 V_X0_gives (Or.inl q801) dX0_warm_469 rfl rfl (Nat.le_of_ble_eq_true rfl) (Nat.le_of_ble_eq_true rfl) (ly0_k La0_h2) ?_
    refine mx_aload_n dX0_gives_0 rfl rfl ?_
    refine mx_iconst dX0_gives_1 ic_0 ?_
    refine mx_putI 0 20 (ref := "PrairiePool") cl_0 (Nat.le_of_ble_eq_true rfl) (Or.inl q480) (Or.inl rfl) dX0_gives_2 (Or.inl rfl) rfl (ly0_k La0_h2) ?_
    refine mx_nmI  (fun h3 eh3 Xh3 Kh3 Lh3 => ?_)
    have H := H h3 eh3 Xh3
    have Kh3 := Kh3.trans Kh2
    have Lh3 := Lh3.trans Lh2
    have La0_h3 := La0_h2.ext Xh3
    refine mx_iload_n dX0_gives_5 rfl rfl ?_
    refine mx_iretK rfl dX0_gives_6 ?_
    exact mx_iret rfl dX0_warm_472 H
  · have H := H.2 c1
    refine mx_iconst dX0_warm_342 ic_m1 ?_
    refine mx_istore (al' := [some (rv a0), none, none, some (iv x3), some (iv x4), some (iv x5), some (iv (-1 : Int32)), none]) dX0_warm_343 (Nat.le_of_ble_eq_true rfl) rfl ?_
    refine mx_iload_n dX0_warm_345 rfl rfl ?_
    refine mx_iconst dX0_warm_346 ic_1 ?_
    refine mx_isub dX0_warm_347 ?_
    refine mx_istore (al' := [some (rv a0), none, none, some (iv x3), some (iv x4), some (iv x5), some (iv (-1 : Int32)), some (iv (x3 - (1 : Int32)))]) dX0_warm_348 (Nat.le_of_ble_eq_true rfl) rfl ?_
    exact mx_weak (al' := [some (rv a0), none, none, some (iv x3), some (iv x4), some (iv x5), some (iv (-1 : Int32)), some (iv (x3 - (1 : Int32)))]) ⟨rfl, ⟨rfl, ⟨rfl, ⟨rfl, ⟨rfl, ⟨rfl, trivial⟩⟩⟩⟩⟩⟩ H
theorem v_X0_warm_196 {G : ma_G} {d : Nat} {a0 : Nat} {x3 : Int32} {x4 : Int32} {x5 : Int32} {h : ah_T} {Q : Option ma_V → ah_T → Prop} {E : Nat → ah_T → Prop} (La0_h : LY0 h a0) (H : (((1 : Int32) <<< (x3 &&& 31)) ≤ x5 → MX G mi_X0_warm (d + 1) 188 [some (rv a0), none, none, some (iv x3), some (iv (x4 + (-1 : Int32))), none, none, none] [] h Q E) ∧ (¬ ((1 : Int32) <<< (x3 &&& 31)) ≤ x5 → (¬ x4 = (20 : Int32) → vp_in (x4 + (1 : Int32)) 21 ∧ vp_in x5 256 ∧ MX G mi_X0_warm (d + 1) 232 [some (rv a0), none, none, some (iv x3), some (iv x4), some (iv x5), some (iv (ah_I h (a0 + (1455 + (x4 + (1 : Int32)).toNatClampNeg)) x5.toNatClampNeg)), some (iv (0 : Int32))] [] h Q E) ∧ (x4 = (20 : Int32) → MX G mi_X0_warm (d + 1) 232 [some (rv a0), none, none, some (iv x3), some (iv x4), some (iv x5), some (iv (0 : Int32)), some (iv (0 : Int32))] [] h Q E))) : MX G mi_X0_warm (d + 1) 196 [some (rv a0), none, none, some (iv x3), some (iv x4), some (iv x5), none, none] [] h Q E := by
  refine mx_iload dX0_warm_196 rfl ?_
  refine mx_iconst dX0_warm_198 ic_1 ?_
  refine mx_iload_n dX0_warm_199 rfl rfl ?_
  refine mx_ishl dX0_warm_200 ?_
  refine mx_icmp_ge (tgt := 323) dX0_warm_201 rfl (fun c1 => ?_) (fun c1 => ?_)
  · have H := H.1 c1
    refine mx_iinc (al' := [some (rv a0), none, none, some (iv x3), some (iv (x4 + (-1 : Int32))), some (iv x5), none, none]) dX0_warm_323 rfl ic_m1 rfl ?_
    refine mx_goto (tgt := 188) dX0_warm_326 rfl ?_
    exact mx_weak (al' := [some (rv a0), none, none, some (iv x3), some (iv (x4 + (-1 : Int32))), none, none, none]) ⟨rfl, ⟨rfl, ⟨rfl, trivial⟩⟩⟩ H
  · have H := H.2 c1
    refine mx_iload dX0_warm_204 rfl ?_
    refine mx_bipush dX0_warm_206 ib_20 ?_
    refine mx_icmp_ne (tgt := 215) dX0_warm_208 rfl (fun c2 => ?_) (fun c2 => ?_)
    · have H := H.1 c2
      refine mx_aload_n dX0_warm_215 rfl rfl ?_
      refine mx_get 0 45 (ref := "PrairiePool") cl_0 (Nat.le_of_ble_eq_true rfl) (Or.inl q505) (Or.inl rfl) dX0_warm_216 (fv_0_45 _ _) (ly0_k La0_h) ?_
      refine mx_tr (ly0_R_0_45 La0_h) ?_
      refine mx_iload dX0_warm_219 rfl ?_
      refine mx_iconst dX0_warm_221 ic_1 ?_
      refine mx_iadd dX0_warm_222 ?_
      obtain ⟨k3, H⟩ := H
      refine my_aald 14 dX0_warm_223 (by decide) rfl (ly0_A_1454 La0_h k3) ?_
      refine mx_tr (ly0_G1_1454 La0_h (vp_lt k3)) ?_
      refine mx_iload dX0_warm_224 rfl ?_
      obtain ⟨k4, H⟩ := H
      refine my_iald dX0_warm_226 rfl ⟨(ly0_K1_1454 La0_h (vp_lt k3)), by rw [ly0_N1_1454 La0_h (vp_lt k3)]; exact k4⟩ ?_
      refine mx_istore (al' := [some (rv a0), none, none, some (iv x3), some (iv x4), some (iv x5), some (iv (ah_I h (a0 + (1455 + (x4 + (1 : Int32)).toNatClampNeg)) x5.toNatClampNeg)), none]) dX0_warm_227 (Nat.le_of_ble_eq_true rfl) rfl ?_
      refine mx_iconst dX0_warm_229 ic_0 ?_
      refine mx_istore (al' := [some (rv a0), none, none, some (iv x3), some (iv x4), some (iv x5), some (iv (ah_I h (a0 + (1455 + (x4 + (1 : Int32)).toNatClampNeg)) x5.toNatClampNeg)), some (iv (0 : Int32))]) dX0_warm_230 (Nat.le_of_ble_eq_true rfl) rfl ?_
      exact mx_weak (al' := [some (rv a0), none, none, some (iv x3), some (iv x4), some (iv x5), some (iv (ah_I h (a0 + (1455 + (x4 + (1 : Int32)).toNatClampNeg)) x5.toNatClampNeg)), some (iv (0 : Int32))]) ⟨rfl, ⟨rfl, ⟨rfl, ⟨rfl, ⟨rfl, ⟨rfl, trivial⟩⟩⟩⟩⟩⟩ H
    · have H := H.2 c2
      refine mx_iconst dX0_warm_211 ic_0 ?_
      refine mx_goto (tgt := 227) dX0_warm_212 rfl ?_
      refine mx_istore (al' := [some (rv a0), none, none, some (iv x3), some (iv x4), some (iv x5), some (iv (0 : Int32)), none]) dX0_warm_227 (Nat.le_of_ble_eq_true rfl) rfl ?_
      refine mx_iconst dX0_warm_229 ic_0 ?_
      refine mx_istore (al' := [some (rv a0), none, none, some (iv x3), some (iv x4), some (iv x5), some (iv (0 : Int32)), some (iv (0 : Int32))]) dX0_warm_230 (Nat.le_of_ble_eq_true rfl) rfl ?_
      exact mx_weak (al' := [some (rv a0), none, none, some (iv x3), some (iv x4), some (iv x5), some (iv (0 : Int32)), some (iv (0 : Int32))]) ⟨rfl, ⟨rfl, ⟨rfl, ⟨rfl, ⟨rfl, ⟨rfl, trivial⟩⟩⟩⟩⟩⟩ H
theorem v_X0_warm_350 {G : ma_G} {d : Nat} {a0 : Nat} {x3 : Int32} {x4 : Int32} {x5 : Int32} {x6 : Int32} {x7 : Int32} {h : ah_T} {Q : Option ma_V → ah_T → Prop} {E : Nat → ah_T → Prop} (La0_h : LY0 h a0) (H : (x7 < 0 → vp_in x5 20 ∧ ∀ h3 : ah_T, h3 = ah_wI h (a0 + 1453) x5.toNatClampNeg x6 → ah_ext h h3 → (x6 = (-1 : Int32) → MX G mi_X0_warm (d + 1) 335 [some (rv a0), none, none, some (iv x3), some (iv x4), some (iv (x5 + (1 : Int32))), none, none] [] h3 Q E) ∧ (¬ x6 = (-1 : Int32) → MX G mi_X0_warm (d + 1) 335 [some (rv a0), none, none, some (iv x3), some (iv (x4 ||| ((1 : Int32) <<< (x6 &&& 31)))), some (iv (x5 + (1 : Int32))), none, none] [] h3 Q E)) ∧ (¬ x7 < 0 → (¬ ((x4 >>> (x7 &&& 31)) &&& (1 : Int32)) = 0 → MX G mi_X0_warm (d + 1) 350 [some (rv a0), none, none, some (iv x3), some (iv x4), some (iv x5), some (iv x6), some (iv (x7 + (-1 : Int32)))] [] h Q E) ∧ (((x4 >>> (x7 &&& 31)) &&& (1 : Int32)) = 0 → vp_in x7 8 ∧ ((ah_I h (a0 + 1451) x7.toNatClampNeg) ≤ x5 → MX G mi_X0_warm (d + 1) 350 [some (rv a0), none, none, some (iv x3), some (iv x4), some (iv x5), some (iv x6), some (iv (x7 + (-1 : Int32)))] [] h Q E) ∧ (¬ (ah_I h (a0 + 1451) x7.toNatClampNeg) ≤ x5 → vp_in (x5 + (1 : Int32)) 21 ∧ vp_in (x4 ||| ((1 : Int32) <<< (x7 &&& 31))) 256 ∧ vp_in x5 21 ∧ vp_in x4 256 ∧ (¬ ((ah_I h (a0 + 1452) x7.toNatClampNeg) + (ah_I h (a0 + (1455 + (x5 + (1 : Int32)).toNatClampNeg)) (x4 ||| ((1 : Int32) <<< (x7 &&& 31))).toNatClampNeg)) = (ah_I h (a0 + (1455 + x5.toNatClampNeg)) x4.toNatClampNeg) → MX G mi_X0_warm (d + 1) 350 [some (rv a0), none, none, some (iv x3), some (iv x4), some (iv x5), some (iv x6), some (iv (x7 + (-1 : Int32)))] [] h Q E) ∧ (((ah_I h (a0 + 1452) x7.toNatClampNeg) + (ah_I h (a0 + (1455 + (x5 + (1 : Int32)).toNatClampNeg)) (x4 ||| ((1 : Int32) <<< (x7 &&& 31))).toNatClampNeg)) = (ah_I h (a0 + (1455 + x5.toNatClampNeg)) x4.toNatClampNeg) → MX G mi_X0_warm (d + 1) 350 [some (rv a0), none, none, some (iv x3), some (iv x4), some (iv x5), some (iv x7), some (iv (x7 + (-1 : Int32)))] [] h Q E))))) : MX G mi_X0_warm (d + 1) 350 [some (rv a0), none, none, some (iv x3), some (iv x4), some (iv x5), some (iv x6), some (iv x7)] [] h Q E := by
  refine mx_iload dX0_warm_350 rfl ?_
  refine mx_if_lt (tgt := 425) dX0_warm_352 rfl (fun c1 => ?_) (fun c1 => ?_)
  · have H := H.1 c1
    refine mx_aload_n dX0_warm_425 rfl rfl ?_
    refine mx_get 0 44 (ref := "PrairiePool") cl_0 (Nat.le_of_ble_eq_true rfl) (Or.inl q504) (Or.inl rfl) dX0_warm_426 (fv_0_44 _ _) (ly0_k La0_h) ?_
    refine mx_tr (ly0_R_0_44 La0_h) ?_
    refine mx_iload dX0_warm_429 rfl ?_
    refine mx_iload dX0_warm_431 rfl ?_
    obtain ⟨k2, H⟩ := H
    refine my_iast dX0_warm_433 rfl (ly0_A_1453 La0_h k2) ?_
    refine mx_nmI  (fun h3 eh3 Xh3 Kh3 Lh3 => ?_)
    have H := H h3 eh3 Xh3
    have La0_h3 := La0_h.ext Xh3
    refine mx_iload dX0_warm_434 rfl ?_
    refine mx_iconst dX0_warm_436 ic_m1 ?_
    refine mx_icmp_eq (tgt := 449) dX0_warm_437 rfl (fun c4 => ?_) (fun c4 => ?_)
    · have H := H.1 c4
      refine mx_iinc (al' := [some (rv a0), none, none, some (iv x3), some (iv x4), some (iv (x5 + (1 : Int32))), some (iv x6), some (iv x7)]) dX0_warm_449 rfl ic_1 rfl ?_
      refine mx_goto (tgt := 335) dX0_warm_452 rfl ?_
      exact mx_weak (al' := [some (rv a0), none, none, some (iv x3), some (iv x4), some (iv (x5 + (1 : Int32))), none, none]) ⟨rfl, ⟨rfl, ⟨rfl, ⟨rfl, trivial⟩⟩⟩⟩ H
    · have H := H.2 c4
      refine mx_iload dX0_warm_440 rfl ?_
      refine mx_iconst dX0_warm_442 ic_1 ?_
      refine mx_iload dX0_warm_443 rfl ?_
      refine mx_ishl dX0_warm_445 ?_
      refine mx_ior dX0_warm_446 ?_
      refine mx_istore (al' := [some (rv a0), none, none, some (iv x3), some (iv (x4 ||| ((1 : Int32) <<< (x6 &&& 31)))), some (iv x5), some (iv x6), some (iv x7)]) dX0_warm_447 (Nat.le_of_ble_eq_true rfl) rfl ?_
      refine mx_iinc (al' := [some (rv a0), none, none, some (iv x3), some (iv (x4 ||| ((1 : Int32) <<< (x6 &&& 31)))), some (iv (x5 + (1 : Int32))), some (iv x6), some (iv x7)]) dX0_warm_449 rfl ic_1 rfl ?_
      refine mx_goto (tgt := 335) dX0_warm_452 rfl ?_
      exact mx_weak (al' := [some (rv a0), none, none, some (iv x3), some (iv (x4 ||| ((1 : Int32) <<< (x6 &&& 31)))), some (iv (x5 + (1 : Int32))), none, none]) ⟨rfl, ⟨rfl, ⟨rfl, ⟨rfl, trivial⟩⟩⟩⟩ H
  · have H := H.2 c1
    refine mx_iload dX0_warm_355 rfl ?_
    refine mx_iload dX0_warm_357 rfl ?_
    refine mx_ishr dX0_warm_359 ?_
    refine mx_iconst dX0_warm_360 ic_1 ?_
    refine mx_iand dX0_warm_361 ?_
    refine mx_if_ne (tgt := 419) dX0_warm_362 rfl (fun c5 => ?_) (fun c5 => ?_)
    · have H := H.1 c5
      refine mx_iinc (al' := [some (rv a0), none, none, some (iv x3), some (iv x4), some (iv x5), some (iv x6), some (iv (x7 + (-1 : Int32)))]) dX0_warm_419 rfl ic_m1 rfl ?_
      refine mx_goto (tgt := 350) dX0_warm_422 rfl ?_
      exact mx_weak (al' := [some (rv a0), none, none, some (iv x3), some (iv x4), some (iv x5), some (iv x6), some (iv (x7 + (-1 : Int32)))]) ⟨rfl, ⟨rfl, ⟨rfl, ⟨rfl, ⟨rfl, ⟨rfl, trivial⟩⟩⟩⟩⟩⟩ H
    · have H := H.2 c5
      refine mx_iload dX0_warm_365 rfl ?_
      refine mx_aload_n dX0_warm_367 rfl rfl ?_
      refine mx_get 0 42 (ref := "PrairiePool") cl_0 (Nat.le_of_ble_eq_true rfl) (Or.inl q502) (Or.inl rfl) dX0_warm_368 (fv_0_42 _ _) (ly0_k La0_h) ?_
      refine mx_tr (ly0_R_0_42 La0_h) ?_
      refine mx_iload dX0_warm_371 rfl ?_
      obtain ⟨k6, H⟩ := H
      refine my_iald dX0_warm_373 rfl (ly0_A_1451 La0_h k6) ?_
      refine mx_icmp_ge (tgt := 419) dX0_warm_374 rfl (fun c7 => ?_) (fun c7 => ?_)
      · have H := H.1 c7
        refine mx_iinc (al' := [some (rv a0), none, none, some (iv x3), some (iv x4), some (iv x5), some (iv x6), some (iv (x7 + (-1 : Int32)))]) dX0_warm_419 rfl ic_m1 rfl ?_
        refine mx_goto (tgt := 350) dX0_warm_422 rfl ?_
        exact mx_weak (al' := [some (rv a0), none, none, some (iv x3), some (iv x4), some (iv x5), some (iv x6), some (iv (x7 + (-1 : Int32)))]) ⟨rfl, ⟨rfl, ⟨rfl, ⟨rfl, ⟨rfl, ⟨rfl, trivial⟩⟩⟩⟩⟩⟩ H
      · have H := H.2 c7
        refine mx_aload_n dX0_warm_377 rfl rfl ?_
        refine mx_get 0 43 (ref := "PrairiePool") cl_0 (Nat.le_of_ble_eq_true rfl) (Or.inl q503) (Or.inl rfl) dX0_warm_378 (fv_0_43 _ _) (ly0_k La0_h) ?_
        refine mx_tr (ly0_R_0_43 La0_h) ?_
        refine mx_iload dX0_warm_381 rfl ?_
        refine my_iald dX0_warm_383 rfl (ly0_A_1452 La0_h k6) ?_
        refine mx_aload_n dX0_warm_384 rfl rfl ?_
        refine mx_get 0 45 (ref := "PrairiePool") cl_0 (Nat.le_of_ble_eq_true rfl) (Or.inl q505) (Or.inl rfl) dX0_warm_385 (fv_0_45 _ _) (ly0_k La0_h) ?_
        refine mx_tr (ly0_R_0_45 La0_h) ?_
        refine mx_iload dX0_warm_388 rfl ?_
        refine mx_iconst dX0_warm_390 ic_1 ?_
        refine mx_iadd dX0_warm_391 ?_
        obtain ⟨k8, H⟩ := H
        refine my_aald 14 dX0_warm_392 (by decide) rfl (ly0_A_1454 La0_h k8) ?_
        refine mx_tr (ly0_G1_1454 La0_h (vp_lt k8)) ?_
        refine mx_iload dX0_warm_393 rfl ?_
        refine mx_iconst dX0_warm_395 ic_1 ?_
        refine mx_iload dX0_warm_396 rfl ?_
        refine mx_ishl dX0_warm_398 ?_
        refine mx_ior dX0_warm_399 ?_
        obtain ⟨k9, H⟩ := H
        refine my_iald dX0_warm_400 rfl ⟨(ly0_K1_1454 La0_h (vp_lt k8)), by rw [ly0_N1_1454 La0_h (vp_lt k8)]; exact k9⟩ ?_
        refine mx_iadd dX0_warm_401 ?_
        refine mx_aload_n dX0_warm_402 rfl rfl ?_
        refine mx_get 0 45 (ref := "PrairiePool") cl_0 (Nat.le_of_ble_eq_true rfl) (Or.inl q505) (Or.inl rfl) dX0_warm_403 (fv_0_45 _ _) (ly0_k La0_h) ?_
        refine mx_tr (ly0_R_0_45 La0_h) ?_
        refine mx_iload dX0_warm_406 rfl ?_
        obtain ⟨k10, H⟩ := H
        refine my_aald 14 dX0_warm_408 (by decide) rfl (ly0_A_1454 La0_h k10) ?_
        refine mx_tr (ly0_G1_1454 La0_h (vp_lt k10)) ?_
        refine mx_iload dX0_warm_409 rfl ?_
        obtain ⟨k11, H⟩ := H
        refine my_iald dX0_warm_411 rfl ⟨(ly0_K1_1454 La0_h (vp_lt k10)), by rw [ly0_N1_1454 La0_h (vp_lt k10)]; exact k11⟩ ?_
        refine mx_icmp_ne (tgt := 419) dX0_warm_412 rfl (fun c12 => ?_) (fun c12 => ?_)
        · have H := H.1 c12
          refine mx_iinc (al' := [some (rv a0), none, none, some (iv x3), some (iv x4), some (iv x5), some (iv x6), some (iv (x7 + (-1 : Int32)))]) dX0_warm_419 rfl ic_m1 rfl ?_
          refine mx_goto (tgt := 350) dX0_warm_422 rfl ?_
          exact mx_weak (al' := [some (rv a0), none, none, some (iv x3), some (iv x4), some (iv x5), some (iv x6), some (iv (x7 + (-1 : Int32)))]) ⟨rfl, ⟨rfl, ⟨rfl, ⟨rfl, ⟨rfl, ⟨rfl, trivial⟩⟩⟩⟩⟩⟩ H
        · have H := H.2 c12
          refine mx_iload dX0_warm_415 rfl ?_
          refine mx_istore (al' := [some (rv a0), none, none, some (iv x3), some (iv x4), some (iv x5), some (iv x7), some (iv x7)]) dX0_warm_417 (Nat.le_of_ble_eq_true rfl) rfl ?_
          refine mx_iinc (al' := [some (rv a0), none, none, some (iv x3), some (iv x4), some (iv x5), some (iv x7), some (iv (x7 + (-1 : Int32)))]) dX0_warm_419 rfl ic_m1 rfl ?_
          refine mx_goto (tgt := 350) dX0_warm_422 rfl ?_
          exact mx_weak (al' := [some (rv a0), none, none, some (iv x3), some (iv x4), some (iv x5), some (iv x7), some (iv (x7 + (-1 : Int32)))]) ⟨rfl, ⟨rfl, ⟨rfl, ⟨rfl, ⟨rfl, ⟨rfl, trivial⟩⟩⟩⟩⟩⟩ H
theorem v_X0_warm_232 {G : ma_G} {d : Nat} {a0 : Nat} {x3 : Int32} {x4 : Int32} {x5 : Int32} {x6 : Int32} {x7 : Int32} {h : ah_T} {Q : Option ma_V → ah_T → Prop} {E : Nat → ah_T → Prop} (La0_h : LY0 h a0) (H : (x3 ≤ x7 → vp_in x4 21 ∧ vp_in x5 256 ∧ ∀ h4 : ah_T, h4 = ah_wI h (a0 + (1455 + x4.toNatClampNeg)) x5.toNatClampNeg x6 → ah_ext h h4 → MX G mi_X0_warm (d + 1) 196 [some (rv a0), none, none, some (iv x3), some (iv x4), some (iv (x5 + (1 : Int32))), none, none] [] h4 Q E) ∧ (¬ x3 ≤ x7 → ((20 : Int32) ≤ x4 → vp_in x4 21 ∧ vp_in x5 256 ∧ ∀ h8 : ah_T, h8 = ah_wI h (a0 + (1455 + x4.toNatClampNeg)) x5.toNatClampNeg x6 → ah_ext h h8 → MX G mi_X0_warm (d + 1) 196 [some (rv a0), none, none, some (iv x3), some (iv x4), some (iv (x5 + (1 : Int32))), none, none] [] h8 Q E) ∧ (¬ (20 : Int32) ≤ x4 → (¬ ((x5 >>> (x7 &&& 31)) &&& (1 : Int32)) = 0 → MX G mi_X0_warm (d + 1) 232 [some (rv a0), none, none, some (iv x3), some (iv x4), some (iv x5), some (iv x6), some (iv (x7 + (1 : Int32)))] [] h Q E) ∧ (((x5 >>> (x7 &&& 31)) &&& (1 : Int32)) = 0 → vp_in x7 8 ∧ ((ah_I h (a0 + 1451) x7.toNatClampNeg) ≤ x4 → MX G mi_X0_warm (d + 1) 232 [some (rv a0), none, none, some (iv x3), some (iv x4), some (iv x5), some (iv x6), some (iv (x7 + (1 : Int32)))] [] h Q E) ∧ (¬ (ah_I h (a0 + 1451) x7.toNatClampNeg) ≤ x4 → vp_in (x4 + (1 : Int32)) 21 ∧ vp_in (x5 ||| ((1 : Int32) <<< (x7 &&& 31))) 256 ∧ MX G mi_X0_warm (d + 1) 232 [some (rv a0), none, none, some (iv x3), some (iv x4), some (iv x5), some (iv (iMax x6 ((ah_I h (a0 + 1452) x7.toNatClampNeg) + (ah_I h (a0 + (1455 + (x4 + (1 : Int32)).toNatClampNeg)) (x5 ||| ((1 : Int32) <<< (x7 &&& 31))).toNatClampNeg)))), some (iv (x7 + (1 : Int32)))] [] h Q E))))) : MX G mi_X0_warm (d + 1) 232 [some (rv a0), none, none, some (iv x3), some (iv x4), some (iv x5), some (iv x6), some (iv x7)] [] h Q E := by
  refine mx_iload dX0_warm_232 rfl ?_
  refine mx_iload_n dX0_warm_234 rfl rfl ?_
  refine mx_icmp_ge (tgt := 305) dX0_warm_235 rfl (fun c1 => ?_) (fun c1 => ?_)
  · have H := H.1 c1
    refine mx_aload_n dX0_warm_305 rfl rfl ?_
    refine mx_get 0 45 (ref := "PrairiePool") cl_0 (Nat.le_of_ble_eq_true rfl) (Or.inl q505) (Or.inl rfl) dX0_warm_306 (fv_0_45 _ _) (ly0_k La0_h) ?_
    refine mx_tr (ly0_R_0_45 La0_h) ?_
    refine mx_iload dX0_warm_309 rfl ?_
    obtain ⟨k2, H⟩ := H
    refine my_aald 14 dX0_warm_311 (by decide) rfl (ly0_A_1454 La0_h k2) ?_
    refine mx_tr (ly0_G1_1454 La0_h (vp_lt k2)) ?_
    refine mx_iload dX0_warm_312 rfl ?_
    refine mx_iload dX0_warm_314 rfl ?_
    obtain ⟨k3, H⟩ := H
    refine my_iast dX0_warm_316 rfl ⟨(ly0_K1_1454 La0_h (vp_lt k2)), by rw [ly0_N1_1454 La0_h (vp_lt k2)]; exact k3⟩ ?_
    refine mx_nmI  (fun h4 eh4 Xh4 Kh4 Lh4 => ?_)
    have H := H h4 eh4 Xh4
    have La0_h4 := La0_h.ext Xh4
    refine mx_iinc (al' := [some (rv a0), none, none, some (iv x3), some (iv x4), some (iv (x5 + (1 : Int32))), some (iv x6), some (iv x7)]) dX0_warm_317 rfl ic_1 rfl ?_
    refine mx_goto (tgt := 196) dX0_warm_320 rfl ?_
    exact mx_weak (al' := [some (rv a0), none, none, some (iv x3), some (iv x4), some (iv (x5 + (1 : Int32))), none, none]) ⟨rfl, ⟨rfl, ⟨rfl, ⟨rfl, trivial⟩⟩⟩⟩ H
  · have H := H.2 c1
    refine mx_iload dX0_warm_238 rfl ?_
    refine mx_bipush dX0_warm_240 ib_20 ?_
    refine mx_icmp_ge (tgt := 305) dX0_warm_242 rfl (fun c5 => ?_) (fun c5 => ?_)
    · have H := H.1 c5
      refine mx_aload_n dX0_warm_305 rfl rfl ?_
      refine mx_get 0 45 (ref := "PrairiePool") cl_0 (Nat.le_of_ble_eq_true rfl) (Or.inl q505) (Or.inl rfl) dX0_warm_306 (fv_0_45 _ _) (ly0_k La0_h) ?_
      refine mx_tr (ly0_R_0_45 La0_h) ?_
      refine mx_iload dX0_warm_309 rfl ?_
      obtain ⟨k6, H⟩ := H
      refine my_aald 14 dX0_warm_311 (by decide) rfl (ly0_A_1454 La0_h k6) ?_
      refine mx_tr (ly0_G1_1454 La0_h (vp_lt k6)) ?_
      refine mx_iload dX0_warm_312 rfl ?_
      refine mx_iload dX0_warm_314 rfl ?_
      obtain ⟨k7, H⟩ := H
      refine my_iast dX0_warm_316 rfl ⟨(ly0_K1_1454 La0_h (vp_lt k6)), by rw [ly0_N1_1454 La0_h (vp_lt k6)]; exact k7⟩ ?_
      refine mx_nmI  (fun h8 eh8 Xh8 Kh8 Lh8 => ?_)
      have H := H h8 eh8 Xh8
      have La0_h8 := La0_h.ext Xh8
      refine mx_iinc (al' := [some (rv a0), none, none, some (iv x3), some (iv x4), some (iv (x5 + (1 : Int32))), some (iv x6), some (iv x7)]) dX0_warm_317 rfl ic_1 rfl ?_
      refine mx_goto (tgt := 196) dX0_warm_320 rfl ?_
      exact mx_weak (al' := [some (rv a0), none, none, some (iv x3), some (iv x4), some (iv (x5 + (1 : Int32))), none, none]) ⟨rfl, ⟨rfl, ⟨rfl, ⟨rfl, trivial⟩⟩⟩⟩ H
    · have H := H.2 c5
      refine mx_iload dX0_warm_245 rfl ?_
      refine mx_iload dX0_warm_247 rfl ?_
      refine mx_ishr dX0_warm_249 ?_
      refine mx_iconst dX0_warm_250 ic_1 ?_
      refine mx_iand dX0_warm_251 ?_
      refine mx_if_ne (tgt := 299) dX0_warm_252 rfl (fun c9 => ?_) (fun c9 => ?_)
      · have H := H.1 c9
        refine mx_iinc (al' := [some (rv a0), none, none, some (iv x3), some (iv x4), some (iv x5), some (iv x6), some (iv (x7 + (1 : Int32)))]) dX0_warm_299 rfl ic_1 rfl ?_
        refine mx_goto (tgt := 232) dX0_warm_302 rfl ?_
        exact mx_weak (al' := [some (rv a0), none, none, some (iv x3), some (iv x4), some (iv x5), some (iv x6), some (iv (x7 + (1 : Int32)))]) ⟨rfl, ⟨rfl, ⟨rfl, ⟨rfl, ⟨rfl, ⟨rfl, trivial⟩⟩⟩⟩⟩⟩ H
      · have H := H.2 c9
        refine mx_iload dX0_warm_255 rfl ?_
        refine mx_aload_n dX0_warm_257 rfl rfl ?_
        refine mx_get 0 42 (ref := "PrairiePool") cl_0 (Nat.le_of_ble_eq_true rfl) (Or.inl q502) (Or.inl rfl) dX0_warm_258 (fv_0_42 _ _) (ly0_k La0_h) ?_
        refine mx_tr (ly0_R_0_42 La0_h) ?_
        refine mx_iload dX0_warm_261 rfl ?_
        obtain ⟨k10, H⟩ := H
        refine my_iald dX0_warm_263 rfl (ly0_A_1451 La0_h k10) ?_
        refine mx_icmp_ge (tgt := 299) dX0_warm_264 rfl (fun c11 => ?_) (fun c11 => ?_)
        · have H := H.1 c11
          refine mx_iinc (al' := [some (rv a0), none, none, some (iv x3), some (iv x4), some (iv x5), some (iv x6), some (iv (x7 + (1 : Int32)))]) dX0_warm_299 rfl ic_1 rfl ?_
          refine mx_goto (tgt := 232) dX0_warm_302 rfl ?_
          exact mx_weak (al' := [some (rv a0), none, none, some (iv x3), some (iv x4), some (iv x5), some (iv x6), some (iv (x7 + (1 : Int32)))]) ⟨rfl, ⟨rfl, ⟨rfl, ⟨rfl, ⟨rfl, ⟨rfl, trivial⟩⟩⟩⟩⟩⟩ H
        · have H := H.2 c11
          refine mx_iload dX0_warm_267 rfl ?_
          refine mx_aload_n dX0_warm_269 rfl rfl ?_
          refine mx_get 0 43 (ref := "PrairiePool") cl_0 (Nat.le_of_ble_eq_true rfl) (Or.inl q503) (Or.inl rfl) dX0_warm_270 (fv_0_43 _ _) (ly0_k La0_h) ?_
          refine mx_tr (ly0_R_0_43 La0_h) ?_
          refine mx_iload dX0_warm_273 rfl ?_
          refine my_iald dX0_warm_275 rfl (ly0_A_1452 La0_h k10) ?_
          refine mx_aload_n dX0_warm_276 rfl rfl ?_
          refine mx_get 0 45 (ref := "PrairiePool") cl_0 (Nat.le_of_ble_eq_true rfl) (Or.inl q505) (Or.inl rfl) dX0_warm_277 (fv_0_45 _ _) (ly0_k La0_h) ?_
          refine mx_tr (ly0_R_0_45 La0_h) ?_
          refine mx_iload dX0_warm_280 rfl ?_
          refine mx_iconst dX0_warm_282 ic_1 ?_
          refine mx_iadd dX0_warm_283 ?_
          obtain ⟨k12, H⟩ := H
          refine my_aald 14 dX0_warm_284 (by decide) rfl (ly0_A_1454 La0_h k12) ?_
          refine mx_tr (ly0_G1_1454 La0_h (vp_lt k12)) ?_
          refine mx_iload dX0_warm_285 rfl ?_
          refine mx_iconst dX0_warm_287 ic_1 ?_
          refine mx_iload dX0_warm_288 rfl ?_
          refine mx_ishl dX0_warm_290 ?_
          refine mx_ior dX0_warm_291 ?_
          obtain ⟨k13, H⟩ := H
          refine my_iald dX0_warm_292 rfl ⟨(ly0_K1_1454 La0_h (vp_lt k12)), by rw [ly0_N1_1454 La0_h (vp_lt k12)]; exact k13⟩ ?_
          refine mx_iadd dX0_warm_293 ?_
          refine mx_callS (y' := mi_J8_max_2) (vs := [iv x6, iv ((ah_I h (a0 + 1452) x7.toNatClampNeg) + (ah_I h (a0 + (1455 + (x4 + (1 : Int32)).toNatClampNeg)) (x5 ||| ((1 : Int32) <<< (x7 &&& 31))).toNatClampNeg))]) (st := []) (al' := [some (iv x6), some (iv ((ah_I h (a0 + 1452) x7.toNatClampNeg) + (ah_I h (a0 + (1455 + (x4 + (1 : Int32)).toNatClampNeg)) (x5 ||| ((1 : Int32) <<< (x7 &&& 31))).toNatClampNeg)))]) S_J8_max_2 q1512 dX0_warm_294 rfl rfl (Nat.le_of_ble_eq_true rfl) (Nat.le_of_ble_eq_true rfl) ?_
          refine pv_J8_max_2 ?_
          refine mx_istore (al' := [some (rv a0), none, none, some (iv x3), some (iv x4), some (iv x5), some (iv (iMax x6 ((ah_I h (a0 + 1452) x7.toNatClampNeg) + (ah_I h (a0 + (1455 + (x4 + (1 : Int32)).toNatClampNeg)) (x5 ||| ((1 : Int32) <<< (x7 &&& 31))).toNatClampNeg)))), some (iv x7)]) dX0_warm_297 (Nat.le_of_ble_eq_true rfl) rfl ?_
          refine mx_iinc (al' := [some (rv a0), none, none, some (iv x3), some (iv x4), some (iv x5), some (iv (iMax x6 ((ah_I h (a0 + 1452) x7.toNatClampNeg) + (ah_I h (a0 + (1455 + (x4 + (1 : Int32)).toNatClampNeg)) (x5 ||| ((1 : Int32) <<< (x7 &&& 31))).toNatClampNeg)))), some (iv (x7 + (1 : Int32)))]) dX0_warm_299 rfl ic_1 rfl ?_
          refine mx_goto (tgt := 232) dX0_warm_302 rfl ?_
          exact mx_weak (al' := [some (rv a0), none, none, some (iv x3), some (iv x4), some (iv x5), some (iv (iMax x6 ((ah_I h (a0 + 1452) x7.toNatClampNeg) + (ah_I h (a0 + (1455 + (x4 + (1 : Int32)).toNatClampNeg)) (x5 ||| ((1 : Int32) <<< (x7 &&& 31))).toNatClampNeg)))), some (iv (x7 + (1 : Int32)))]) ⟨rfl, ⟨rfl, ⟨rfl, ⟨rfl, ⟨rfl, ⟨rfl, trivial⟩⟩⟩⟩⟩⟩ H
theorem dX0_areFrom_0 : decode mi_X0_areFrom.2.1 0 = .ok (.iconst 0, 1) := by decide +kernel
theorem dX0_areFrom_1 : decode mi_X0_areFrom.2.1 1 = .ok (.istore 7, 2) := by decide +kernel
theorem dX0_areFrom_3 : decode mi_X0_areFrom.2.1 3 = .ok (.iload 7, 2) := by decide +kernel
theorem dX0_areFrom_5 : decode mi_X0_areFrom.2.1 5 = .ok (.iload_n 2, 1) := by decide +kernel
theorem dX0_areFrom_6 : decode mi_X0_areFrom.2.1 6 = .ok (.if_icmp .ge 31, 3) := by decide +kernel
theorem dX0_areFrom_9 : decode mi_X0_areFrom.2.1 9 = .ok (.aload_n 0, 1) := by decide +kernel
theorem dX0_areFrom_10 : decode mi_X0_areFrom.2.1 10 = .ok (.getfield 11, 3) := by decide +kernel
theorem dX0_areFrom_13 : decode mi_X0_areFrom.2.1 13 = .ok (.iload_n 1, 1) := by decide +kernel
theorem dX0_areFrom_14 : decode mi_X0_areFrom.2.1 14 = .ok (.aaload, 1) := by decide +kernel
theorem dX0_areFrom_15 : decode mi_X0_areFrom.2.1 15 = .ok (.iload 7, 2) := by decide +kernel
theorem dX0_areFrom_17 : decode mi_X0_areFrom.2.1 17 = .ok (.invokevirtual 209, 3) := by decide +kernel
theorem dX0_areFrom_20 : decode mi_X0_areFrom.2.1 20 = .ok (.lload_n 3, 1) := by decide +kernel
theorem dX0_areFrom_21 : decode mi_X0_areFrom.2.1 21 = .ok (.lload 5, 2) := by decide +kernel
theorem dX0_areFrom_23 : decode mi_X0_areFrom.2.1 23 = .ok (.invokestatic 241, 3) := by decide +kernel
theorem dX0_areFrom_26 : decode mi_X0_areFrom.2.1 26 = .ok (.ifCond .ne 5, 3) := by decide +kernel
theorem dX0_areFrom_29 : decode mi_X0_areFrom.2.1 29 = .ok (.iconst 0, 1) := by decide +kernel
theorem dX0_areFrom_30 : decode mi_X0_areFrom.2.1 30 = .ok (.ireturn, 1) := by decide +kernel
theorem dX0_areFrom_31 : decode mi_X0_areFrom.2.1 31 = .ok (.iinc 7 1, 3) := by decide +kernel
theorem dX0_areFrom_34 : decode mi_X0_areFrom.2.1 34 = .ok (.goto (-31), 3) := by decide +kernel
theorem dX0_areFrom_37 : decode mi_X0_areFrom.2.1 37 = .ok (.iconst 1, 1) := by decide +kernel
theorem dX0_areFrom_38 : decode mi_X0_areFrom.2.1 38 = .ok (.ireturn, 1) := by decide +kernel
theorem v_X0_areFrom {G : ma_G} {d : Nat} {a0 : Nat} {x1 : Int32} {x2 : Int32} {x3 : Int64} {x5 : Int64} {h : ah_T} {Q : Option ma_V → ah_T → Prop} {E : Nat → ah_T → Prop} (La0_h : LY0 h a0) (H : MX G mi_X0_areFrom (d + 1) 3 [some (rv a0), some (iv x1), some (iv x2), some (jv x3), none, some (jv x5), none, some (iv (0 : Int32))] [] h Q E) : MX G mi_X0_areFrom (d + 1) 0 [some (rv a0), some (iv x1), some (iv x2), some (jv x3), none, some (jv x5), none, none] [] h Q E := by
  refine mx_iconst dX0_areFrom_0 ic_0 ?_
  refine mx_istore (al' := [some (rv a0), some (iv x1), some (iv x2), some (jv x3), none, some (jv x5), none, some (iv (0 : Int32))]) dX0_areFrom_1 (Nat.le_of_ble_eq_true rfl) rfl ?_
  exact mx_weak (al' := [some (rv a0), some (iv x1), some (iv x2), some (jv x3), none, some (jv x5), none, some (iv (0 : Int32))]) ⟨rfl, ⟨rfl, ⟨rfl, ⟨rfl, ⟨rfl, ⟨rfl, trivial⟩⟩⟩⟩⟩⟩ H
theorem v_X0_areFrom_3 {G : ma_G} {d : Nat} {a0 : Nat} {x1 : Int32} {x2 : Int32} {x3 : Int64} {x5 : Int64} {x7 : Int32} {h : ah_T} {Q : Option ma_V → ah_T → Prop} {E : Nat → ah_T → Prop} (La0_h : LY0 h a0) (H : (x2 ≤ x7 → Q (some (iv (1 : Int32))) h) ∧ (¬ x2 ≤ x7 → vp_in x1 4 ∧ MX G mi_X7_get d 0 [some (rv (a0 + (1494 + x1.toNatClampNeg))), some (iv x7)] [] h (Ql fun r4 h3 => ah_ext h h3 → (r4 < x3 → Q (some (iv (0 : Int32))) h3) ∧ (¬ r4 < x3 → (x5 < r4 → Q (some (iv (0 : Int32))) h3) ∧ (¬ x5 < r4 → MX G mi_X0_areFrom (d + 1) 3 [some (rv a0), some (iv x1), some (iv x2), some (jv x3), none, some (jv x5), none, some (iv (x7 + (1 : Int32)))] [] h3 Q E))) E)) : MX G mi_X0_areFrom (d + 1) 3 [some (rv a0), some (iv x1), some (iv x2), some (jv x3), none, some (jv x5), none, some (iv x7)] [] h Q E := by
  refine mx_iload dX0_areFrom_3 rfl ?_
  refine mx_iload_n dX0_areFrom_5 rfl rfl ?_
  refine mx_icmp_ge (tgt := 37) dX0_areFrom_6 rfl (fun c1 => ?_) (fun c1 => ?_)
  · have H := H.1 c1
    refine mx_iconst dX0_areFrom_37 ic_1 ?_
    exact mx_zret rfl dX0_areFrom_38 (Or.inr rfl) H
  · have H := H.2 c1
    refine mx_aload_n dX0_areFrom_9 rfl rfl ?_
    refine mx_get 0 0 (ref := "PrairiePool") cl_0 (Nat.le_of_ble_eq_true rfl) (Or.inl q460) (Or.inl rfl) dX0_areFrom_10 (fv_0_0 _ _) (ly0_k La0_h) ?_
    refine mx_tr (ly0_R_0_0 La0_h) ?_
    refine mx_iload_n dX0_areFrom_13 rfl rfl ?_
    obtain ⟨k2, H⟩ := H
    refine my_aald 5 dX0_areFrom_14 (by decide) rfl (ly0_A_1 La0_h k2) ?_
    refine mx_tr (ly0_T La0_h (vp_lt k2)) ?_
    refine mx_iload dX0_areFrom_15 rfl ?_
    refine mx_callV 7 (y' := mi_X7_get) (vs := [iv x7]) (st := []) (al' := [some (rv (a0 + (1494 + x1.toNatClampNeg))), some (iv x7)]) cl_7 V_X7_get (Or.inl q737) dX0_areFrom_17 rfl rfl (Nat.le_of_ble_eq_true rfl) (Nat.le_of_ble_eq_true rfl) (ly0_TK La0_h (vp_lt k2)) ?_
    refine ma_kl H (fun r4 h3 Xh3 H => ?_) (fun x1 h1 X1 H => mt_out rfl H)
    have H := H Xh3
    have La0_h3 := La0_h.ext Xh3
    refine mx_lload_n dX0_areFrom_20 rfl rfl ?_
    refine mx_lload dX0_areFrom_21 rfl ?_
    refine mx_callS (y' := mi_X0_isFrom) (vs := [jv r4, jv x3, jv x5]) (st := []) (al' := [some (jv r4), none, some (jv x3), none, some (jv x5), none]) S_X0_isFrom q758 dX0_areFrom_23 rfl rfl (Nat.le_of_ble_eq_true rfl) (Nat.le_of_ble_eq_true rfl) ?_
    refine mx_lload_n dX0_isFrom_0 rfl rfl ?_
    refine mx_lload_n dX0_isFrom_1 rfl rfl ?_
    refine mx_lif_lt (tgt := 17) dX0_isFrom_2 dX0_isFrom_3 rfl (fun c5 => ?_) (fun c5 => ?_)
    · have H := H.1 c5
      refine mx_iconst dX0_isFrom_17 ic_0 ?_
      refine mx_zretK rfl dX0_isFrom_18 (Or.inl rfl) ?_
      refine mx_if_ne (tgt := 31) dX0_areFrom_26 rfl (fun _ => absurd ‹_› (by decide)) (fun _ => ?_)
      refine mx_iconst dX0_areFrom_29 ic_0 ?_
      exact mx_zret rfl dX0_areFrom_30 (Or.inl rfl) H
    · have H := H.2 c5
      refine mx_lload_n dX0_isFrom_6 rfl rfl ?_
      refine mx_lload dX0_isFrom_7 rfl ?_
      refine mx_lif_gt (tgt := 17) dX0_isFrom_9 dX0_isFrom_10 rfl (fun c6 => ?_) (fun c6 => ?_)
      · have H := H.1 c6
        refine mx_iconst dX0_isFrom_17 ic_0 ?_
        refine mx_zretK rfl dX0_isFrom_18 (Or.inl rfl) ?_
        refine mx_if_ne (tgt := 31) dX0_areFrom_26 rfl (fun _ => absurd ‹_› (by decide)) (fun _ => ?_)
        refine mx_iconst dX0_areFrom_29 ic_0 ?_
        exact mx_zret rfl dX0_areFrom_30 (Or.inl rfl) H
      · have H := H.2 c6
        refine mx_iconst dX0_isFrom_13 ic_1 ?_
        refine mx_goto (tgt := 18) dX0_isFrom_14 rfl ?_
        refine mx_zretK rfl dX0_isFrom_18 (Or.inr rfl) ?_
        refine mx_if_ne (tgt := 31) dX0_areFrom_26 rfl (fun _ => ?_) (fun _ => absurd ‹_› (by decide))
        refine mx_iinc (al' := [some (rv a0), some (iv x1), some (iv x2), some (jv x3), none, some (jv x5), none, some (iv (x7 + (1 : Int32)))]) dX0_areFrom_31 rfl ic_1 rfl ?_
        refine mx_goto (tgt := 3) dX0_areFrom_34 rfl ?_
        exact mx_weak (al' := [some (rv a0), some (iv x1), some (iv x2), some (jv x3), none, some (jv x5), none, some (iv (x7 + (1 : Int32)))]) ⟨rfl, ⟨rfl, ⟨rfl, ⟨rfl, ⟨rfl, ⟨rfl, trivial⟩⟩⟩⟩⟩⟩ H
theorem dX0_turned_0 : decode mi_X0_turned.2.1 0 = .ok (.aload_n 0, 1) := by decide +kernel
theorem dX0_turned_1 : decode mi_X0_turned.2.1 1 = .ok (.getfield 588, 3) := by decide +kernel
theorem dX0_turned_4 : decode mi_X0_turned.2.1 4 = .ok (.ifCond .eq 13, 3) := by decide +kernel
theorem dX0_turned_7 : decode mi_X0_turned.2.1 7 = .ok (.iload_n 1, 1) := by decide +kernel
theorem dX0_turned_8 : decode mi_X0_turned.2.1 8 = .ok (.ifCond .lt 9, 3) := by decide +kernel
theorem dX0_turned_11 : decode mi_X0_turned.2.1 11 = .ok (.iload_n 1, 1) := by decide +kernel
theorem dX0_turned_12 : decode mi_X0_turned.2.1 12 = .ok (.bipush 20, 2) := by decide +kernel
theorem dX0_turned_14 : decode mi_X0_turned.2.1 14 = .ok (.if_icmp .lt 12, 3) := by decide +kernel
theorem dX0_turned_17 : decode mi_X0_turned.2.1 17 = .ok (.aload_n 0, 1) := by decide +kernel
theorem dX0_turned_18 : decode mi_X0_turned.2.1 18 = .ok (.bipush 8, 2) := by decide +kernel
theorem dX0_turned_20 : decode mi_X0_turned.2.1 20 = .ok (.invokevirtual 205, 3) := by decide +kernel
theorem dX0_turned_23 : decode mi_X0_turned.2.1 23 = .ok (.goto 13, 3) := by decide +kernel
theorem dX0_turned_26 : decode mi_X0_turned.2.1 26 = .ok (.aload_n 0, 1) := by decide +kernel
theorem dX0_turned_27 : decode mi_X0_turned.2.1 27 = .ok (.aload_n 0, 1) := by decide +kernel
theorem dX0_turned_28 : decode mi_X0_turned.2.1 28 = .ok (.getfield 148, 3) := by decide +kernel
theorem dX0_turned_31 : decode mi_X0_turned.2.1 31 = .ok (.iload_n 1, 1) := by decide +kernel
theorem dX0_turned_32 : decode mi_X0_turned.2.1 32 = .ok (.iaload, 1) := by decide +kernel
theorem dX0_turned_33 : decode mi_X0_turned.2.1 33 = .ok (.invokevirtual 250, 3) := by decide +kernel
theorem dX0_turned_36 : decode mi_X0_turned.2.1 36 = .ok (.ireturn, 1) := by decide +kernel
theorem v_X0_turned {G : ma_G} {d : Nat} {a0 : Nat} {x1 : Int32} {h : ah_T} {Q : Option ma_V → ah_T → Prop} {E : Nat → ah_T → Prop} (La0_h : LY0 h a0) (H : ((ah_I h a0 46) = 0 → ∀ h2 : ah_T, h2 = ah_wI h a0 20 (8 : Int32) → ah_ext h h2 → Q (some (iv (-1 : Int32))) h2) ∧ (¬ (ah_I h a0 46) = 0 → (x1 < 0 → ∀ h4 : ah_T, h4 = ah_wI h a0 20 (8 : Int32) → ah_ext h h4 → Q (some (iv (-1 : Int32))) h4) ∧ (¬ x1 < 0 → (x1 < (20 : Int32) → vp_in x1 20 ∧ ∀ h7 : ah_T, h7 = ah_wI h a0 20 (0 : Int32) → ah_ext h h7 → Q (some (iv (ah_I h (a0 + 1453) x1.toNatClampNeg))) h7) ∧ (¬ x1 < (20 : Int32) → ∀ h8 : ah_T, h8 = ah_wI h a0 20 (8 : Int32) → ah_ext h h8 → Q (some (iv (-1 : Int32))) h8)))) : MX G mi_X0_turned (d + 1) 0 [some (rv a0), some (iv x1)] [] h Q E := by
  refine mx_aload_n dX0_turned_0 rfl rfl ?_
  refine mx_get 0 46 (ref := "PrairiePool") cl_0 (Nat.le_of_ble_eq_true rfl) (Or.inl q506) (Or.inl rfl) dX0_turned_1 (fv_0_46 _ _) (ly0_k La0_h) ?_
  refine mx_if_eq (tgt := 17) dX0_turned_4 rfl (fun c1 => ?_) (fun c1 => ?_)
  · have H := H.1 c1
    refine mx_aload_n dX0_turned_17 rfl rfl ?_
    refine mx_bipush dX0_turned_18 ib_8 ?_
    refine mx_callV 0 (y' := mi_X0_none) (vs := [iv (8 : Int32)]) (st := []) (al' := [some (rv a0), some (iv (8 : Int32))]) cl_0 V_X0_none (Or.inl q733) dX0_turned_20 rfl rfl (Nat.le_of_ble_eq_true rfl) (Nat.le_of_ble_eq_true rfl) (ly0_k La0_h) ?_
    refine mx_aload_n dX0_none_0 rfl rfl ?_
    refine mx_iload_n dX0_none_1 rfl rfl ?_
    refine mx_putI 0 20 (ref := "PrairiePool") cl_0 (Nat.le_of_ble_eq_true rfl) (Or.inl q480) (Or.inl rfl) dX0_none_2 (Or.inl rfl) rfl (ly0_k La0_h) ?_
    refine mx_nmI  (fun h2 eh2 Xh2 Kh2 Lh2 => ?_)
    have H := H h2 eh2 Xh2
    have La0_h2 := La0_h.ext Xh2
    refine mx_iconst dX0_none_5 ic_m1 ?_
    refine mx_iretK rfl dX0_none_6 ?_
    refine mx_goto (tgt := 36) dX0_turned_23 rfl ?_
    exact mx_iret rfl dX0_turned_36 H
  · have H := H.2 c1
    refine mx_iload_n dX0_turned_7 rfl rfl ?_
    refine mx_if_lt (tgt := 17) dX0_turned_8 rfl (fun c3 => ?_) (fun c3 => ?_)
    · have H := H.1 c3
      refine mx_aload_n dX0_turned_17 rfl rfl ?_
      refine mx_bipush dX0_turned_18 ib_8 ?_
      refine mx_callV 0 (y' := mi_X0_none) (vs := [iv (8 : Int32)]) (st := []) (al' := [some (rv a0), some (iv (8 : Int32))]) cl_0 V_X0_none (Or.inl q733) dX0_turned_20 rfl rfl (Nat.le_of_ble_eq_true rfl) (Nat.le_of_ble_eq_true rfl) (ly0_k La0_h) ?_
      refine mx_aload_n dX0_none_0 rfl rfl ?_
      refine mx_iload_n dX0_none_1 rfl rfl ?_
      refine mx_putI 0 20 (ref := "PrairiePool") cl_0 (Nat.le_of_ble_eq_true rfl) (Or.inl q480) (Or.inl rfl) dX0_none_2 (Or.inl rfl) rfl (ly0_k La0_h) ?_
      refine mx_nmI  (fun h4 eh4 Xh4 Kh4 Lh4 => ?_)
      have H := H h4 eh4 Xh4
      have La0_h4 := La0_h.ext Xh4
      refine mx_iconst dX0_none_5 ic_m1 ?_
      refine mx_iretK rfl dX0_none_6 ?_
      refine mx_goto (tgt := 36) dX0_turned_23 rfl ?_
      exact mx_iret rfl dX0_turned_36 H
    · have H := H.2 c3
      refine mx_iload_n dX0_turned_11 rfl rfl ?_
      refine mx_bipush dX0_turned_12 ib_20 ?_
      refine mx_icmp_lt (tgt := 26) dX0_turned_14 rfl (fun c5 => ?_) (fun c5 => ?_)
      · have H := H.1 c5
        refine mx_aload_n dX0_turned_26 rfl rfl ?_
        refine mx_aload_n dX0_turned_27 rfl rfl ?_
        refine mx_get 0 44 (ref := "PrairiePool") cl_0 (Nat.le_of_ble_eq_true rfl) (Or.inl q504) (Or.inl rfl) dX0_turned_28 (fv_0_44 _ _) (ly0_k La0_h) ?_
        refine mx_tr (ly0_R_0_44 La0_h) ?_
        refine mx_iload_n dX0_turned_31 rfl rfl ?_
        obtain ⟨k6, H⟩ := H
        refine my_iald dX0_turned_32 rfl (ly0_A_1453 La0_h k6) ?_
        refine mx_callV 0 (y' := mi_X0_gives) (vs := [iv (ah_I h (a0 + 1453) x1.toNatClampNeg)]) (st := []) (al' := [some (rv a0), some (iv (ah_I h (a0 + 1453) x1.toNatClampNeg))]) cl_0 V_X0_gives (Or.inl q801) dX0_turned_33 rfl rfl (Nat.le_of_ble_eq_true rfl) (Nat.le_of_ble_eq_true rfl) (ly0_k La0_h) ?_
        refine mx_aload_n dX0_gives_0 rfl rfl ?_
        refine mx_iconst dX0_gives_1 ic_0 ?_
        refine mx_putI 0 20 (ref := "PrairiePool") cl_0 (Nat.le_of_ble_eq_true rfl) (Or.inl q480) (Or.inl rfl) dX0_gives_2 (Or.inl rfl) rfl (ly0_k La0_h) ?_
        refine mx_nmI  (fun h7 eh7 Xh7 Kh7 Lh7 => ?_)
        have H := H h7 eh7 Xh7
        have La0_h7 := La0_h.ext Xh7
        refine mx_iload_n dX0_gives_5 rfl rfl ?_
        refine mx_iretK rfl dX0_gives_6 ?_
        exact mx_iret rfl dX0_turned_36 H
      · have H := H.2 c5
        refine mx_aload_n dX0_turned_17 rfl rfl ?_
        refine mx_bipush dX0_turned_18 ib_8 ?_
        refine mx_callV 0 (y' := mi_X0_none) (vs := [iv (8 : Int32)]) (st := []) (al' := [some (rv a0), some (iv (8 : Int32))]) cl_0 V_X0_none (Or.inl q733) dX0_turned_20 rfl rfl (Nat.le_of_ble_eq_true rfl) (Nat.le_of_ble_eq_true rfl) (ly0_k La0_h) ?_
        refine mx_aload_n dX0_none_0 rfl rfl ?_
        refine mx_iload_n dX0_none_1 rfl rfl ?_
        refine mx_putI 0 20 (ref := "PrairiePool") cl_0 (Nat.le_of_ble_eq_true rfl) (Or.inl q480) (Or.inl rfl) dX0_none_2 (Or.inl rfl) rfl (ly0_k La0_h) ?_
        refine mx_nmI  (fun h8 eh8 Xh8 Kh8 Lh8 => ?_)
        have H := H h8 eh8 Xh8
        have La0_h8 := La0_h.ext Xh8
        refine mx_iconst dX0_none_5 ic_m1 ?_
        refine mx_iretK rfl dX0_none_6 ?_
        refine mx_goto (tgt := 36) dX0_turned_23 rfl ?_
        exact mx_iret rfl dX0_turned_36 H
theorem dX0_send_0 : decode mi_X0_send.2.1 0 = .ok (.iload_n 1, 1) := by decide +kernel
theorem dX0_send_1 : decode mi_X0_send.2.1 1 = .ok (.invokestatic 184, 3) := by decide +kernel
theorem dX0_send_4 : decode mi_X0_send.2.1 4 = .ok (.ifCond .eq 18, 3) := by decide +kernel
theorem dX0_send_7 : decode mi_X0_send.2.1 7 = .ok (.iload_n 3, 1) := by decide +kernel
theorem dX0_send_8 : decode mi_X0_send.2.1 8 = .ok (.invokestatic 184, 3) := by decide +kernel
theorem dX0_send_11 : decode mi_X0_send.2.1 11 = .ok (.ifCond .eq 11, 3) := by decide +kernel
theorem dX0_send_14 : decode mi_X0_send.2.1 14 = .ok (.iload 5, 2) := by decide +kernel
theorem dX0_send_16 : decode mi_X0_send.2.1 16 = .ok (.invokestatic 184, 3) := by decide +kernel
theorem dX0_send_19 : decode mi_X0_send.2.1 19 = .ok (.ifCond .ne 9, 3) := by decide +kernel
theorem dX0_send_22 : decode mi_X0_send.2.1 22 = .ok (.aload_n 0, 1) := by decide +kernel
theorem dX0_send_23 : decode mi_X0_send.2.1 23 = .ok (.iconst 1, 1) := by decide +kernel
theorem dX0_send_24 : decode mi_X0_send.2.1 24 = .ok (.invokevirtual 205, 3) := by decide +kernel
theorem dX0_send_27 : decode mi_X0_send.2.1 27 = .ok (.ireturn, 1) := by decide +kernel
theorem dX0_send_28 : decode mi_X0_send.2.1 28 = .ok (.aload_n 0, 1) := by decide +kernel
theorem dX0_send_29 : decode mi_X0_send.2.1 29 = .ok (.getfield 11, 3) := by decide +kernel
theorem dX0_send_32 : decode mi_X0_send.2.1 32 = .ok (.iload_n 1, 1) := by decide +kernel
theorem dX0_send_33 : decode mi_X0_send.2.1 33 = .ok (.aaload, 1) := by decide +kernel
theorem dX0_send_34 : decode mi_X0_send.2.1 34 = .ok (.getfield 215, 3) := by decide +kernel
theorem dX0_send_37 : decode mi_X0_send.2.1 37 = .ok (.ifnull 28, 3) := by decide +kernel
theorem dX0_send_40 : decode mi_X0_send.2.1 40 = .ok (.aload_n 0, 1) := by decide +kernel
theorem dX0_send_41 : decode mi_X0_send.2.1 41 = .ok (.getfield 11, 3) := by decide +kernel
theorem dX0_send_44 : decode mi_X0_send.2.1 44 = .ok (.iload_n 3, 1) := by decide +kernel
theorem dX0_send_45 : decode mi_X0_send.2.1 45 = .ok (.aaload, 1) := by decide +kernel
theorem dX0_send_46 : decode mi_X0_send.2.1 46 = .ok (.getfield 215, 3) := by decide +kernel
theorem dX0_send_49 : decode mi_X0_send.2.1 49 = .ok (.ifnull 16, 3) := by decide +kernel
theorem dX0_send_52 : decode mi_X0_send.2.1 52 = .ok (.aload_n 0, 1) := by decide +kernel
theorem dX0_send_53 : decode mi_X0_send.2.1 53 = .ok (.getfield 11, 3) := by decide +kernel
theorem dX0_send_56 : decode mi_X0_send.2.1 56 = .ok (.iload 5, 2) := by decide +kernel
theorem dX0_send_58 : decode mi_X0_send.2.1 58 = .ok (.aaload, 1) := by decide +kernel
theorem dX0_send_59 : decode mi_X0_send.2.1 59 = .ok (.getfield 215, 3) := by decide +kernel
theorem dX0_send_62 : decode mi_X0_send.2.1 62 = .ok (.ifnonnull 9, 3) := by decide +kernel
theorem dX0_send_65 : decode mi_X0_send.2.1 65 = .ok (.aload_n 0, 1) := by decide +kernel
theorem dX0_send_66 : decode mi_X0_send.2.1 66 = .ok (.iconst 3, 1) := by decide +kernel
theorem dX0_send_67 : decode mi_X0_send.2.1 67 = .ok (.invokevirtual 205, 3) := by decide +kernel
theorem dX0_send_70 : decode mi_X0_send.2.1 70 = .ok (.ireturn, 1) := by decide +kernel
theorem dX0_send_71 : decode mi_X0_send.2.1 71 = .ok (.iload_n 2, 1) := by decide +kernel
theorem dX0_send_72 : decode mi_X0_send.2.1 72 = .ok (.iconst 1, 1) := by decide +kernel
theorem dX0_send_73 : decode mi_X0_send.2.1 73 = .ok (.if_icmp .lt 20, 3) := by decide +kernel
theorem dX0_send_76 : decode mi_X0_send.2.1 76 = .ok (.iload_n 2, 1) := by decide +kernel
theorem dX0_send_77 : decode mi_X0_send.2.1 77 = .ok (.iconst 5, 1) := by decide +kernel
theorem dX0_send_78 : decode mi_X0_send.2.1 78 = .ok (.if_icmp .gt 15, 3) := by decide +kernel
theorem dX0_send_81 : decode mi_X0_send.2.1 81 = .ok (.iload 4, 2) := by decide +kernel
theorem dX0_send_83 : decode mi_X0_send.2.1 83 = .ok (.iconst 1, 1) := by decide +kernel
theorem dX0_send_84 : decode mi_X0_send.2.1 84 = .ok (.if_icmp .lt 9, 3) := by decide +kernel
theorem dX0_send_87 : decode mi_X0_send.2.1 87 = .ok (.iload 4, 2) := by decide +kernel
theorem dX0_send_89 : decode mi_X0_send.2.1 89 = .ok (.iconst 4, 1) := by decide +kernel
theorem dX0_send_90 : decode mi_X0_send.2.1 90 = .ok (.if_icmp .le 9, 3) := by decide +kernel
theorem dX0_send_93 : decode mi_X0_send.2.1 93 = .ok (.aload_n 0, 1) := by decide +kernel
theorem dX0_send_94 : decode mi_X0_send.2.1 94 = .ok (.iconst 5, 1) := by decide +kernel
theorem dX0_send_95 : decode mi_X0_send.2.1 95 = .ok (.invokevirtual 205, 3) := by decide +kernel
theorem dX0_send_98 : decode mi_X0_send.2.1 98 = .ok (.ireturn, 1) := by decide +kernel
theorem dX0_send_99 : decode mi_X0_send.2.1 99 = .ok (.aload_n 0, 1) := by decide +kernel
theorem dX0_send_100 : decode mi_X0_send.2.1 100 = .ok (.getfield 11, 3) := by decide +kernel
theorem dX0_send_103 : decode mi_X0_send.2.1 103 = .ok (.iload_n 1, 1) := by decide +kernel
theorem dX0_send_104 : decode mi_X0_send.2.1 104 = .ok (.aaload, 1) := by decide +kernel
theorem dX0_send_105 : decode mi_X0_send.2.1 105 = .ok (.invokevirtual 580, 3) := by decide +kernel
theorem dX0_send_108 : decode mi_X0_send.2.1 108 = .ok (.iload_n 2, 1) := by decide +kernel
theorem dX0_send_109 : decode mi_X0_send.2.1 109 = .ok (.if_icmp .lt 34, 3) := by decide +kernel
theorem dX0_send_112 : decode mi_X0_send.2.1 112 = .ok (.aload_n 0, 1) := by decide +kernel
theorem dX0_send_113 : decode mi_X0_send.2.1 113 = .ok (.getfield 11, 3) := by decide +kernel
theorem dX0_send_116 : decode mi_X0_send.2.1 116 = .ok (.iload_n 3, 1) := by decide +kernel
theorem dX0_send_117 : decode mi_X0_send.2.1 117 = .ok (.aaload, 1) := by decide +kernel
theorem dX0_send_118 : decode mi_X0_send.2.1 118 = .ok (.invokevirtual 580, 3) := by decide +kernel
theorem dX0_send_121 : decode mi_X0_send.2.1 121 = .ok (.iload 4, 2) := by decide +kernel
theorem dX0_send_123 : decode mi_X0_send.2.1 123 = .ok (.if_icmp .lt 20, 3) := by decide +kernel
theorem dX0_send_126 : decode mi_X0_send.2.1 126 = .ok (.aload_n 0, 1) := by decide +kernel
theorem dX0_send_127 : decode mi_X0_send.2.1 127 = .ok (.getfield 11, 3) := by decide +kernel
theorem dX0_send_130 : decode mi_X0_send.2.1 130 = .ok (.iload 5, 2) := by decide +kernel
theorem dX0_send_132 : decode mi_X0_send.2.1 132 = .ok (.aaload, 1) := by decide +kernel
theorem dX0_send_133 : decode mi_X0_send.2.1 133 = .ok (.invokevirtual 580, 3) := by decide +kernel
theorem dX0_send_136 : decode mi_X0_send.2.1 136 = .ok (.iload_n 2, 1) := by decide +kernel
theorem dX0_send_137 : decode mi_X0_send.2.1 137 = .ok (.iload 4, 2) := by decide +kernel
theorem dX0_send_139 : decode mi_X0_send.2.1 139 = .ok (.imul, 1) := by decide +kernel
theorem dX0_send_140 : decode mi_X0_send.2.1 140 = .ok (.if_icmp .ge 9, 3) := by decide +kernel
theorem dX0_send_143 : decode mi_X0_send.2.1 143 = .ok (.aload_n 0, 1) := by decide +kernel
theorem dX0_send_144 : decode mi_X0_send.2.1 144 = .ok (.iconst 4, 1) := by decide +kernel
theorem dX0_send_145 : decode mi_X0_send.2.1 145 = .ok (.invokevirtual 205, 3) := by decide +kernel
theorem dX0_send_148 : decode mi_X0_send.2.1 148 = .ok (.ireturn, 1) := by decide +kernel
theorem dX0_send_149 : decode mi_X0_send.2.1 149 = .ok (.aload_n 0, 1) := by decide +kernel
theorem dX0_send_150 : decode mi_X0_send.2.1 150 = .ok (.iload_n 1, 1) := by decide +kernel
theorem dX0_send_151 : decode mi_X0_send.2.1 151 = .ok (.iload_n 2, 1) := by decide +kernel
theorem dX0_send_152 : decode mi_X0_send.2.1 152 = .ok (.lconst 0, 1) := by decide +kernel
theorem dX0_send_153 : decode mi_X0_send.2.1 153 = .ok (.ldc2_w 593, 3) := by decide +kernel
theorem dX0_send_156 : decode mi_X0_send.2.1 156 = .ok (.invokevirtual 584, 3) := by decide +kernel
theorem dX0_send_159 : decode mi_X0_send.2.1 159 = .ok (.ifCond .eq 34, 3) := by decide +kernel
theorem dX0_send_162 : decode mi_X0_send.2.1 162 = .ok (.aload_n 0, 1) := by decide +kernel
theorem dX0_send_163 : decode mi_X0_send.2.1 163 = .ok (.iload_n 3, 1) := by decide +kernel
theorem dX0_send_164 : decode mi_X0_send.2.1 164 = .ok (.iload 4, 2) := by decide +kernel
theorem dX0_send_166 : decode mi_X0_send.2.1 166 = .ok (.lconst 0, 1) := by decide +kernel
theorem dX0_send_167 : decode mi_X0_send.2.1 167 = .ok (.ldc2_w 593, 3) := by decide +kernel
theorem dX0_send_170 : decode mi_X0_send.2.1 170 = .ok (.invokevirtual 584, 3) := by decide +kernel
theorem dX0_send_173 : decode mi_X0_send.2.1 173 = .ok (.ifCond .eq 20, 3) := by decide +kernel
theorem dX0_send_176 : decode mi_X0_send.2.1 176 = .ok (.aload_n 0, 1) := by decide +kernel
theorem dX0_send_177 : decode mi_X0_send.2.1 177 = .ok (.iload 5, 2) := by decide +kernel
theorem dX0_send_179 : decode mi_X0_send.2.1 179 = .ok (.iload_n 2, 1) := by decide +kernel
theorem dX0_send_180 : decode mi_X0_send.2.1 180 = .ok (.iload 4, 2) := by decide +kernel
theorem dX0_send_182 : decode mi_X0_send.2.1 182 = .ok (.imul, 1) := by decide +kernel
theorem dX0_send_183 : decode mi_X0_send.2.1 183 = .ok (.lconst 0, 1) := by decide +kernel
theorem dX0_send_184 : decode mi_X0_send.2.1 184 = .ok (.ldc2_w 595, 3) := by decide +kernel
theorem dX0_send_187 : decode mi_X0_send.2.1 187 = .ok (.invokevirtual 584, 3) := by decide +kernel
theorem dX0_send_190 : decode mi_X0_send.2.1 190 = .ok (.ifCond .ne 9, 3) := by decide +kernel
theorem dX0_send_193 : decode mi_X0_send.2.1 193 = .ok (.aload_n 0, 1) := by decide +kernel
theorem dX0_send_194 : decode mi_X0_send.2.1 194 = .ok (.iconst 5, 1) := by decide +kernel
theorem dX0_send_195 : decode mi_X0_send.2.1 195 = .ok (.invokevirtual 205, 3) := by decide +kernel
theorem dX0_send_198 : decode mi_X0_send.2.1 198 = .ok (.ireturn, 1) := by decide +kernel
theorem dX0_send_199 : decode mi_X0_send.2.1 199 = .ok (.iconst 0, 1) := by decide +kernel
theorem dX0_send_200 : decode mi_X0_send.2.1 200 = .ok (.istore 6, 2) := by decide +kernel
theorem dX0_send_202 : decode mi_X0_send.2.1 202 = .ok (.iconst 0, 1) := by decide +kernel
theorem dX0_send_203 : decode mi_X0_send.2.1 203 = .ok (.istore 7, 2) := by decide +kernel
theorem dX0_send_205 : decode mi_X0_send.2.1 205 = .ok (.iload 7, 2) := by decide +kernel
theorem dX0_send_207 : decode mi_X0_send.2.1 207 = .ok (.iload_n 2, 1) := by decide +kernel
theorem dX0_send_208 : decode mi_X0_send.2.1 208 = .ok (.if_icmp .ge 96, 3) := by decide +kernel
theorem dX0_send_211 : decode mi_X0_send.2.1 211 = .ok (.aload_n 0, 1) := by decide +kernel
theorem dX0_send_212 : decode mi_X0_send.2.1 212 = .ok (.getfield 162, 3) := by decide +kernel
theorem dX0_send_215 : decode mi_X0_send.2.1 215 = .ok (.iload 7, 2) := by decide +kernel
theorem dX0_send_217 : decode mi_X0_send.2.1 217 = .ok (.aload_n 0, 1) := by decide +kernel
theorem dX0_send_218 : decode mi_X0_send.2.1 218 = .ok (.getfield 11, 3) := by decide +kernel
theorem dX0_send_221 : decode mi_X0_send.2.1 221 = .ok (.iload_n 1, 1) := by decide +kernel
theorem dX0_send_222 : decode mi_X0_send.2.1 222 = .ok (.aaload, 1) := by decide +kernel
theorem dX0_send_223 : decode mi_X0_send.2.1 223 = .ok (.iload 7, 2) := by decide +kernel
theorem dX0_send_225 : decode mi_X0_send.2.1 225 = .ok (.invokevirtual 209, 3) := by decide +kernel
theorem dX0_send_228 : decode mi_X0_send.2.1 228 = .ok (.l2i, 1) := by decide +kernel
theorem dX0_send_229 : decode mi_X0_send.2.1 229 = .ok (.iastore, 1) := by decide +kernel
theorem dX0_send_230 : decode mi_X0_send.2.1 230 = .ok (.iload 6, 2) := by decide +kernel
theorem dX0_send_232 : decode mi_X0_send.2.1 232 = .ok (.aload_n 0, 1) := by decide +kernel
theorem dX0_send_233 : decode mi_X0_send.2.1 233 = .ok (.getfield 162, 3) := by decide +kernel
theorem dX0_send_236 : decode mi_X0_send.2.1 236 = .ok (.iload 7, 2) := by decide +kernel
theorem dX0_send_238 : decode mi_X0_send.2.1 238 = .ok (.iaload, 1) := by decide +kernel
theorem dX0_send_239 : decode mi_X0_send.2.1 239 = .ok (.iadd, 1) := by decide +kernel
theorem dX0_send_240 : decode mi_X0_send.2.1 240 = .ok (.istore 6, 2) := by decide +kernel
theorem dX0_send_242 : decode mi_X0_send.2.1 242 = .ok (.iconst 0, 1) := by decide +kernel
theorem dX0_send_243 : decode mi_X0_send.2.1 243 = .ok (.istore 8, 2) := by decide +kernel
theorem dX0_send_245 : decode mi_X0_send.2.1 245 = .ok (.iload 8, 2) := by decide +kernel
theorem dX0_send_247 : decode mi_X0_send.2.1 247 = .ok (.iload 4, 2) := by decide +kernel
theorem dX0_send_249 : decode mi_X0_send.2.1 249 = .ok (.if_icmp .ge 49, 3) := by decide +kernel
theorem dX0_send_252 : decode mi_X0_send.2.1 252 = .ok (.aload_n 0, 1) := by decide +kernel
theorem dX0_send_253 : decode mi_X0_send.2.1 253 = .ok (.getfield 156, 3) := by decide +kernel
theorem dX0_send_256 : decode mi_X0_send.2.1 256 = .ok (.iload 7, 2) := by decide +kernel
theorem dX0_send_258 : decode mi_X0_send.2.1 258 = .ok (.aaload, 1) := by decide +kernel
theorem dX0_send_259 : decode mi_X0_send.2.1 259 = .ok (.iload 8, 2) := by decide +kernel
theorem dX0_send_261 : decode mi_X0_send.2.1 261 = .ok (.aload_n 0, 1) := by decide +kernel
theorem dX0_send_262 : decode mi_X0_send.2.1 262 = .ok (.getfield 11, 3) := by decide +kernel
theorem dX0_send_265 : decode mi_X0_send.2.1 265 = .ok (.iload 5, 2) := by decide +kernel
theorem dX0_send_267 : decode mi_X0_send.2.1 267 = .ok (.aaload, 1) := by decide +kernel
theorem dX0_send_268 : decode mi_X0_send.2.1 268 = .ok (.iload 4, 2) := by decide +kernel
theorem dX0_send_270 : decode mi_X0_send.2.1 270 = .ok (.iload 7, 2) := by decide +kernel
theorem dX0_send_272 : decode mi_X0_send.2.1 272 = .ok (.imul, 1) := by decide +kernel
theorem dX0_send_273 : decode mi_X0_send.2.1 273 = .ok (.iload 8, 2) := by decide +kernel
theorem dX0_send_275 : decode mi_X0_send.2.1 275 = .ok (.iadd, 1) := by decide +kernel
theorem dX0_send_276 : decode mi_X0_send.2.1 276 = .ok (.invokevirtual 209, 3) := by decide +kernel
theorem dX0_send_279 : decode mi_X0_send.2.1 279 = .ok (.l2i, 1) := by decide +kernel
theorem dX0_send_280 : decode mi_X0_send.2.1 280 = .ok (.iastore, 1) := by decide +kernel
theorem dX0_send_281 : decode mi_X0_send.2.1 281 = .ok (.aload_n 0, 1) := by decide +kernel
theorem dX0_send_282 : decode mi_X0_send.2.1 282 = .ok (.getfield 159, 3) := by decide +kernel
theorem dX0_send_285 : decode mi_X0_send.2.1 285 = .ok (.iload 7, 2) := by decide +kernel
theorem dX0_send_287 : decode mi_X0_send.2.1 287 = .ok (.aaload, 1) := by decide +kernel
theorem dX0_send_288 : decode mi_X0_send.2.1 288 = .ok (.iload 8, 2) := by decide +kernel
theorem dX0_send_290 : decode mi_X0_send.2.1 290 = .ok (.iconst 0, 1) := by decide +kernel
theorem dX0_send_291 : decode mi_X0_send.2.1 291 = .ok (.iastore, 1) := by decide +kernel
theorem dX0_send_292 : decode mi_X0_send.2.1 292 = .ok (.iinc 8 1, 3) := by decide +kernel
theorem dX0_send_295 : decode mi_X0_send.2.1 295 = .ok (.goto (-50), 3) := by decide +kernel
theorem dX0_send_298 : decode mi_X0_send.2.1 298 = .ok (.iinc 7 1, 3) := by decide +kernel
theorem dX0_send_301 : decode mi_X0_send.2.1 301 = .ok (.goto (-96), 3) := by decide +kernel
theorem dX0_send_304 : decode mi_X0_send.2.1 304 = .ok (.iconst 0, 1) := by decide +kernel
theorem dX0_send_305 : decode mi_X0_send.2.1 305 = .ok (.istore 7, 2) := by decide +kernel
theorem dX0_send_307 : decode mi_X0_send.2.1 307 = .ok (.iconst 0, 1) := by decide +kernel
theorem dX0_send_308 : decode mi_X0_send.2.1 308 = .ok (.istore 8, 2) := by decide +kernel
theorem dX0_send_310 : decode mi_X0_send.2.1 310 = .ok (.iload 8, 2) := by decide +kernel
theorem dX0_send_312 : decode mi_X0_send.2.1 312 = .ok (.iload 4, 2) := by decide +kernel
theorem dX0_send_314 : decode mi_X0_send.2.1 314 = .ok (.if_icmp .ge 40, 3) := by decide +kernel
theorem dX0_send_317 : decode mi_X0_send.2.1 317 = .ok (.aload_n 0, 1) := by decide +kernel
theorem dX0_send_318 : decode mi_X0_send.2.1 318 = .ok (.getfield 165, 3) := by decide +kernel
theorem dX0_send_321 : decode mi_X0_send.2.1 321 = .ok (.iload 8, 2) := by decide +kernel
theorem dX0_send_323 : decode mi_X0_send.2.1 323 = .ok (.aload_n 0, 1) := by decide +kernel
theorem dX0_send_324 : decode mi_X0_send.2.1 324 = .ok (.getfield 11, 3) := by decide +kernel
theorem dX0_send_327 : decode mi_X0_send.2.1 327 = .ok (.iload_n 3, 1) := by decide +kernel
theorem dX0_send_328 : decode mi_X0_send.2.1 328 = .ok (.aaload, 1) := by decide +kernel
theorem dX0_send_329 : decode mi_X0_send.2.1 329 = .ok (.iload 8, 2) := by decide +kernel
theorem dX0_send_331 : decode mi_X0_send.2.1 331 = .ok (.invokevirtual 209, 3) := by decide +kernel
theorem dX0_send_334 : decode mi_X0_send.2.1 334 = .ok (.l2i, 1) := by decide +kernel
theorem dX0_send_335 : decode mi_X0_send.2.1 335 = .ok (.iastore, 1) := by decide +kernel
theorem dX0_send_336 : decode mi_X0_send.2.1 336 = .ok (.iload 7, 2) := by decide +kernel
theorem dX0_send_338 : decode mi_X0_send.2.1 338 = .ok (.aload_n 0, 1) := by decide +kernel
theorem dX0_send_339 : decode mi_X0_send.2.1 339 = .ok (.getfield 165, 3) := by decide +kernel
theorem dX0_send_342 : decode mi_X0_send.2.1 342 = .ok (.iload 8, 2) := by decide +kernel
theorem dX0_send_344 : decode mi_X0_send.2.1 344 = .ok (.iaload, 1) := by decide +kernel
theorem dX0_send_345 : decode mi_X0_send.2.1 345 = .ok (.iadd, 1) := by decide +kernel
theorem dX0_send_346 : decode mi_X0_send.2.1 346 = .ok (.istore 7, 2) := by decide +kernel
theorem dX0_send_348 : decode mi_X0_send.2.1 348 = .ok (.iinc 8 1, 3) := by decide +kernel
theorem dX0_send_351 : decode mi_X0_send.2.1 351 = .ok (.goto (-41), 3) := by decide +kernel
theorem dX0_send_354 : decode mi_X0_send.2.1 354 = .ok (.iload 6, 2) := by decide +kernel
theorem dX0_send_356 : decode mi_X0_send.2.1 356 = .ok (.iload 7, 2) := by decide +kernel
theorem dX0_send_358 : decode mi_X0_send.2.1 358 = .ok (.if_icmp .ge 10, 3) := by decide +kernel
theorem dX0_send_361 : decode mi_X0_send.2.1 361 = .ok (.aload_n 0, 1) := by decide +kernel
theorem dX0_send_362 : decode mi_X0_send.2.1 362 = .ok (.bipush 9, 2) := by decide +kernel
theorem dX0_send_364 : decode mi_X0_send.2.1 364 = .ok (.invokevirtual 205, 3) := by decide +kernel
theorem dX0_send_367 : decode mi_X0_send.2.1 367 = .ok (.ireturn, 1) := by decide +kernel
theorem dX0_send_368 : decode mi_X0_send.2.1 368 = .ok (.iconst 0, 1) := by decide +kernel
theorem dX0_send_369 : decode mi_X0_send.2.1 369 = .ok (.istore 8, 2) := by decide +kernel
theorem dX0_send_371 : decode mi_X0_send.2.1 371 = .ok (.iconst 0, 1) := by decide +kernel
theorem dX0_send_372 : decode mi_X0_send.2.1 372 = .ok (.istore 9, 2) := by decide +kernel
theorem dX0_send_374 : decode mi_X0_send.2.1 374 = .ok (.iload 9, 2) := by decide +kernel
theorem dX0_send_376 : decode mi_X0_send.2.1 376 = .ok (.iload 7, 2) := by decide +kernel
theorem dX0_send_378 : decode mi_X0_send.2.1 378 = .ok (.if_icmp .ge 174, 3) := by decide +kernel
theorem dX0_send_381 : decode mi_X0_send.2.1 381 = .ok (.aload_n 0, 1) := by decide +kernel
theorem dX0_send_382 : decode mi_X0_send.2.1 382 = .ok (.iload_n 2, 1) := by decide +kernel
theorem dX0_send_383 : decode mi_X0_send.2.1 383 = .ok (.iload 4, 2) := by decide +kernel
theorem dX0_send_385 : decode mi_X0_send.2.1 385 = .ok (.invokevirtual 597, 3) := by decide +kernel
theorem dX0_send_388 : decode mi_X0_send.2.1 388 = .ok (.iconst (-1), 1) := by decide +kernel
theorem dX0_send_389 : decode mi_X0_send.2.1 389 = .ok (.istore 10, 2) := by decide +kernel
theorem dX0_send_391 : decode mi_X0_send.2.1 391 = .ok (.iconst 0, 1) := by decide +kernel
theorem dX0_send_392 : decode mi_X0_send.2.1 392 = .ok (.istore 11, 2) := by decide +kernel
theorem dX0_send_394 : decode mi_X0_send.2.1 394 = .ok (.iload 11, 2) := by decide +kernel
theorem dX0_send_396 : decode mi_X0_send.2.1 396 = .ok (.iload 4, 2) := by decide +kernel
theorem dX0_send_398 : decode mi_X0_send.2.1 398 = .ok (.if_icmp .ge 46, 3) := by decide +kernel
theorem dX0_send_401 : decode mi_X0_send.2.1 401 = .ok (.aload_n 0, 1) := by decide +kernel
theorem dX0_send_402 : decode mi_X0_send.2.1 402 = .ok (.getfield 165, 3) := by decide +kernel
theorem dX0_send_405 : decode mi_X0_send.2.1 405 = .ok (.iload 11, 2) := by decide +kernel
theorem dX0_send_407 : decode mi_X0_send.2.1 407 = .ok (.iaload, 1) := by decide +kernel
theorem dX0_send_408 : decode mi_X0_send.2.1 408 = .ok (.ifCond .le 30, 3) := by decide +kernel
theorem dX0_send_411 : decode mi_X0_send.2.1 411 = .ok (.iload 10, 2) := by decide +kernel
theorem dX0_send_413 : decode mi_X0_send.2.1 413 = .ok (.iconst (-1), 1) := by decide +kernel
theorem dX0_send_414 : decode mi_X0_send.2.1 414 = .ok (.if_icmp .eq 20, 3) := by decide +kernel
theorem dX0_send_417 : decode mi_X0_send.2.1 417 = .ok (.aload_n 0, 1) := by decide +kernel
theorem dX0_send_418 : decode mi_X0_send.2.1 418 = .ok (.getfield 171, 3) := by decide +kernel
theorem dX0_send_421 : decode mi_X0_send.2.1 421 = .ok (.iload 11, 2) := by decide +kernel
theorem dX0_send_423 : decode mi_X0_send.2.1 423 = .ok (.iaload, 1) := by decide +kernel
theorem dX0_send_424 : decode mi_X0_send.2.1 424 = .ok (.aload_n 0, 1) := by decide +kernel
theorem dX0_send_425 : decode mi_X0_send.2.1 425 = .ok (.getfield 171, 3) := by decide +kernel
theorem dX0_send_428 : decode mi_X0_send.2.1 428 = .ok (.iload 10, 2) := by decide +kernel
theorem dX0_send_430 : decode mi_X0_send.2.1 430 = .ok (.iaload, 1) := by decide +kernel
theorem dX0_send_431 : decode mi_X0_send.2.1 431 = .ok (.if_icmp .ge 7, 3) := by decide +kernel
theorem dX0_send_434 : decode mi_X0_send.2.1 434 = .ok (.iload 11, 2) := by decide +kernel
theorem dX0_send_436 : decode mi_X0_send.2.1 436 = .ok (.istore 10, 2) := by decide +kernel
theorem dX0_send_438 : decode mi_X0_send.2.1 438 = .ok (.iinc 11 1, 3) := by decide +kernel
theorem dX0_send_441 : decode mi_X0_send.2.1 441 = .ok (.goto (-47), 3) := by decide +kernel
theorem dX0_send_444 : decode mi_X0_send.2.1 444 = .ok (.iload 8, 2) := by decide +kernel
theorem dX0_send_446 : decode mi_X0_send.2.1 446 = .ok (.aload_n 0, 1) := by decide +kernel
theorem dX0_send_447 : decode mi_X0_send.2.1 447 = .ok (.getfield 171, 3) := by decide +kernel
theorem dX0_send_450 : decode mi_X0_send.2.1 450 = .ok (.iload 10, 2) := by decide +kernel
theorem dX0_send_452 : decode mi_X0_send.2.1 452 = .ok (.iaload, 1) := by decide +kernel
theorem dX0_send_453 : decode mi_X0_send.2.1 453 = .ok (.iadd, 1) := by decide +kernel
theorem dX0_send_454 : decode mi_X0_send.2.1 454 = .ok (.istore 8, 2) := by decide +kernel
theorem dX0_send_456 : decode mi_X0_send.2.1 456 = .ok (.aload_n 0, 1) := by decide +kernel
theorem dX0_send_457 : decode mi_X0_send.2.1 457 = .ok (.getfield 165, 3) := by decide +kernel
theorem dX0_send_460 : decode mi_X0_send.2.1 460 = .ok (.iload 10, 2) := by decide +kernel
theorem dX0_send_462 : decode mi_X0_send.2.1 462 = .ok (.dup2, 1) := by decide +kernel
theorem dX0_send_463 : decode mi_X0_send.2.1 463 = .ok (.iaload, 1) := by decide +kernel
theorem dX0_send_464 : decode mi_X0_send.2.1 464 = .ok (.iconst 1, 1) := by decide +kernel
theorem dX0_send_465 : decode mi_X0_send.2.1 465 = .ok (.isub, 1) := by decide +kernel
theorem dX0_send_466 : decode mi_X0_send.2.1 466 = .ok (.iastore, 1) := by decide +kernel
theorem dX0_send_467 : decode mi_X0_send.2.1 467 = .ok (.iload 10, 2) := by decide +kernel
theorem dX0_send_469 : decode mi_X0_send.2.1 469 = .ok (.istore 11, 2) := by decide +kernel
theorem dX0_send_471 : decode mi_X0_send.2.1 471 = .ok (.iload 11, 2) := by decide +kernel
theorem dX0_send_473 : decode mi_X0_send.2.1 473 = .ok (.iconst (-1), 1) := by decide +kernel
theorem dX0_send_474 : decode mi_X0_send.2.1 474 = .ok (.if_icmp .eq 72, 3) := by decide +kernel
theorem dX0_send_477 : decode mi_X0_send.2.1 477 = .ok (.aload_n 0, 1) := by decide +kernel
theorem dX0_send_478 : decode mi_X0_send.2.1 478 = .ok (.getfield 177, 3) := by decide +kernel
theorem dX0_send_481 : decode mi_X0_send.2.1 481 = .ok (.iload 11, 2) := by decide +kernel
theorem dX0_send_483 : decode mi_X0_send.2.1 483 = .ok (.iaload, 1) := by decide +kernel
theorem dX0_send_484 : decode mi_X0_send.2.1 484 = .ok (.istore 12, 2) := by decide +kernel
theorem dX0_send_486 : decode mi_X0_send.2.1 486 = .ok (.aload_n 0, 1) := by decide +kernel
theorem dX0_send_487 : decode mi_X0_send.2.1 487 = .ok (.getfield 159, 3) := by decide +kernel
theorem dX0_send_490 : decode mi_X0_send.2.1 490 = .ok (.iload 12, 2) := by decide +kernel
theorem dX0_send_492 : decode mi_X0_send.2.1 492 = .ok (.aaload, 1) := by decide +kernel
theorem dX0_send_493 : decode mi_X0_send.2.1 493 = .ok (.iload 11, 2) := by decide +kernel
theorem dX0_send_495 : decode mi_X0_send.2.1 495 = .ok (.dup2, 1) := by decide +kernel
theorem dX0_send_496 : decode mi_X0_send.2.1 496 = .ok (.iaload, 1) := by decide +kernel
theorem dX0_send_497 : decode mi_X0_send.2.1 497 = .ok (.iconst 1, 1) := by decide +kernel
theorem dX0_send_498 : decode mi_X0_send.2.1 498 = .ok (.iadd, 1) := by decide +kernel
theorem dX0_send_499 : decode mi_X0_send.2.1 499 = .ok (.iastore, 1) := by decide +kernel
theorem dX0_send_500 : decode mi_X0_send.2.1 500 = .ok (.aload_n 0, 1) := by decide +kernel
theorem dX0_send_501 : decode mi_X0_send.2.1 501 = .ok (.getfield 174, 3) := by decide +kernel
theorem dX0_send_504 : decode mi_X0_send.2.1 504 = .ok (.iload 12, 2) := by decide +kernel
theorem dX0_send_506 : decode mi_X0_send.2.1 506 = .ok (.iaload, 1) := by decide +kernel
theorem dX0_send_507 : decode mi_X0_send.2.1 507 = .ok (.istore 11, 2) := by decide +kernel
theorem dX0_send_509 : decode mi_X0_send.2.1 509 = .ok (.iload 11, 2) := by decide +kernel
theorem dX0_send_511 : decode mi_X0_send.2.1 511 = .ok (.iconst (-1), 1) := by decide +kernel
theorem dX0_send_512 : decode mi_X0_send.2.1 512 = .ok (.if_icmp .ne 17, 3) := by decide +kernel
theorem dX0_send_515 : decode mi_X0_send.2.1 515 = .ok (.aload_n 0, 1) := by decide +kernel
theorem dX0_send_516 : decode mi_X0_send.2.1 516 = .ok (.getfield 162, 3) := by decide +kernel
theorem dX0_send_519 : decode mi_X0_send.2.1 519 = .ok (.iload 12, 2) := by decide +kernel
theorem dX0_send_521 : decode mi_X0_send.2.1 521 = .ok (.dup2, 1) := by decide +kernel
theorem dX0_send_522 : decode mi_X0_send.2.1 522 = .ok (.iaload, 1) := by decide +kernel
theorem dX0_send_523 : decode mi_X0_send.2.1 523 = .ok (.iconst 1, 1) := by decide +kernel
theorem dX0_send_524 : decode mi_X0_send.2.1 524 = .ok (.isub, 1) := by decide +kernel
theorem dX0_send_525 : decode mi_X0_send.2.1 525 = .ok (.iastore, 1) := by decide +kernel
theorem dX0_send_526 : decode mi_X0_send.2.1 526 = .ok (.goto 17, 3) := by decide +kernel
theorem dX0_send_529 : decode mi_X0_send.2.1 529 = .ok (.aload_n 0, 1) := by decide +kernel
theorem dX0_send_530 : decode mi_X0_send.2.1 530 = .ok (.getfield 159, 3) := by decide +kernel
theorem dX0_send_533 : decode mi_X0_send.2.1 533 = .ok (.iload 12, 2) := by decide +kernel
theorem dX0_send_535 : decode mi_X0_send.2.1 535 = .ok (.aaload, 1) := by decide +kernel
theorem dX0_send_536 : decode mi_X0_send.2.1 536 = .ok (.iload 11, 2) := by decide +kernel
theorem dX0_send_538 : decode mi_X0_send.2.1 538 = .ok (.dup2, 1) := by decide +kernel
theorem dX0_send_539 : decode mi_X0_send.2.1 539 = .ok (.iaload, 1) := by decide +kernel
theorem dX0_send_540 : decode mi_X0_send.2.1 540 = .ok (.iconst 1, 1) := by decide +kernel
theorem dX0_send_541 : decode mi_X0_send.2.1 541 = .ok (.isub, 1) := by decide +kernel
theorem dX0_send_542 : decode mi_X0_send.2.1 542 = .ok (.iastore, 1) := by decide +kernel
theorem dX0_send_543 : decode mi_X0_send.2.1 543 = .ok (.goto (-72), 3) := by decide +kernel
theorem dX0_send_546 : decode mi_X0_send.2.1 546 = .ok (.iinc 9 1, 3) := by decide +kernel
theorem dX0_send_549 : decode mi_X0_send.2.1 549 = .ok (.goto (-175), 3) := by decide +kernel
theorem dX0_send_552 : decode mi_X0_send.2.1 552 = .ok (.aload_n 0, 1) := by decide +kernel
theorem dX0_send_553 : decode mi_X0_send.2.1 553 = .ok (.iload 8, 2) := by decide +kernel
theorem dX0_send_555 : decode mi_X0_send.2.1 555 = .ok (.invokevirtual 250, 3) := by decide +kernel
theorem dX0_send_558 : decode mi_X0_send.2.1 558 = .ok (.ireturn, 1) := by decide +kernel
theorem v_X0_send {G : ma_G} {d : Nat} {a0 : Nat} {x1 : Int32} {x2 : Int32} {x3 : Int32} {x4 : Int32} {x5 : Int32} {h : ah_T} {Q : Option ma_V → ah_T → Prop} {E : Nat → ah_T → Prop} (La0_h : LY0 h a0) (H : (x1 < 0 → ∀ h2 : ah_T, h2 = ah_wI h a0 20 (1 : Int32) → ah_ext h h2 → Q (some (iv (-1 : Int32))) h2) ∧ (¬ x1 < 0 → ((4 : Int32) ≤ x1 → ∀ h4 : ah_T, h4 = ah_wI h a0 20 (1 : Int32) → ah_ext h h4 → Q (some (iv (-1 : Int32))) h4) ∧ (¬ (4 : Int32) ≤ x1 → (x3 < 0 → ∀ h6 : ah_T, h6 = ah_wI h a0 20 (1 : Int32) → ah_ext h h6 → Q (some (iv (-1 : Int32))) h6) ∧ (¬ x3 < 0 → ((4 : Int32) ≤ x3 → ∀ h8 : ah_T, h8 = ah_wI h a0 20 (1 : Int32) → ah_ext h h8 → Q (some (iv (-1 : Int32))) h8) ∧ (¬ (4 : Int32) ≤ x3 → (x5 < 0 → ∀ h10 : ah_T, h10 = ah_wI h a0 20 (1 : Int32) → ah_ext h h10 → Q (some (iv (-1 : Int32))) h10) ∧ (¬ x5 < 0 → ((4 : Int32) ≤ x5 → ∀ h12 : ah_T, h12 = ah_wI h a0 20 (1 : Int32) → ah_ext h h12 → Q (some (iv (-1 : Int32))) h12) ∧ (¬ (4 : Int32) ≤ x5 → vp_in x1 4 ∧ ((ah_R h (a0 + (1494 + x1.toNatClampNeg)) 0) = 0 → ∀ h15 : ah_T, h15 = ah_wI h a0 20 (3 : Int32) → ah_ext h h15 → Q (some (iv (-1 : Int32))) h15) ∧ (¬ (ah_R h (a0 + (1494 + x1.toNatClampNeg)) 0) = 0 → vp_in x3 4 ∧ ((ah_R h (a0 + (1494 + x3.toNatClampNeg)) 0) = 0 → ∀ h18 : ah_T, h18 = ah_wI h a0 20 (3 : Int32) → ah_ext h h18 → Q (some (iv (-1 : Int32))) h18) ∧ (¬ (ah_R h (a0 + (1494 + x3.toNatClampNeg)) 0) = 0 → vp_in x5 4 ∧ (¬ (ah_R h (a0 + (1494 + x5.toNatClampNeg)) 0) = 0 → (x2 < (1 : Int32) → ∀ h22 : ah_T, h22 = ah_wI h a0 20 (5 : Int32) → ah_ext h h22 → Q (some (iv (-1 : Int32))) h22) ∧ (¬ x2 < (1 : Int32) → ((5 : Int32) < x2 → ∀ h24 : ah_T, h24 = ah_wI h a0 20 (5 : Int32) → ah_ext h h24 → Q (some (iv (-1 : Int32))) h24) ∧ (¬ (5 : Int32) < x2 → (x4 < (1 : Int32) → ∀ h26 : ah_T, h26 = ah_wI h a0 20 (5 : Int32) → ah_ext h h26 → Q (some (iv (-1 : Int32))) h26) ∧ (¬ x4 < (1 : Int32) → (x4 ≤ (4 : Int32) → MX G mi_X7_many d 0 [some (rv (a0 + (1494 + x1.toNatClampNeg)))] [] h (Qi fun r29 h28 => ah_ext h h28 → (r29 < x2 → ∀ h31 : ah_T, h31 = ah_wI h28 a0 20 (4 : Int32) → ah_ext h28 h31 → Q (some (iv (-1 : Int32))) h31) ∧ (¬ r29 < x2 → MX G mi_X7_many d 0 [some (rv (a0 + (1494 + x3.toNatClampNeg)))] [] h28 (Qi fun r33 h32 => ah_ext h28 h32 → (r33 < x4 → ∀ h35 : ah_T, h35 = ah_wI h32 a0 20 (4 : Int32) → ah_ext h32 h35 → Q (some (iv (-1 : Int32))) h35) ∧ (¬ r33 < x4 → MX G mi_X7_many d 0 [some (rv (a0 + (1494 + x5.toNatClampNeg)))] [] h32 (Qi fun r37 h36 => ah_ext h32 h36 → ((x2 * x4) ≤ r37 → MX G mi_X0_areFrom d 0 [some (rv a0), some (iv x1), some (iv x2), some (jv (0 : Int64)), none, some (jv (30 : Int64)), none, none] [] h36 (Qi fun r40 h39 => ah_ext h36 h39 → (r40 = 0 → ∀ h42 : ah_T, h42 = ah_wI h39 a0 20 (5 : Int32) → ah_ext h39 h42 → Q (some (iv (-1 : Int32))) h42) ∧ (¬ r40 = 0 → MX G mi_X0_areFrom d 0 [some (rv a0), some (iv x3), some (iv x4), some (jv (0 : Int64)), none, some (jv (30 : Int64)), none, none] [] h39 (Qi fun r44 h43 => ah_ext h39 h43 → (r44 = 0 → ∀ h46 : ah_T, h46 = ah_wI h43 a0 20 (5 : Int32) → ah_ext h43 h46 → Q (some (iv (-1 : Int32))) h46) ∧ (¬ r44 = 0 → MX G mi_X0_areFrom d 0 [some (rv a0), some (iv x5), some (iv (x2 * x4)), some (jv (0 : Int64)), none, some (jv (100 : Int64)), none, none] [] h43 (Qi fun r48 h47 => ah_ext h43 h47 → (¬ r48 = 0 → MX G mi_X0_send (d + 1) 205 [some (rv a0), some (iv x1), some (iv x2), some (iv x3), some (iv x4), some (iv x5), some (iv (0 : Int32)), some (iv (0 : Int32)), none, none, none, none, none] [] h47 Q E) ∧ (r48 = 0 → ∀ h50 : ah_T, h50 = ah_wI h47 a0 20 (5 : Int32) → ah_ext h47 h50 → Q (some (iv (-1 : Int32))) h50)) E)) E)) E) ∧ (¬ (x2 * x4) ≤ r37 → ∀ h51 : ah_T, h51 = ah_wI h36 a0 20 (4 : Int32) → ah_ext h36 h51 → Q (some (iv (-1 : Int32))) h51)) E)) E)) E) ∧ (¬ x4 ≤ (4 : Int32) → ∀ h52 : ah_T, h52 = ah_wI h a0 20 (5 : Int32) → ah_ext h h52 → Q (some (iv (-1 : Int32))) h52))))) ∧ ((ah_R h (a0 + (1494 + x5.toNatClampNeg)) 0) = 0 → ∀ h53 : ah_T, h53 = ah_wI h a0 20 (3 : Int32) → ah_ext h h53 → Q (some (iv (-1 : Int32))) h53)))))))))) : MX G mi_X0_send (d + 1) 0 [some (rv a0), some (iv x1), some (iv x2), some (iv x3), some (iv x4), some (iv x5), none, none, none, none, none, none, none] [] h Q E := by
  refine mx_iload_n dX0_send_0 rfl rfl ?_
  refine mx_callS (y' := mi_X0_isTray) (vs := [iv x1]) (st := []) (al' := [some (iv x1)]) S_X0_isTray q661 dX0_send_1 rfl rfl (Nat.le_of_ble_eq_true rfl) (Nat.le_of_ble_eq_true rfl) ?_
  refine mx_iload_n dX0_isTray_0 rfl rfl ?_
  refine mx_if_lt (tgt := 13) dX0_isTray_1 rfl (fun c1 => ?_) (fun c1 => ?_)
  · have H := H.1 c1
    refine mx_iconst dX0_isTray_13 ic_0 ?_
    refine mx_zretK rfl dX0_isTray_14 (Or.inl rfl) ?_
    refine mx_if_eq (tgt := 22) dX0_send_4 rfl (fun _ => ?_) (fun _ => absurd ‹_› (by decide))
    refine mx_aload_n dX0_send_22 rfl rfl ?_
    refine mx_iconst dX0_send_23 ic_1 ?_
    refine mx_callV 0 (y' := mi_X0_none) (vs := [iv (1 : Int32)]) (st := []) (al' := [some (rv a0), some (iv (1 : Int32))]) cl_0 V_X0_none (Or.inl q733) dX0_send_24 rfl rfl (Nat.le_of_ble_eq_true rfl) (Nat.le_of_ble_eq_true rfl) (ly0_k La0_h) ?_
    refine mx_aload_n dX0_none_0 rfl rfl ?_
    refine mx_iload_n dX0_none_1 rfl rfl ?_
    refine mx_putI 0 20 (ref := "PrairiePool") cl_0 (Nat.le_of_ble_eq_true rfl) (Or.inl q480) (Or.inl rfl) dX0_none_2 (Or.inl rfl) rfl (ly0_k La0_h) ?_
    refine mx_nmI  (fun h2 eh2 Xh2 Kh2 Lh2 => ?_)
    have H := H h2 eh2 Xh2
    have La0_h2 := La0_h.ext Xh2
    refine mx_iconst dX0_none_5 ic_m1 ?_
    refine mx_iretK rfl dX0_none_6 ?_
    exact mx_iret rfl dX0_send_27 H
  · have H := H.2 c1
    refine mx_iload_n dX0_isTray_4 rfl rfl ?_
    refine mx_iconst dX0_isTray_5 ic_4 ?_
    refine mx_icmp_ge (tgt := 13) dX0_isTray_6 rfl (fun c3 => ?_) (fun c3 => ?_)
    · have H := H.1 c3
      refine mx_iconst dX0_isTray_13 ic_0 ?_
      refine mx_zretK rfl dX0_isTray_14 (Or.inl rfl) ?_
      refine mx_if_eq (tgt := 22) dX0_send_4 rfl (fun _ => ?_) (fun _ => absurd ‹_› (by decide))
      refine mx_aload_n dX0_send_22 rfl rfl ?_
      refine mx_iconst dX0_send_23 ic_1 ?_
      refine mx_callV 0 (y' := mi_X0_none) (vs := [iv (1 : Int32)]) (st := []) (al' := [some (rv a0), some (iv (1 : Int32))]) cl_0 V_X0_none (Or.inl q733) dX0_send_24 rfl rfl (Nat.le_of_ble_eq_true rfl) (Nat.le_of_ble_eq_true rfl) (ly0_k La0_h) ?_
      refine mx_aload_n dX0_none_0 rfl rfl ?_
      refine mx_iload_n dX0_none_1 rfl rfl ?_
      refine mx_putI 0 20 (ref := "PrairiePool") cl_0 (Nat.le_of_ble_eq_true rfl) (Or.inl q480) (Or.inl rfl) dX0_none_2 (Or.inl rfl) rfl (ly0_k La0_h) ?_
      refine mx_nmI  (fun h4 eh4 Xh4 Kh4 Lh4 => ?_)
      have H := H h4 eh4 Xh4
      have La0_h4 := La0_h.ext Xh4
      refine mx_iconst dX0_none_5 ic_m1 ?_
      refine mx_iretK rfl dX0_none_6 ?_
      exact mx_iret rfl dX0_send_27 H
    · have H := H.2 c3
      refine mx_iconst dX0_isTray_9 ic_1 ?_
      refine mx_goto (tgt := 14) dX0_isTray_10 rfl ?_
      refine mx_zretK rfl dX0_isTray_14 (Or.inr rfl) ?_
      refine mx_if_eq (tgt := 22) dX0_send_4 rfl (fun _ => absurd ‹_› (by decide)) (fun _ => ?_)
      refine mx_iload_n dX0_send_7 rfl rfl ?_
      refine mx_callS (y' := mi_X0_isTray) (vs := [iv x3]) (st := []) (al' := [some (iv x3)]) S_X0_isTray q661 dX0_send_8 rfl rfl (Nat.le_of_ble_eq_true rfl) (Nat.le_of_ble_eq_true rfl) ?_
      refine mx_iload_n dX0_isTray_0 rfl rfl ?_
      refine mx_if_lt (tgt := 13) dX0_isTray_1 rfl (fun c5 => ?_) (fun c5 => ?_)
      · have H := H.1 c5
        refine mx_iconst dX0_isTray_13 ic_0 ?_
        refine mx_zretK rfl dX0_isTray_14 (Or.inl rfl) ?_
        refine mx_if_eq (tgt := 22) dX0_send_11 rfl (fun _ => ?_) (fun _ => absurd ‹_› (by decide))
        refine mx_aload_n dX0_send_22 rfl rfl ?_
        refine mx_iconst dX0_send_23 ic_1 ?_
        refine mx_callV 0 (y' := mi_X0_none) (vs := [iv (1 : Int32)]) (st := []) (al' := [some (rv a0), some (iv (1 : Int32))]) cl_0 V_X0_none (Or.inl q733) dX0_send_24 rfl rfl (Nat.le_of_ble_eq_true rfl) (Nat.le_of_ble_eq_true rfl) (ly0_k La0_h) ?_
        refine mx_aload_n dX0_none_0 rfl rfl ?_
        refine mx_iload_n dX0_none_1 rfl rfl ?_
        refine mx_putI 0 20 (ref := "PrairiePool") cl_0 (Nat.le_of_ble_eq_true rfl) (Or.inl q480) (Or.inl rfl) dX0_none_2 (Or.inl rfl) rfl (ly0_k La0_h) ?_
        refine mx_nmI  (fun h6 eh6 Xh6 Kh6 Lh6 => ?_)
        have H := H h6 eh6 Xh6
        have La0_h6 := La0_h.ext Xh6
        refine mx_iconst dX0_none_5 ic_m1 ?_
        refine mx_iretK rfl dX0_none_6 ?_
        exact mx_iret rfl dX0_send_27 H
      · have H := H.2 c5
        refine mx_iload_n dX0_isTray_4 rfl rfl ?_
        refine mx_iconst dX0_isTray_5 ic_4 ?_
        refine mx_icmp_ge (tgt := 13) dX0_isTray_6 rfl (fun c7 => ?_) (fun c7 => ?_)
        · have H := H.1 c7
          refine mx_iconst dX0_isTray_13 ic_0 ?_
          refine mx_zretK rfl dX0_isTray_14 (Or.inl rfl) ?_
          refine mx_if_eq (tgt := 22) dX0_send_11 rfl (fun _ => ?_) (fun _ => absurd ‹_› (by decide))
          refine mx_aload_n dX0_send_22 rfl rfl ?_
          refine mx_iconst dX0_send_23 ic_1 ?_
          refine mx_callV 0 (y' := mi_X0_none) (vs := [iv (1 : Int32)]) (st := []) (al' := [some (rv a0), some (iv (1 : Int32))]) cl_0 V_X0_none (Or.inl q733) dX0_send_24 rfl rfl (Nat.le_of_ble_eq_true rfl) (Nat.le_of_ble_eq_true rfl) (ly0_k La0_h) ?_
          refine mx_aload_n dX0_none_0 rfl rfl ?_
          refine mx_iload_n dX0_none_1 rfl rfl ?_
          refine mx_putI 0 20 (ref := "PrairiePool") cl_0 (Nat.le_of_ble_eq_true rfl) (Or.inl q480) (Or.inl rfl) dX0_none_2 (Or.inl rfl) rfl (ly0_k La0_h) ?_
          refine mx_nmI  (fun h8 eh8 Xh8 Kh8 Lh8 => ?_)
          have H := H h8 eh8 Xh8
          have La0_h8 := La0_h.ext Xh8
          refine mx_iconst dX0_none_5 ic_m1 ?_
          refine mx_iretK rfl dX0_none_6 ?_
          exact mx_iret rfl dX0_send_27 H
        · have H := H.2 c7
          refine mx_iconst dX0_isTray_9 ic_1 ?_
          refine mx_goto (tgt := 14) dX0_isTray_10 rfl ?_
          refine mx_zretK rfl dX0_isTray_14 (Or.inr rfl) ?_
          refine mx_if_eq (tgt := 22) dX0_send_11 rfl (fun _ => absurd ‹_› (by decide)) (fun _ => ?_)
          refine mx_iload dX0_send_14 rfl ?_
          refine mx_callS (y' := mi_X0_isTray) (vs := [iv x5]) (st := []) (al' := [some (iv x5)]) S_X0_isTray q661 dX0_send_16 rfl rfl (Nat.le_of_ble_eq_true rfl) (Nat.le_of_ble_eq_true rfl) ?_
          refine mx_iload_n dX0_isTray_0 rfl rfl ?_
          refine mx_if_lt (tgt := 13) dX0_isTray_1 rfl (fun c9 => ?_) (fun c9 => ?_)
          · have H := H.1 c9
            refine mx_iconst dX0_isTray_13 ic_0 ?_
            refine mx_zretK rfl dX0_isTray_14 (Or.inl rfl) ?_
            refine mx_if_ne (tgt := 28) dX0_send_19 rfl (fun _ => absurd ‹_› (by decide)) (fun _ => ?_)
            refine mx_aload_n dX0_send_22 rfl rfl ?_
            refine mx_iconst dX0_send_23 ic_1 ?_
            refine mx_callV 0 (y' := mi_X0_none) (vs := [iv (1 : Int32)]) (st := []) (al' := [some (rv a0), some (iv (1 : Int32))]) cl_0 V_X0_none (Or.inl q733) dX0_send_24 rfl rfl (Nat.le_of_ble_eq_true rfl) (Nat.le_of_ble_eq_true rfl) (ly0_k La0_h) ?_
            refine mx_aload_n dX0_none_0 rfl rfl ?_
            refine mx_iload_n dX0_none_1 rfl rfl ?_
            refine mx_putI 0 20 (ref := "PrairiePool") cl_0 (Nat.le_of_ble_eq_true rfl) (Or.inl q480) (Or.inl rfl) dX0_none_2 (Or.inl rfl) rfl (ly0_k La0_h) ?_
            refine mx_nmI  (fun h10 eh10 Xh10 Kh10 Lh10 => ?_)
            have H := H h10 eh10 Xh10
            have La0_h10 := La0_h.ext Xh10
            refine mx_iconst dX0_none_5 ic_m1 ?_
            refine mx_iretK rfl dX0_none_6 ?_
            exact mx_iret rfl dX0_send_27 H
          · have H := H.2 c9
            refine mx_iload_n dX0_isTray_4 rfl rfl ?_
            refine mx_iconst dX0_isTray_5 ic_4 ?_
            refine mx_icmp_ge (tgt := 13) dX0_isTray_6 rfl (fun c11 => ?_) (fun c11 => ?_)
            · have H := H.1 c11
              refine mx_iconst dX0_isTray_13 ic_0 ?_
              refine mx_zretK rfl dX0_isTray_14 (Or.inl rfl) ?_
              refine mx_if_ne (tgt := 28) dX0_send_19 rfl (fun _ => absurd ‹_› (by decide)) (fun _ => ?_)
              refine mx_aload_n dX0_send_22 rfl rfl ?_
              refine mx_iconst dX0_send_23 ic_1 ?_
              refine mx_callV 0 (y' := mi_X0_none) (vs := [iv (1 : Int32)]) (st := []) (al' := [some (rv a0), some (iv (1 : Int32))]) cl_0 V_X0_none (Or.inl q733) dX0_send_24 rfl rfl (Nat.le_of_ble_eq_true rfl) (Nat.le_of_ble_eq_true rfl) (ly0_k La0_h) ?_
              refine mx_aload_n dX0_none_0 rfl rfl ?_
              refine mx_iload_n dX0_none_1 rfl rfl ?_
              refine mx_putI 0 20 (ref := "PrairiePool") cl_0 (Nat.le_of_ble_eq_true rfl) (Or.inl q480) (Or.inl rfl) dX0_none_2 (Or.inl rfl) rfl (ly0_k La0_h) ?_
              refine mx_nmI  (fun h12 eh12 Xh12 Kh12 Lh12 => ?_)
              have H := H h12 eh12 Xh12
              have La0_h12 := La0_h.ext Xh12
              refine mx_iconst dX0_none_5 ic_m1 ?_
              refine mx_iretK rfl dX0_none_6 ?_
              exact mx_iret rfl dX0_send_27 H
            · have H := H.2 c11
              refine mx_iconst dX0_isTray_9 ic_1 ?_
              refine mx_goto (tgt := 14) dX0_isTray_10 rfl ?_
              refine mx_zretK rfl dX0_isTray_14 (Or.inr rfl) ?_
              refine mx_if_ne (tgt := 28) dX0_send_19 rfl (fun _ => ?_) (fun _ => absurd ‹_› (by decide))
              refine mx_aload_n dX0_send_28 rfl rfl ?_
              refine mx_get 0 0 (ref := "PrairiePool") cl_0 (Nat.le_of_ble_eq_true rfl) (Or.inl q460) (Or.inl rfl) dX0_send_29 (fv_0_0 _ _) (ly0_k La0_h) ?_
              refine mx_tr (ly0_R_0_0 La0_h) ?_
              refine mx_iload_n dX0_send_32 rfl rfl ?_
              obtain ⟨k13, H⟩ := H
              refine my_aald 5 dX0_send_33 (by decide) rfl (ly0_A_1 La0_h k13) ?_
              refine mx_tr (ly0_T La0_h (vp_lt k13)) ?_
              refine mx_get 7 0 (ref := "PrairiePool$Tray") cl_7 (Nat.le_of_ble_eq_true rfl) (Or.inr ⟨_, q452⟩) (Or.inl rfl) dX0_send_34 (fv_7_0 _ _) (ly0_TK La0_h (vp_lt k13)) ?_
              refine mx_ifnull (tgt := 65) dX0_send_37 rfl (fun c14 => ?_) (fun c14 => ?_)
              · have H := H.1 c14
                refine mx_aload_n dX0_send_65 rfl rfl ?_
                refine mx_iconst dX0_send_66 ic_3 ?_
                refine mx_callV 0 (y' := mi_X0_none) (vs := [iv (3 : Int32)]) (st := []) (al' := [some (rv a0), some (iv (3 : Int32))]) cl_0 V_X0_none (Or.inl q733) dX0_send_67 rfl rfl (Nat.le_of_ble_eq_true rfl) (Nat.le_of_ble_eq_true rfl) (ly0_k La0_h) ?_
                refine mx_aload_n dX0_none_0 rfl rfl ?_
                refine mx_iload_n dX0_none_1 rfl rfl ?_
                refine mx_putI 0 20 (ref := "PrairiePool") cl_0 (Nat.le_of_ble_eq_true rfl) (Or.inl q480) (Or.inl rfl) dX0_none_2 (Or.inl rfl) rfl (ly0_k La0_h) ?_
                refine mx_nmI  (fun h15 eh15 Xh15 Kh15 Lh15 => ?_)
                have H := H h15 eh15 Xh15
                have La0_h15 := La0_h.ext Xh15
                refine mx_iconst dX0_none_5 ic_m1 ?_
                refine mx_iretK rfl dX0_none_6 ?_
                exact mx_iret rfl dX0_send_70 H
              · have H := H.2 c14
                refine mx_aload_n dX0_send_40 rfl rfl ?_
                refine mx_get 0 0 (ref := "PrairiePool") cl_0 (Nat.le_of_ble_eq_true rfl) (Or.inl q460) (Or.inl rfl) dX0_send_41 (fv_0_0 _ _) (ly0_k La0_h) ?_
                refine mx_tr (ly0_R_0_0 La0_h) ?_
                refine mx_iload_n dX0_send_44 rfl rfl ?_
                obtain ⟨k16, H⟩ := H
                refine my_aald 5 dX0_send_45 (by decide) rfl (ly0_A_1 La0_h k16) ?_
                refine mx_tr (ly0_T La0_h (vp_lt k16)) ?_
                refine mx_get 7 0 (ref := "PrairiePool$Tray") cl_7 (Nat.le_of_ble_eq_true rfl) (Or.inr ⟨_, q452⟩) (Or.inl rfl) dX0_send_46 (fv_7_0 _ _) (ly0_TK La0_h (vp_lt k16)) ?_
                refine mx_ifnull (tgt := 65) dX0_send_49 rfl (fun c17 => ?_) (fun c17 => ?_)
                · have H := H.1 c17
                  refine mx_aload_n dX0_send_65 rfl rfl ?_
                  refine mx_iconst dX0_send_66 ic_3 ?_
                  refine mx_callV 0 (y' := mi_X0_none) (vs := [iv (3 : Int32)]) (st := []) (al' := [some (rv a0), some (iv (3 : Int32))]) cl_0 V_X0_none (Or.inl q733) dX0_send_67 rfl rfl (Nat.le_of_ble_eq_true rfl) (Nat.le_of_ble_eq_true rfl) (ly0_k La0_h) ?_
                  refine mx_aload_n dX0_none_0 rfl rfl ?_
                  refine mx_iload_n dX0_none_1 rfl rfl ?_
                  refine mx_putI 0 20 (ref := "PrairiePool") cl_0 (Nat.le_of_ble_eq_true rfl) (Or.inl q480) (Or.inl rfl) dX0_none_2 (Or.inl rfl) rfl (ly0_k La0_h) ?_
                  refine mx_nmI  (fun h18 eh18 Xh18 Kh18 Lh18 => ?_)
                  have H := H h18 eh18 Xh18
                  have La0_h18 := La0_h.ext Xh18
                  refine mx_iconst dX0_none_5 ic_m1 ?_
                  refine mx_iretK rfl dX0_none_6 ?_
                  exact mx_iret rfl dX0_send_70 H
                · have H := H.2 c17
                  refine mx_aload_n dX0_send_52 rfl rfl ?_
                  refine mx_get 0 0 (ref := "PrairiePool") cl_0 (Nat.le_of_ble_eq_true rfl) (Or.inl q460) (Or.inl rfl) dX0_send_53 (fv_0_0 _ _) (ly0_k La0_h) ?_
                  refine mx_tr (ly0_R_0_0 La0_h) ?_
                  refine mx_iload dX0_send_56 rfl ?_
                  obtain ⟨k19, H⟩ := H
                  refine my_aald 5 dX0_send_58 (by decide) rfl (ly0_A_1 La0_h k19) ?_
                  refine mx_tr (ly0_T La0_h (vp_lt k19)) ?_
                  refine mx_get 7 0 (ref := "PrairiePool$Tray") cl_7 (Nat.le_of_ble_eq_true rfl) (Or.inr ⟨_, q452⟩) (Or.inl rfl) dX0_send_59 (fv_7_0 _ _) (ly0_TK La0_h (vp_lt k19)) ?_
                  refine mx_ifnonnull (tgt := 71) dX0_send_62 rfl (fun c20 => ?_) (fun c20 => ?_)
                  · have H := H.1 c20
                    refine mx_iload_n dX0_send_71 rfl rfl ?_
                    refine mx_iconst dX0_send_72 ic_1 ?_
                    refine mx_icmp_lt (tgt := 93) dX0_send_73 rfl (fun c21 => ?_) (fun c21 => ?_)
                    · have H := H.1 c21
                      refine mx_aload_n dX0_send_93 rfl rfl ?_
                      refine mx_iconst dX0_send_94 ic_5 ?_
                      refine mx_callV 0 (y' := mi_X0_none) (vs := [iv (5 : Int32)]) (st := []) (al' := [some (rv a0), some (iv (5 : Int32))]) cl_0 V_X0_none (Or.inl q733) dX0_send_95 rfl rfl (Nat.le_of_ble_eq_true rfl) (Nat.le_of_ble_eq_true rfl) (ly0_k La0_h) ?_
                      refine mx_aload_n dX0_none_0 rfl rfl ?_
                      refine mx_iload_n dX0_none_1 rfl rfl ?_
                      refine mx_putI 0 20 (ref := "PrairiePool") cl_0 (Nat.le_of_ble_eq_true rfl) (Or.inl q480) (Or.inl rfl) dX0_none_2 (Or.inl rfl) rfl (ly0_k La0_h) ?_
                      refine mx_nmI  (fun h22 eh22 Xh22 Kh22 Lh22 => ?_)
                      have H := H h22 eh22 Xh22
                      have La0_h22 := La0_h.ext Xh22
                      refine mx_iconst dX0_none_5 ic_m1 ?_
                      refine mx_iretK rfl dX0_none_6 ?_
                      exact mx_iret rfl dX0_send_98 H
                    · have H := H.2 c21
                      refine mx_iload_n dX0_send_76 rfl rfl ?_
                      refine mx_iconst dX0_send_77 ic_5 ?_
                      refine mx_icmp_gt (tgt := 93) dX0_send_78 rfl (fun c23 => ?_) (fun c23 => ?_)
                      · have H := H.1 c23
                        refine mx_aload_n dX0_send_93 rfl rfl ?_
                        refine mx_iconst dX0_send_94 ic_5 ?_
                        refine mx_callV 0 (y' := mi_X0_none) (vs := [iv (5 : Int32)]) (st := []) (al' := [some (rv a0), some (iv (5 : Int32))]) cl_0 V_X0_none (Or.inl q733) dX0_send_95 rfl rfl (Nat.le_of_ble_eq_true rfl) (Nat.le_of_ble_eq_true rfl) (ly0_k La0_h) ?_
                        refine mx_aload_n dX0_none_0 rfl rfl ?_
                        refine mx_iload_n dX0_none_1 rfl rfl ?_
                        refine mx_putI 0 20 (ref := "PrairiePool") cl_0 (Nat.le_of_ble_eq_true rfl) (Or.inl q480) (Or.inl rfl) dX0_none_2 (Or.inl rfl) rfl (ly0_k La0_h) ?_
                        refine mx_nmI  (fun h24 eh24 Xh24 Kh24 Lh24 => ?_)
                        have H := H h24 eh24 Xh24
                        have La0_h24 := La0_h.ext Xh24
                        refine mx_iconst dX0_none_5 ic_m1 ?_
                        refine mx_iretK rfl dX0_none_6 ?_
                        exact mx_iret rfl dX0_send_98 H
                      · have H := H.2 c23
                        refine mx_iload dX0_send_81 rfl ?_
                        refine mx_iconst dX0_send_83 ic_1 ?_
                        refine mx_icmp_lt (tgt := 93) dX0_send_84 rfl (fun c25 => ?_) (fun c25 => ?_)
                        · have H := H.1 c25
                          refine mx_aload_n dX0_send_93 rfl rfl ?_
                          refine mx_iconst dX0_send_94 ic_5 ?_
                          refine mx_callV 0 (y' := mi_X0_none) (vs := [iv (5 : Int32)]) (st := []) (al' := [some (rv a0), some (iv (5 : Int32))]) cl_0 V_X0_none (Or.inl q733) dX0_send_95 rfl rfl (Nat.le_of_ble_eq_true rfl) (Nat.le_of_ble_eq_true rfl) (ly0_k La0_h) ?_
                          refine mx_aload_n dX0_none_0 rfl rfl ?_
                          refine mx_iload_n dX0_none_1 rfl rfl ?_
                          refine mx_putI 0 20 (ref := "PrairiePool") cl_0 (Nat.le_of_ble_eq_true rfl) (Or.inl q480) (Or.inl rfl) dX0_none_2 (Or.inl rfl) rfl (ly0_k La0_h) ?_
                          refine mx_nmI  (fun h26 eh26 Xh26 Kh26 Lh26 => ?_)
                          have H := H h26 eh26 Xh26
                          have La0_h26 := La0_h.ext Xh26
                          refine mx_iconst dX0_none_5 ic_m1 ?_
                          refine mx_iretK rfl dX0_none_6 ?_
                          exact mx_iret rfl dX0_send_98 H
                        · have H := H.2 c25
                          refine mx_iload dX0_send_87 rfl ?_
                          refine mx_iconst dX0_send_89 ic_4 ?_
                          refine mx_icmp_le (tgt := 99) dX0_send_90 rfl (fun c27 => ?_) (fun c27 => ?_)
                          · have H := H.1 c27
                            refine mx_aload_n dX0_send_99 rfl rfl ?_
                            refine mx_get 0 0 (ref := "PrairiePool") cl_0 (Nat.le_of_ble_eq_true rfl) (Or.inl q460) (Or.inl rfl) dX0_send_100 (fv_0_0 _ _) (ly0_k La0_h) ?_
                            refine mx_tr (ly0_R_0_0 La0_h) ?_
                            refine mx_iload_n dX0_send_103 rfl rfl ?_
                            refine my_aald 5 dX0_send_104 (by decide) rfl (ly0_A_1 La0_h k13) ?_
                            refine mx_tr (ly0_T La0_h (vp_lt k13)) ?_
                            refine mx_callV 7 (y' := mi_X7_many) (vs := []) (st := []) (al' := [some (rv (a0 + (1494 + x1.toNatClampNeg)))]) cl_7 V_X7_many (Or.inl q1597) dX0_send_105 rfl rfl (Nat.le_of_ble_eq_true rfl) (Nat.le_of_ble_eq_true rfl) (ly0_TK La0_h (vp_lt k13)) ?_
                            refine ma_ki H (fun r29 h28 Xh28 H => ?_) (fun x1 h1 X1 H => mt_out rfl H)
                            have H := H Xh28
                            have La0_h28 := La0_h.ext Xh28
                            refine mx_iload_n dX0_send_108 rfl rfl ?_
                            refine mx_icmp_lt (tgt := 143) dX0_send_109 rfl (fun c30 => ?_) (fun c30 => ?_)
                            · have H := H.1 c30
                              refine mx_aload_n dX0_send_143 rfl rfl ?_
                              refine mx_iconst dX0_send_144 ic_4 ?_
                              refine mx_callV 0 (y' := mi_X0_none) (vs := [iv (4 : Int32)]) (st := []) (al' := [some (rv a0), some (iv (4 : Int32))]) cl_0 V_X0_none (Or.inl q733) dX0_send_145 rfl rfl (Nat.le_of_ble_eq_true rfl) (Nat.le_of_ble_eq_true rfl) (ly0_k La0_h28) ?_
                              refine mx_aload_n dX0_none_0 rfl rfl ?_
                              refine mx_iload_n dX0_none_1 rfl rfl ?_
                              refine mx_putI 0 20 (ref := "PrairiePool") cl_0 (Nat.le_of_ble_eq_true rfl) (Or.inl q480) (Or.inl rfl) dX0_none_2 (Or.inl rfl) rfl (ly0_k La0_h28) ?_
                              refine mx_nmI  (fun h31 eh31 Xh31 Kh31 Lh31 => ?_)
                              have H := H h31 eh31 Xh31
                              have La0_h31 := La0_h28.ext Xh31
                              refine mx_iconst dX0_none_5 ic_m1 ?_
                              refine mx_iretK rfl dX0_none_6 ?_
                              exact mx_iret rfl dX0_send_148 H
                            · have H := H.2 c30
                              refine mx_aload_n dX0_send_112 rfl rfl ?_
                              refine mx_get 0 0 (ref := "PrairiePool") cl_0 (Nat.le_of_ble_eq_true rfl) (Or.inl q460) (Or.inl rfl) dX0_send_113 (fv_0_0 _ _) (ly0_k La0_h28) ?_
                              refine mx_tr (ly0_R_0_0 La0_h28) ?_
                              refine mx_iload_n dX0_send_116 rfl rfl ?_
                              refine my_aald 5 dX0_send_117 (by decide) rfl (ly0_A_1 La0_h28 k16) ?_
                              refine mx_tr (ly0_T La0_h28 (vp_lt k16)) ?_
                              refine mx_callV 7 (y' := mi_X7_many) (vs := []) (st := []) (al' := [some (rv (a0 + (1494 + x3.toNatClampNeg)))]) cl_7 V_X7_many (Or.inl q1597) dX0_send_118 rfl rfl (Nat.le_of_ble_eq_true rfl) (Nat.le_of_ble_eq_true rfl) (ly0_TK La0_h28 (vp_lt k16)) ?_
                              refine ma_ki H (fun r33 h32 Xh32 H => ?_) (fun x1 h1 X1 H => mt_out rfl H)
                              have H := H Xh32
                              have La0_h32 := La0_h28.ext Xh32
                              refine mx_iload dX0_send_121 rfl ?_
                              refine mx_icmp_lt (tgt := 143) dX0_send_123 rfl (fun c34 => ?_) (fun c34 => ?_)
                              · have H := H.1 c34
                                refine mx_aload_n dX0_send_143 rfl rfl ?_
                                refine mx_iconst dX0_send_144 ic_4 ?_
                                refine mx_callV 0 (y' := mi_X0_none) (vs := [iv (4 : Int32)]) (st := []) (al' := [some (rv a0), some (iv (4 : Int32))]) cl_0 V_X0_none (Or.inl q733) dX0_send_145 rfl rfl (Nat.le_of_ble_eq_true rfl) (Nat.le_of_ble_eq_true rfl) (ly0_k La0_h32) ?_
                                refine mx_aload_n dX0_none_0 rfl rfl ?_
                                refine mx_iload_n dX0_none_1 rfl rfl ?_
                                refine mx_putI 0 20 (ref := "PrairiePool") cl_0 (Nat.le_of_ble_eq_true rfl) (Or.inl q480) (Or.inl rfl) dX0_none_2 (Or.inl rfl) rfl (ly0_k La0_h32) ?_
                                refine mx_nmI  (fun h35 eh35 Xh35 Kh35 Lh35 => ?_)
                                have H := H h35 eh35 Xh35
                                have La0_h35 := La0_h32.ext Xh35
                                refine mx_iconst dX0_none_5 ic_m1 ?_
                                refine mx_iretK rfl dX0_none_6 ?_
                                exact mx_iret rfl dX0_send_148 H
                              · have H := H.2 c34
                                refine mx_aload_n dX0_send_126 rfl rfl ?_
                                refine mx_get 0 0 (ref := "PrairiePool") cl_0 (Nat.le_of_ble_eq_true rfl) (Or.inl q460) (Or.inl rfl) dX0_send_127 (fv_0_0 _ _) (ly0_k La0_h32) ?_
                                refine mx_tr (ly0_R_0_0 La0_h32) ?_
                                refine mx_iload dX0_send_130 rfl ?_
                                refine my_aald 5 dX0_send_132 (by decide) rfl (ly0_A_1 La0_h32 k19) ?_
                                refine mx_tr (ly0_T La0_h32 (vp_lt k19)) ?_
                                refine mx_callV 7 (y' := mi_X7_many) (vs := []) (st := []) (al' := [some (rv (a0 + (1494 + x5.toNatClampNeg)))]) cl_7 V_X7_many (Or.inl q1597) dX0_send_133 rfl rfl (Nat.le_of_ble_eq_true rfl) (Nat.le_of_ble_eq_true rfl) (ly0_TK La0_h32 (vp_lt k19)) ?_
                                refine ma_ki H (fun r37 h36 Xh36 H => ?_) (fun x1 h1 X1 H => mt_out rfl H)
                                have H := H Xh36
                                have La0_h36 := La0_h32.ext Xh36
                                refine mx_iload_n dX0_send_136 rfl rfl ?_
                                refine mx_iload dX0_send_137 rfl ?_
                                refine mx_imul dX0_send_139 ?_
                                refine mx_icmp_ge (tgt := 149) dX0_send_140 rfl (fun c38 => ?_) (fun c38 => ?_)
                                · have H := H.1 c38
                                  refine mx_aload_n dX0_send_149 rfl rfl ?_
                                  refine mx_iload_n dX0_send_150 rfl rfl ?_
                                  refine mx_iload_n dX0_send_151 rfl rfl ?_
                                  refine mx_lconst dX0_send_152 lc_0 ?_
                                  refine mx_ldc2 q1614 dX0_send_153 ?_
                                  refine mx_callV 0 (y' := mi_X0_areFrom) (vs := [iv x1, iv x2, jv (0 : Int64), jv (30 : Int64)]) (st := []) (al' := [some (rv a0), some (iv x1), some (iv x2), some (jv (0 : Int64)), none, some (jv (30 : Int64)), none, none]) cl_0 V_X0_areFrom (Or.inl q1602) dX0_send_156 rfl rfl (Nat.le_of_ble_eq_true rfl) (Nat.le_of_ble_eq_true rfl) (ly0_k La0_h36) ?_
                                  refine ma_ki H (fun r40 h39 Xh39 H => ?_) (fun x1 h1 X1 H => mt_out rfl H)
                                  have H := H Xh39
                                  have La0_h39 := La0_h36.ext Xh39
                                  refine mx_if_eq (tgt := 193) dX0_send_159 rfl (fun c41 => ?_) (fun c41 => ?_)
                                  · have H := H.1 c41
                                    refine mx_aload_n dX0_send_193 rfl rfl ?_
                                    refine mx_iconst dX0_send_194 ic_5 ?_
                                    refine mx_callV 0 (y' := mi_X0_none) (vs := [iv (5 : Int32)]) (st := []) (al' := [some (rv a0), some (iv (5 : Int32))]) cl_0 V_X0_none (Or.inl q733) dX0_send_195 rfl rfl (Nat.le_of_ble_eq_true rfl) (Nat.le_of_ble_eq_true rfl) (ly0_k La0_h39) ?_
                                    refine mx_aload_n dX0_none_0 rfl rfl ?_
                                    refine mx_iload_n dX0_none_1 rfl rfl ?_
                                    refine mx_putI 0 20 (ref := "PrairiePool") cl_0 (Nat.le_of_ble_eq_true rfl) (Or.inl q480) (Or.inl rfl) dX0_none_2 (Or.inl rfl) rfl (ly0_k La0_h39) ?_
                                    refine mx_nmI  (fun h42 eh42 Xh42 Kh42 Lh42 => ?_)
                                    have H := H h42 eh42 Xh42
                                    have La0_h42 := La0_h39.ext Xh42
                                    refine mx_iconst dX0_none_5 ic_m1 ?_
                                    refine mx_iretK rfl dX0_none_6 ?_
                                    exact mx_iret rfl dX0_send_198 H
                                  · have H := H.2 c41
                                    refine mx_aload_n dX0_send_162 rfl rfl ?_
                                    refine mx_iload_n dX0_send_163 rfl rfl ?_
                                    refine mx_iload dX0_send_164 rfl ?_
                                    refine mx_lconst dX0_send_166 lc_0 ?_
                                    refine mx_ldc2 q1614 dX0_send_167 ?_
                                    refine mx_callV 0 (y' := mi_X0_areFrom) (vs := [iv x3, iv x4, jv (0 : Int64), jv (30 : Int64)]) (st := []) (al' := [some (rv a0), some (iv x3), some (iv x4), some (jv (0 : Int64)), none, some (jv (30 : Int64)), none, none]) cl_0 V_X0_areFrom (Or.inl q1602) dX0_send_170 rfl rfl (Nat.le_of_ble_eq_true rfl) (Nat.le_of_ble_eq_true rfl) (ly0_k La0_h39) ?_
                                    refine ma_ki H (fun r44 h43 Xh43 H => ?_) (fun x1 h1 X1 H => mt_out rfl H)
                                    have H := H Xh43
                                    have La0_h43 := La0_h39.ext Xh43
                                    refine mx_if_eq (tgt := 193) dX0_send_173 rfl (fun c45 => ?_) (fun c45 => ?_)
                                    · have H := H.1 c45
                                      refine mx_aload_n dX0_send_193 rfl rfl ?_
                                      refine mx_iconst dX0_send_194 ic_5 ?_
                                      refine mx_callV 0 (y' := mi_X0_none) (vs := [iv (5 : Int32)]) (st := []) (al' := [some (rv a0), some (iv (5 : Int32))]) cl_0 V_X0_none (Or.inl q733) dX0_send_195 rfl rfl (Nat.le_of_ble_eq_true rfl) (Nat.le_of_ble_eq_true rfl) (ly0_k La0_h43) ?_
                                      refine mx_aload_n dX0_none_0 rfl rfl ?_
                                      refine mx_iload_n dX0_none_1 rfl rfl ?_
                                      refine mx_putI 0 20 (ref := "PrairiePool") cl_0 (Nat.le_of_ble_eq_true rfl) (Or.inl q480) (Or.inl rfl) dX0_none_2 (Or.inl rfl) rfl (ly0_k La0_h43) ?_
                                      refine mx_nmI  (fun h46 eh46 Xh46 Kh46 Lh46 => ?_)
                                      have H := H h46 eh46 Xh46
                                      have La0_h46 := La0_h43.ext Xh46
                                      refine mx_iconst dX0_none_5 ic_m1 ?_
                                      refine mx_iretK rfl dX0_none_6 ?_
                                      exact mx_iret rfl dX0_send_198 H
                                    · have H := H.2 c45
                                      refine mx_aload_n dX0_send_176 rfl rfl ?_
                                      refine mx_iload dX0_send_177 rfl ?_
                                      refine mx_iload_n dX0_send_179 rfl rfl ?_
                                      refine mx_iload dX0_send_180 rfl ?_
                                      refine mx_imul dX0_send_182 ?_
                                      refine mx_lconst dX0_send_183 lc_0 ?_
                                      refine mx_ldc2 q1615 dX0_send_184 ?_
                                      refine mx_callV 0 (y' := mi_X0_areFrom) (vs := [iv x5, iv (x2 * x4), jv (0 : Int64), jv (100 : Int64)]) (st := []) (al' := [some (rv a0), some (iv x5), some (iv (x2 * x4)), some (jv (0 : Int64)), none, some (jv (100 : Int64)), none, none]) cl_0 V_X0_areFrom (Or.inl q1602) dX0_send_187 rfl rfl (Nat.le_of_ble_eq_true rfl) (Nat.le_of_ble_eq_true rfl) (ly0_k La0_h43) ?_
                                      refine ma_ki H (fun r48 h47 Xh47 H => ?_) (fun x1 h1 X1 H => mt_out rfl H)
                                      have H := H Xh47
                                      have La0_h47 := La0_h43.ext Xh47
                                      refine mx_if_ne (tgt := 199) dX0_send_190 rfl (fun c49 => ?_) (fun c49 => ?_)
                                      · have H := H.1 c49
                                        refine mx_iconst dX0_send_199 ic_0 ?_
                                        refine mx_istore (al' := [some (rv a0), some (iv x1), some (iv x2), some (iv x3), some (iv x4), some (iv x5), some (iv (0 : Int32)), none, none, none, none, none, none]) dX0_send_200 (Nat.le_of_ble_eq_true rfl) rfl ?_
                                        refine mx_iconst dX0_send_202 ic_0 ?_
                                        refine mx_istore (al' := [some (rv a0), some (iv x1), some (iv x2), some (iv x3), some (iv x4), some (iv x5), some (iv (0 : Int32)), some (iv (0 : Int32)), none, none, none, none, none]) dX0_send_203 (Nat.le_of_ble_eq_true rfl) rfl ?_
                                        exact mx_weak (al' := [some (rv a0), some (iv x1), some (iv x2), some (iv x3), some (iv x4), some (iv x5), some (iv (0 : Int32)), some (iv (0 : Int32)), none, none, none, none, none]) ⟨rfl, ⟨rfl, ⟨rfl, ⟨rfl, ⟨rfl, ⟨rfl, ⟨rfl, ⟨rfl, trivial⟩⟩⟩⟩⟩⟩⟩⟩ H
                                      · have H := H.2 c49
                                        refine mx_aload_n dX0_send_193 rfl rfl ?_
                                        refine mx_iconst dX0_send_194 ic_5 ?_
                                        refine mx_callV 0 (y' := mi_X0_none) (vs := [iv (5 : Int32)]) (st := []) (al' := [some (rv a0), some (iv (5 : Int32))]) cl_0 V_X0_none (Or.inl q733) dX0_send_195 rfl rfl (Nat.le_of_ble_eq_true rfl) (Nat.le_of_ble_eq_true rfl) (ly0_k La0_h47) ?_
                                        refine mx_aload_n dX0_none_0 rfl rfl ?_
                                        refine mx_iload_n dX0_none_1 rfl rfl ?_
                                        refine mx_putI 0 20 (ref := "PrairiePool") cl_0 (Nat.le_of_ble_eq_true rfl) (Or.inl q480) (Or.inl rfl) dX0_none_2 (Or.inl rfl) rfl (ly0_k La0_h47) ?_
                                        refine mx_nmI  (fun h50 eh50 Xh50 Kh50 Lh50 => ?_)
                                        have H := H h50 eh50 Xh50
                                        have La0_h50 := La0_h47.ext Xh50
                                        refine mx_iconst dX0_none_5 ic_m1 ?_
                                        refine mx_iretK rfl dX0_none_6 ?_
                                        exact mx_iret rfl dX0_send_198 H
                                · have H := H.2 c38
                                  refine mx_aload_n dX0_send_143 rfl rfl ?_
                                  refine mx_iconst dX0_send_144 ic_4 ?_
                                  refine mx_callV 0 (y' := mi_X0_none) (vs := [iv (4 : Int32)]) (st := []) (al' := [some (rv a0), some (iv (4 : Int32))]) cl_0 V_X0_none (Or.inl q733) dX0_send_145 rfl rfl (Nat.le_of_ble_eq_true rfl) (Nat.le_of_ble_eq_true rfl) (ly0_k La0_h36) ?_
                                  refine mx_aload_n dX0_none_0 rfl rfl ?_
                                  refine mx_iload_n dX0_none_1 rfl rfl ?_
                                  refine mx_putI 0 20 (ref := "PrairiePool") cl_0 (Nat.le_of_ble_eq_true rfl) (Or.inl q480) (Or.inl rfl) dX0_none_2 (Or.inl rfl) rfl (ly0_k La0_h36) ?_
                                  refine mx_nmI  (fun h51 eh51 Xh51 Kh51 Lh51 => ?_)
                                  have H := H h51 eh51 Xh51
                                  have La0_h51 := La0_h36.ext Xh51
                                  refine mx_iconst dX0_none_5 ic_m1 ?_
                                  refine mx_iretK rfl dX0_none_6 ?_
                                  exact mx_iret rfl dX0_send_148 H
                          · have H := H.2 c27
                            refine mx_aload_n dX0_send_93 rfl rfl ?_
                            refine mx_iconst dX0_send_94 ic_5 ?_
                            refine mx_callV 0 (y' := mi_X0_none) (vs := [iv (5 : Int32)]) (st := []) (al' := [some (rv a0), some (iv (5 : Int32))]) cl_0 V_X0_none (Or.inl q733) dX0_send_95 rfl rfl (Nat.le_of_ble_eq_true rfl) (Nat.le_of_ble_eq_true rfl) (ly0_k La0_h) ?_
                            refine mx_aload_n dX0_none_0 rfl rfl ?_
                            refine mx_iload_n dX0_none_1 rfl rfl ?_
                            refine mx_putI 0 20 (ref := "PrairiePool") cl_0 (Nat.le_of_ble_eq_true rfl) (Or.inl q480) (Or.inl rfl) dX0_none_2 (Or.inl rfl) rfl (ly0_k La0_h) ?_
                            refine mx_nmI  (fun h52 eh52 Xh52 Kh52 Lh52 => ?_)
                            have H := H h52 eh52 Xh52
                            have La0_h52 := La0_h.ext Xh52
                            refine mx_iconst dX0_none_5 ic_m1 ?_
                            refine mx_iretK rfl dX0_none_6 ?_
                            exact mx_iret rfl dX0_send_98 H
                  · have H := H.2 c20
                    refine mx_aload_n dX0_send_65 rfl rfl ?_
                    refine mx_iconst dX0_send_66 ic_3 ?_
                    refine mx_callV 0 (y' := mi_X0_none) (vs := [iv (3 : Int32)]) (st := []) (al' := [some (rv a0), some (iv (3 : Int32))]) cl_0 V_X0_none (Or.inl q733) dX0_send_67 rfl rfl (Nat.le_of_ble_eq_true rfl) (Nat.le_of_ble_eq_true rfl) (ly0_k La0_h) ?_
                    refine mx_aload_n dX0_none_0 rfl rfl ?_
                    refine mx_iload_n dX0_none_1 rfl rfl ?_
                    refine mx_putI 0 20 (ref := "PrairiePool") cl_0 (Nat.le_of_ble_eq_true rfl) (Or.inl q480) (Or.inl rfl) dX0_none_2 (Or.inl rfl) rfl (ly0_k La0_h) ?_
                    refine mx_nmI  (fun h53 eh53 Xh53 Kh53 Lh53 => ?_)
                    have H := H h53 eh53 Xh53
                    have La0_h53 := La0_h.ext Xh53
                    refine mx_iconst dX0_none_5 ic_m1 ?_
                    refine mx_iretK rfl dX0_none_6 ?_
                    exact mx_iret rfl dX0_send_70 H
theorem v_X0_send_205 {G : ma_G} {d : Nat} {a0 : Nat} {x1 : Int32} {x2 : Int32} {x3 : Int32} {x4 : Int32} {x5 : Int32} {x6 : Int32} {x7 : Int32} {h : ah_T} {Q : Option ma_V → ah_T → Prop} {E : Nat → ah_T → Prop} (La0_h : LY0 h a0) (H : (x2 ≤ x7 → MX G mi_X0_send (d + 1) 310 [some (rv a0), none, some (iv x2), some (iv x3), some (iv x4), none, some (iv x6), some (iv (0 : Int32)), some (iv (0 : Int32)), none, none, none, none] [] h Q E) ∧ (¬ x2 ≤ x7 → vp_in x1 4 ∧ MX G mi_X7_get d 0 [some (rv (a0 + (1494 + x1.toNatClampNeg))), some (iv x7)] [] h (Ql fun r4 h3 => ah_ext h h3 → vp_in x7 5 ∧ ∀ h6 : ah_T, h6 = ah_wI h3 (a0 + 1488) x7.toNatClampNeg r4.toInt32 → ah_ext h3 h6 → MX G mi_X0_send (d + 1) 245 [some (rv a0), some (iv x1), some (iv x2), some (iv x3), some (iv x4), some (iv x5), some (iv (x6 + r4.toInt32)), some (iv x7), some (iv (0 : Int32)), none, none, none, none] [] h6 Q E) E)) : MX G mi_X0_send (d + 1) 205 [some (rv a0), some (iv x1), some (iv x2), some (iv x3), some (iv x4), some (iv x5), some (iv x6), some (iv x7), none, none, none, none, none] [] h Q E := by
  refine mx_iload dX0_send_205 rfl ?_
  refine mx_iload_n dX0_send_207 rfl rfl ?_
  refine mx_icmp_ge (tgt := 304) dX0_send_208 rfl (fun c1 => ?_) (fun c1 => ?_)
  · have H := H.1 c1
    refine mx_iconst dX0_send_304 ic_0 ?_
    refine mx_istore (al' := [some (rv a0), some (iv x1), some (iv x2), some (iv x3), some (iv x4), some (iv x5), some (iv x6), some (iv (0 : Int32)), none, none, none, none, none]) dX0_send_305 (Nat.le_of_ble_eq_true rfl) rfl ?_
    refine mx_iconst dX0_send_307 ic_0 ?_
    refine mx_istore (al' := [some (rv a0), some (iv x1), some (iv x2), some (iv x3), some (iv x4), some (iv x5), some (iv x6), some (iv (0 : Int32)), some (iv (0 : Int32)), none, none, none, none]) dX0_send_308 (Nat.le_of_ble_eq_true rfl) rfl ?_
    exact mx_weak (al' := [some (rv a0), none, some (iv x2), some (iv x3), some (iv x4), none, some (iv x6), some (iv (0 : Int32)), some (iv (0 : Int32)), none, none, none, none]) ⟨rfl, ⟨rfl, ⟨rfl, ⟨rfl, ⟨rfl, ⟨rfl, ⟨rfl, trivial⟩⟩⟩⟩⟩⟩⟩ H
  · have H := H.2 c1
    refine mx_aload_n dX0_send_211 rfl rfl ?_
    refine mx_get 0 49 (ref := "PrairiePool") cl_0 (Nat.le_of_ble_eq_true rfl) (Or.inl q509) (Or.inl rfl) dX0_send_212 (fv_0_49 _ _) (ly0_k La0_h) ?_
    refine mx_tr (ly0_R_0_49 La0_h) ?_
    refine mx_iload dX0_send_215 rfl ?_
    refine mx_aload_n dX0_send_217 rfl rfl ?_
    refine mx_get 0 0 (ref := "PrairiePool") cl_0 (Nat.le_of_ble_eq_true rfl) (Or.inl q460) (Or.inl rfl) dX0_send_218 (fv_0_0 _ _) (ly0_k La0_h) ?_
    refine mx_tr (ly0_R_0_0 La0_h) ?_
    refine mx_iload_n dX0_send_221 rfl rfl ?_
    obtain ⟨k2, H⟩ := H
    refine my_aald 5 dX0_send_222 (by decide) rfl (ly0_A_1 La0_h k2) ?_
    refine mx_tr (ly0_T La0_h (vp_lt k2)) ?_
    refine mx_iload dX0_send_223 rfl ?_
    refine mx_callV 7 (y' := mi_X7_get) (vs := [iv x7]) (st := [iv x7, rv (a0 + 1488)]) (al' := [some (rv (a0 + (1494 + x1.toNatClampNeg))), some (iv x7)]) cl_7 V_X7_get (Or.inl q737) dX0_send_225 rfl rfl (Nat.le_of_ble_eq_true rfl) (Nat.le_of_ble_eq_true rfl) (ly0_TK La0_h (vp_lt k2)) ?_
    refine ma_kl H (fun r4 h3 Xh3 H => ?_) (fun x1 h1 X1 H => mt_out rfl H)
    have H := H Xh3
    have La0_h3 := La0_h.ext Xh3
    refine mx_l2i dX0_send_228 ?_
    obtain ⟨k5, H⟩ := H
    refine my_iast dX0_send_229 rfl (ly0_A_1488 La0_h3 k5) ?_
    refine mx_nmI  (fun h6 eh6 Xh6 Kh6 Lh6 => ?_)
    have H := H h6 eh6 Xh6
    have La0_h6 := La0_h3.ext Xh6
    refine mx_iload dX0_send_230 rfl ?_
    refine mx_aload_n dX0_send_232 rfl rfl ?_
    refine mx_get 0 49 (ref := "PrairiePool") cl_0 (Nat.le_of_ble_eq_true rfl) (Or.inl q509) (Or.inl rfl) dX0_send_233 (fv_0_49 _ _) (ly0_k La0_h6) ?_
    refine mx_tr (ly0_R_0_49 La0_h6) ?_
    refine mx_iload dX0_send_236 rfl ?_
    refine my_iald dX0_send_238 rfl (ly0_A_1488 La0_h6 k5) ?_
    refine mx_ti (ah_hitI eh6) ?_
    refine mx_iadd dX0_send_239 ?_
    refine mx_istore (al' := [some (rv a0), some (iv x1), some (iv x2), some (iv x3), some (iv x4), some (iv x5), some (iv (x6 + r4.toInt32)), some (iv x7), none, none, none, none, none]) dX0_send_240 (Nat.le_of_ble_eq_true rfl) rfl ?_
    refine mx_iconst dX0_send_242 ic_0 ?_
    refine mx_istore (al' := [some (rv a0), some (iv x1), some (iv x2), some (iv x3), some (iv x4), some (iv x5), some (iv (x6 + r4.toInt32)), some (iv x7), some (iv (0 : Int32)), none, none, none, none]) dX0_send_243 (Nat.le_of_ble_eq_true rfl) rfl ?_
    exact mx_weak (al' := [some (rv a0), some (iv x1), some (iv x2), some (iv x3), some (iv x4), some (iv x5), some (iv (x6 + r4.toInt32)), some (iv x7), some (iv (0 : Int32)), none, none, none, none]) ⟨rfl, ⟨rfl, ⟨rfl, ⟨rfl, ⟨rfl, ⟨rfl, ⟨rfl, ⟨rfl, ⟨rfl, trivial⟩⟩⟩⟩⟩⟩⟩⟩⟩ H
theorem v_X0_send_310 {G : ma_G} {d : Nat} {a0 : Nat} {x2 : Int32} {x3 : Int32} {x4 : Int32} {x6 : Int32} {x7 : Int32} {x8 : Int32} {h : ah_T} {Q : Option ma_V → ah_T → Prop} {E : Nat → ah_T → Prop} (La0_h : LY0 h a0) (H : (x4 ≤ x8 → (x7 ≤ x6 → MX G mi_X0_send (d + 1) 374 [some (rv a0), none, some (iv x2), none, some (iv x4), none, none, some (iv x7), some (iv (0 : Int32)), some (iv (0 : Int32)), none, none, none] [] h Q E) ∧ (¬ x7 ≤ x6 → ∀ h3 : ah_T, h3 = ah_wI h a0 20 (9 : Int32) → ah_ext h h3 → Q (some (iv (-1 : Int32))) h3)) ∧ (¬ x4 ≤ x8 → vp_in x3 4 ∧ MX G mi_X7_get d 0 [some (rv (a0 + (1494 + x3.toNatClampNeg))), some (iv x8)] [] h (Ql fun r6 h5 => ah_ext h h5 → vp_in x8 4 ∧ ∀ h8 : ah_T, h8 = ah_wI h5 (a0 + 1489) x8.toNatClampNeg r6.toInt32 → ah_ext h5 h8 → MX G mi_X0_send (d + 1) 310 [some (rv a0), none, some (iv x2), some (iv x3), some (iv x4), none, some (iv x6), some (iv (x7 + r6.toInt32)), some (iv (x8 + (1 : Int32))), none, none, none, none] [] h8 Q E) E)) : MX G mi_X0_send (d + 1) 310 [some (rv a0), none, some (iv x2), some (iv x3), some (iv x4), none, some (iv x6), some (iv x7), some (iv x8), none, none, none, none] [] h Q E := by
  refine mx_iload dX0_send_310 rfl ?_
  refine mx_iload dX0_send_312 rfl ?_
  refine mx_icmp_ge (tgt := 354) dX0_send_314 rfl (fun c1 => ?_) (fun c1 => ?_)
  · have H := H.1 c1
    refine mx_iload dX0_send_354 rfl ?_
    refine mx_iload dX0_send_356 rfl ?_
    refine mx_icmp_ge (tgt := 368) dX0_send_358 rfl (fun c2 => ?_) (fun c2 => ?_)
    · have H := H.1 c2
      refine mx_iconst dX0_send_368 ic_0 ?_
      refine mx_istore (al' := [some (rv a0), none, some (iv x2), some (iv x3), some (iv x4), none, some (iv x6), some (iv x7), some (iv (0 : Int32)), none, none, none, none]) dX0_send_369 (Nat.le_of_ble_eq_true rfl) rfl ?_
      refine mx_iconst dX0_send_371 ic_0 ?_
      refine mx_istore (al' := [some (rv a0), none, some (iv x2), some (iv x3), some (iv x4), none, some (iv x6), some (iv x7), some (iv (0 : Int32)), some (iv (0 : Int32)), none, none, none]) dX0_send_372 (Nat.le_of_ble_eq_true rfl) rfl ?_
      exact mx_weak (al' := [some (rv a0), none, some (iv x2), none, some (iv x4), none, none, some (iv x7), some (iv (0 : Int32)), some (iv (0 : Int32)), none, none, none]) ⟨rfl, ⟨rfl, ⟨rfl, ⟨rfl, ⟨rfl, ⟨rfl, trivial⟩⟩⟩⟩⟩⟩ H
    · have H := H.2 c2
      refine mx_aload_n dX0_send_361 rfl rfl ?_
      refine mx_bipush dX0_send_362 ib_9 ?_
      refine mx_callV 0 (y' := mi_X0_none) (vs := [iv (9 : Int32)]) (st := []) (al' := [some (rv a0), some (iv (9 : Int32))]) cl_0 V_X0_none (Or.inl q733) dX0_send_364 rfl rfl (Nat.le_of_ble_eq_true rfl) (Nat.le_of_ble_eq_true rfl) (ly0_k La0_h) ?_
      refine mx_aload_n dX0_none_0 rfl rfl ?_
      refine mx_iload_n dX0_none_1 rfl rfl ?_
      refine mx_putI 0 20 (ref := "PrairiePool") cl_0 (Nat.le_of_ble_eq_true rfl) (Or.inl q480) (Or.inl rfl) dX0_none_2 (Or.inl rfl) rfl (ly0_k La0_h) ?_
      refine mx_nmI  (fun h3 eh3 Xh3 Kh3 Lh3 => ?_)
      have H := H h3 eh3 Xh3
      have La0_h3 := La0_h.ext Xh3
      refine mx_iconst dX0_none_5 ic_m1 ?_
      refine mx_iretK rfl dX0_none_6 ?_
      exact mx_iret rfl dX0_send_367 H
  · have H := H.2 c1
    refine mx_aload_n dX0_send_317 rfl rfl ?_
    refine mx_get 0 50 (ref := "PrairiePool") cl_0 (Nat.le_of_ble_eq_true rfl) (Or.inl q510) (Or.inl rfl) dX0_send_318 (fv_0_50 _ _) (ly0_k La0_h) ?_
    refine mx_tr (ly0_R_0_50 La0_h) ?_
    refine mx_iload dX0_send_321 rfl ?_
    refine mx_aload_n dX0_send_323 rfl rfl ?_
    refine mx_get 0 0 (ref := "PrairiePool") cl_0 (Nat.le_of_ble_eq_true rfl) (Or.inl q460) (Or.inl rfl) dX0_send_324 (fv_0_0 _ _) (ly0_k La0_h) ?_
    refine mx_tr (ly0_R_0_0 La0_h) ?_
    refine mx_iload_n dX0_send_327 rfl rfl ?_
    obtain ⟨k4, H⟩ := H
    refine my_aald 5 dX0_send_328 (by decide) rfl (ly0_A_1 La0_h k4) ?_
    refine mx_tr (ly0_T La0_h (vp_lt k4)) ?_
    refine mx_iload dX0_send_329 rfl ?_
    refine mx_callV 7 (y' := mi_X7_get) (vs := [iv x8]) (st := [iv x8, rv (a0 + 1489)]) (al' := [some (rv (a0 + (1494 + x3.toNatClampNeg))), some (iv x8)]) cl_7 V_X7_get (Or.inl q737) dX0_send_331 rfl rfl (Nat.le_of_ble_eq_true rfl) (Nat.le_of_ble_eq_true rfl) (ly0_TK La0_h (vp_lt k4)) ?_
    refine ma_kl H (fun r6 h5 Xh5 H => ?_) (fun x1 h1 X1 H => mt_out rfl H)
    have H := H Xh5
    have La0_h5 := La0_h.ext Xh5
    refine mx_l2i dX0_send_334 ?_
    obtain ⟨k7, H⟩ := H
    refine my_iast dX0_send_335 rfl (ly0_A_1489 La0_h5 k7) ?_
    refine mx_nmI  (fun h8 eh8 Xh8 Kh8 Lh8 => ?_)
    have H := H h8 eh8 Xh8
    have La0_h8 := La0_h5.ext Xh8
    refine mx_iload dX0_send_336 rfl ?_
    refine mx_aload_n dX0_send_338 rfl rfl ?_
    refine mx_get 0 50 (ref := "PrairiePool") cl_0 (Nat.le_of_ble_eq_true rfl) (Or.inl q510) (Or.inl rfl) dX0_send_339 (fv_0_50 _ _) (ly0_k La0_h8) ?_
    refine mx_tr (ly0_R_0_50 La0_h8) ?_
    refine mx_iload dX0_send_342 rfl ?_
    refine my_iald dX0_send_344 rfl (ly0_A_1489 La0_h8 k7) ?_
    refine mx_ti (ah_hitI eh8) ?_
    refine mx_iadd dX0_send_345 ?_
    refine mx_istore (al' := [some (rv a0), none, some (iv x2), some (iv x3), some (iv x4), none, some (iv x6), some (iv (x7 + r6.toInt32)), some (iv x8), none, none, none, none]) dX0_send_346 (Nat.le_of_ble_eq_true rfl) rfl ?_
    refine mx_iinc (al' := [some (rv a0), none, some (iv x2), some (iv x3), some (iv x4), none, some (iv x6), some (iv (x7 + r6.toInt32)), some (iv (x8 + (1 : Int32))), none, none, none, none]) dX0_send_348 rfl ic_1 rfl ?_
    refine mx_goto (tgt := 310) dX0_send_351 rfl ?_
    exact mx_weak (al' := [some (rv a0), none, some (iv x2), some (iv x3), some (iv x4), none, some (iv x6), some (iv (x7 + r6.toInt32)), some (iv (x8 + (1 : Int32))), none, none, none, none]) ⟨rfl, ⟨rfl, ⟨rfl, ⟨rfl, ⟨rfl, ⟨rfl, ⟨rfl, trivial⟩⟩⟩⟩⟩⟩⟩ H
theorem v_X0_send_245 {G : ma_G} {d : Nat} {a0 : Nat} {x1 : Int32} {x2 : Int32} {x3 : Int32} {x4 : Int32} {x5 : Int32} {x6 : Int32} {x7 : Int32} {x8 : Int32} {h : ah_T} {Q : Option ma_V → ah_T → Prop} {E : Nat → ah_T → Prop} (La0_h : LY0 h a0) (H : (x4 ≤ x8 → MX G mi_X0_send (d + 1) 205 [some (rv a0), some (iv x1), some (iv x2), some (iv x3), some (iv x4), some (iv x5), some (iv x6), some (iv (x7 + (1 : Int32))), none, none, none, none, none] [] h Q E) ∧ (¬ x4 ≤ x8 → vp_in x7 5 ∧ vp_in x5 4 ∧ MX G mi_X7_get d 0 [some (rv (a0 + (1494 + x5.toNatClampNeg))), some (iv ((x4 * x7) + x8))] [] h (Ql fun r5 h4 => ah_ext h h4 → vp_in x8 4 ∧ ∀ h7 : ah_T, h7 = ah_wI h4 (a0 + (1477 + x7.toNatClampNeg)) x8.toNatClampNeg r5.toInt32 → ah_ext h4 h7 → ∀ h8 : ah_T, h8 = ah_wI h7 (a0 + (1483 + x7.toNatClampNeg)) x8.toNatClampNeg (0 : Int32) → ah_ext h7 h8 → MX G mi_X0_send (d + 1) 245 [some (rv a0), some (iv x1), some (iv x2), some (iv x3), some (iv x4), some (iv x5), some (iv x6), some (iv x7), some (iv (x8 + (1 : Int32))), none, none, none, none] [] h8 Q E) E)) : MX G mi_X0_send (d + 1) 245 [some (rv a0), some (iv x1), some (iv x2), some (iv x3), some (iv x4), some (iv x5), some (iv x6), some (iv x7), some (iv x8), none, none, none, none] [] h Q E := by
  refine mx_iload dX0_send_245 rfl ?_
  refine mx_iload dX0_send_247 rfl ?_
  refine mx_icmp_ge (tgt := 298) dX0_send_249 rfl (fun c1 => ?_) (fun c1 => ?_)
  · have H := H.1 c1
    refine mx_iinc (al' := [some (rv a0), some (iv x1), some (iv x2), some (iv x3), some (iv x4), some (iv x5), some (iv x6), some (iv (x7 + (1 : Int32))), some (iv x8), none, none, none, none]) dX0_send_298 rfl ic_1 rfl ?_
    refine mx_goto (tgt := 205) dX0_send_301 rfl ?_
    exact mx_weak (al' := [some (rv a0), some (iv x1), some (iv x2), some (iv x3), some (iv x4), some (iv x5), some (iv x6), some (iv (x7 + (1 : Int32))), none, none, none, none, none]) ⟨rfl, ⟨rfl, ⟨rfl, ⟨rfl, ⟨rfl, ⟨rfl, ⟨rfl, ⟨rfl, trivial⟩⟩⟩⟩⟩⟩⟩⟩ H
  · have H := H.2 c1
    refine mx_aload_n dX0_send_252 rfl rfl ?_
    refine mx_get 0 47 (ref := "PrairiePool") cl_0 (Nat.le_of_ble_eq_true rfl) (Or.inl q507) (Or.inl rfl) dX0_send_253 (fv_0_47 _ _) (ly0_k La0_h) ?_
    refine mx_tr (ly0_R_0_47 La0_h) ?_
    refine mx_iload dX0_send_256 rfl ?_
    obtain ⟨k2, H⟩ := H
    refine my_aald 14 dX0_send_258 (by decide) rfl (ly0_A_1476 La0_h k2) ?_
    refine mx_tr (ly0_G1_1476 La0_h (vp_lt k2)) ?_
    refine mx_iload dX0_send_259 rfl ?_
    refine mx_aload_n dX0_send_261 rfl rfl ?_
    refine mx_get 0 0 (ref := "PrairiePool") cl_0 (Nat.le_of_ble_eq_true rfl) (Or.inl q460) (Or.inl rfl) dX0_send_262 (fv_0_0 _ _) (ly0_k La0_h) ?_
    refine mx_tr (ly0_R_0_0 La0_h) ?_
    refine mx_iload dX0_send_265 rfl ?_
    obtain ⟨k3, H⟩ := H
    refine my_aald 5 dX0_send_267 (by decide) rfl (ly0_A_1 La0_h k3) ?_
    refine mx_tr (ly0_T La0_h (vp_lt k3)) ?_
    refine mx_iload dX0_send_268 rfl ?_
    refine mx_iload dX0_send_270 rfl ?_
    refine mx_imul dX0_send_272 ?_
    refine mx_iload dX0_send_273 rfl ?_
    refine mx_iadd dX0_send_275 ?_
    refine mx_callV 7 (y' := mi_X7_get) (vs := [iv ((x4 * x7) + x8)]) (st := [iv x8, rv (a0 + (1477 + x7.toNatClampNeg))]) (al' := [some (rv (a0 + (1494 + x5.toNatClampNeg))), some (iv ((x4 * x7) + x8))]) cl_7 V_X7_get (Or.inl q737) dX0_send_276 rfl rfl (Nat.le_of_ble_eq_true rfl) (Nat.le_of_ble_eq_true rfl) (ly0_TK La0_h (vp_lt k3)) ?_
    refine ma_kl H (fun r5 h4 Xh4 H => ?_) (fun x1 h1 X1 H => mt_out rfl H)
    have H := H Xh4
    have La0_h4 := La0_h.ext Xh4
    refine mx_l2i dX0_send_279 ?_
    obtain ⟨k6, H⟩ := H
    refine my_iast dX0_send_280 rfl ⟨(ly0_K1_1476 La0_h4 (vp_lt k2)), by rw [ly0_N1_1476 La0_h4 (vp_lt k2)]; exact k6⟩ ?_
    refine mx_nmI  (fun h7 eh7 Xh7 Kh7 Lh7 => ?_)
    have H := H h7 eh7 Xh7
    have La0_h7 := La0_h4.ext Xh7
    refine mx_aload_n dX0_send_281 rfl rfl ?_
    refine mx_get 0 48 (ref := "PrairiePool") cl_0 (Nat.le_of_ble_eq_true rfl) (Or.inl q508) (Or.inl rfl) dX0_send_282 (fv_0_48 _ _) (ly0_k La0_h7) ?_
    refine mx_tr (ly0_R_0_48 La0_h7) ?_
    refine mx_iload dX0_send_285 rfl ?_
    refine my_aald 14 dX0_send_287 (by decide) rfl (ly0_A_1482 La0_h7 k2) ?_
    refine mx_tr (ly0_G1_1482 La0_h7 (vp_lt k2)) ?_
    refine mx_iload dX0_send_288 rfl ?_
    refine mx_iconst dX0_send_290 ic_0 ?_
    refine my_iast dX0_send_291 rfl ⟨(ly0_K1_1482 La0_h7 (vp_lt k2)), by rw [ly0_N1_1482 La0_h7 (vp_lt k2)]; exact k6⟩ ?_
    refine mx_nmI  (fun h8 eh8 Xh8 Kh8 Lh8 => ?_)
    have H := H h8 eh8 Xh8
    have Kh8 := Kh8.trans Kh7
    have Lh8 := Lh8.trans Lh7
    have La0_h8 := La0_h7.ext Xh8
    refine mx_iinc (al' := [some (rv a0), some (iv x1), some (iv x2), some (iv x3), some (iv x4), some (iv x5), some (iv x6), some (iv x7), some (iv (x8 + (1 : Int32))), none, none, none, none]) dX0_send_292 rfl ic_1 rfl ?_
    refine mx_goto (tgt := 245) dX0_send_295 rfl ?_
    exact mx_weak (al' := [some (rv a0), some (iv x1), some (iv x2), some (iv x3), some (iv x4), some (iv x5), some (iv x6), some (iv x7), some (iv (x8 + (1 : Int32))), none, none, none, none]) ⟨rfl, ⟨rfl, ⟨rfl, ⟨rfl, ⟨rfl, ⟨rfl, ⟨rfl, ⟨rfl, ⟨rfl, trivial⟩⟩⟩⟩⟩⟩⟩⟩⟩ H
theorem v_X0_send_374 {G : ma_G} {d : Nat} {a0 : Nat} {x2 : Int32} {x4 : Int32} {x7 : Int32} {x8 : Int32} {x9 : Int32} {h : ah_T} {Q : Option ma_V → ah_T → Prop} {E : Nat → ah_T → Prop} (La0_h : LY0 h a0) (H : (x7 ≤ x9 → ∀ h2 : ah_T, h2 = ah_wI h a0 20 (0 : Int32) → ah_ext h h2 → Q (some (iv x8)) h2) ∧ (¬ x7 ≤ x9 → MX G mi_X0_find d 0 [some (rv a0), some (iv x2), some (iv x4), none, none, none] [] h (Qv fun h3 => ah_ext h h3 → MX G mi_X0_send (d + 1) 394 [some (rv a0), none, some (iv x2), none, some (iv x4), none, none, some (iv x7), some (iv x8), some (iv x9), some (iv (-1 : Int32)), some (iv (0 : Int32)), none] [] h3 Q E) E)) : MX G mi_X0_send (d + 1) 374 [some (rv a0), none, some (iv x2), none, some (iv x4), none, none, some (iv x7), some (iv x8), some (iv x9), none, none, none] [] h Q E := by
  refine mx_iload dX0_send_374 rfl ?_
  refine mx_iload dX0_send_376 rfl ?_
  refine mx_icmp_ge (tgt := 552) dX0_send_378 rfl (fun c1 => ?_) (fun c1 => ?_)
  · have H := H.1 c1
    refine mx_aload_n dX0_send_552 rfl rfl ?_
    refine mx_iload dX0_send_553 rfl ?_
    refine mx_callV 0 (y' := mi_X0_gives) (vs := [iv x8]) (st := []) (al' := [some (rv a0), some (iv x8)]) cl_0 V_X0_gives (Or.inl q801) dX0_send_555 rfl rfl (Nat.le_of_ble_eq_true rfl) (Nat.le_of_ble_eq_true rfl) (ly0_k La0_h) ?_
    refine mx_aload_n dX0_gives_0 rfl rfl ?_
    refine mx_iconst dX0_gives_1 ic_0 ?_
    refine mx_putI 0 20 (ref := "PrairiePool") cl_0 (Nat.le_of_ble_eq_true rfl) (Or.inl q480) (Or.inl rfl) dX0_gives_2 (Or.inl rfl) rfl (ly0_k La0_h) ?_
    refine mx_nmI  (fun h2 eh2 Xh2 Kh2 Lh2 => ?_)
    have H := H h2 eh2 Xh2
    have La0_h2 := La0_h.ext Xh2
    refine mx_iload_n dX0_gives_5 rfl rfl ?_
    refine mx_iretK rfl dX0_gives_6 ?_
    exact mx_iret rfl dX0_send_558 H
  · have H := H.2 c1
    refine mx_aload_n dX0_send_381 rfl rfl ?_
    refine mx_iload_n dX0_send_382 rfl rfl ?_
    refine mx_iload dX0_send_383 rfl ?_
    refine mx_callV 0 (y' := mi_X0_find) (vs := [iv x2, iv x4]) (st := []) (al' := [some (rv a0), some (iv x2), some (iv x4), none, none, none]) cl_0 V_X0_find (Or.inl q1616) dX0_send_385 rfl rfl (Nat.le_of_ble_eq_true rfl) (Nat.le_of_ble_eq_true rfl) (ly0_k La0_h) ?_
    refine ma_kv H (fun h3 Xh3 H => ?_) (fun x1 h1 X1 H => mt_out rfl H)
    have H := H Xh3
    have La0_h3 := La0_h.ext Xh3
    refine mx_iconst dX0_send_388 ic_m1 ?_
    refine mx_istore (al' := [some (rv a0), none, some (iv x2), none, some (iv x4), none, none, some (iv x7), some (iv x8), some (iv x9), some (iv (-1 : Int32)), none, none]) dX0_send_389 (Nat.le_of_ble_eq_true rfl) rfl ?_
    refine mx_iconst dX0_send_391 ic_0 ?_
    refine mx_istore (al' := [some (rv a0), none, some (iv x2), none, some (iv x4), none, none, some (iv x7), some (iv x8), some (iv x9), some (iv (-1 : Int32)), some (iv (0 : Int32)), none]) dX0_send_392 (Nat.le_of_ble_eq_true rfl) rfl ?_
    exact mx_weak (al' := [some (rv a0), none, some (iv x2), none, some (iv x4), none, none, some (iv x7), some (iv x8), some (iv x9), some (iv (-1 : Int32)), some (iv (0 : Int32)), none]) ⟨rfl, ⟨rfl, ⟨rfl, ⟨rfl, ⟨rfl, ⟨rfl, ⟨rfl, ⟨rfl, trivial⟩⟩⟩⟩⟩⟩⟩⟩ H
theorem v_X0_send_394 {G : ma_G} {d : Nat} {a0 : Nat} {x2 : Int32} {x4 : Int32} {x7 : Int32} {x8 : Int32} {x9 : Int32} {x10 : Int32} {x11 : Int32} {h : ah_T} {Q : Option ma_V → ah_T → Prop} {E : Nat → ah_T → Prop} (La0_h : LY0 h a0) (H : (x4 ≤ x11 → vp_in x10 4 ∧ ∀ h3 : ah_T, h3 = ah_wI h (a0 + 1489) x10.toNatClampNeg ((ah_I h (a0 + 1489) x10.toNatClampNeg) - (1 : Int32)) → ah_ext h h3 → MX G mi_X0_send (d + 1) 471 [some (rv a0), none, some (iv x2), none, some (iv x4), none, none, some (iv x7), some (iv (x8 + (ah_I h (a0 + 1491) x10.toNatClampNeg))), some (iv x9), none, some (iv x10), none] [] h3 Q E) ∧ (¬ x4 ≤ x11 → vp_in x11 4 ∧ ((ah_I h (a0 + 1489) x11.toNatClampNeg) ≤ 0 → MX G mi_X0_send (d + 1) 394 [some (rv a0), none, some (iv x2), none, some (iv x4), none, none, some (iv x7), some (iv x8), some (iv x9), some (iv x10), some (iv (x11 + (1 : Int32))), none] [] h Q E) ∧ (¬ (ah_I h (a0 + 1489) x11.toNatClampNeg) ≤ 0 → (x10 = (-1 : Int32) → MX G mi_X0_send (d + 1) 394 [some (rv a0), none, some (iv x2), none, some (iv x4), none, none, some (iv x7), some (iv x8), some (iv x9), some (iv x11), some (iv (x11 + (1 : Int32))), none] [] h Q E) ∧ (¬ x10 = (-1 : Int32) → vp_in x10 4 ∧ ((ah_I h (a0 + 1491) x10.toNatClampNeg) ≤ (ah_I h (a0 + 1491) x11.toNatClampNeg) → MX G mi_X0_send (d + 1) 394 [some (rv a0), none, some (iv x2), none, some (iv x4), none, none, some (iv x7), some (iv x8), some (iv x9), some (iv x10), some (iv (x11 + (1 : Int32))), none] [] h Q E) ∧ (¬ (ah_I h (a0 + 1491) x10.toNatClampNeg) ≤ (ah_I h (a0 + 1491) x11.toNatClampNeg) → MX G mi_X0_send (d + 1) 394 [some (rv a0), none, some (iv x2), none, some (iv x4), none, none, some (iv x7), some (iv x8), some (iv x9), some (iv x11), some (iv (x11 + (1 : Int32))), none] [] h Q E))))) : MX G mi_X0_send (d + 1) 394 [some (rv a0), none, some (iv x2), none, some (iv x4), none, none, some (iv x7), some (iv x8), some (iv x9), some (iv x10), some (iv x11), none] [] h Q E := by
  refine mx_iload dX0_send_394 rfl ?_
  refine mx_iload dX0_send_396 rfl ?_
  refine mx_icmp_ge (tgt := 444) dX0_send_398 rfl (fun c1 => ?_) (fun c1 => ?_)
  · have H := H.1 c1
    refine mx_iload dX0_send_444 rfl ?_
    refine mx_aload_n dX0_send_446 rfl rfl ?_
    refine mx_get 0 52 (ref := "PrairiePool") cl_0 (Nat.le_of_ble_eq_true rfl) (Or.inl q512) (Or.inl rfl) dX0_send_447 (fv_0_52 _ _) (ly0_k La0_h) ?_
    refine mx_tr (ly0_R_0_52 La0_h) ?_
    refine mx_iload dX0_send_450 rfl ?_
    obtain ⟨k2, H⟩ := H
    refine my_iald dX0_send_452 rfl (ly0_A_1491 La0_h k2) ?_
    refine mx_iadd dX0_send_453 ?_
    refine mx_istore (al' := [some (rv a0), none, some (iv x2), none, some (iv x4), none, none, some (iv x7), some (iv (x8 + (ah_I h (a0 + 1491) x10.toNatClampNeg))), some (iv x9), some (iv x10), some (iv x11), none]) dX0_send_454 (Nat.le_of_ble_eq_true rfl) rfl ?_
    refine mx_aload_n dX0_send_456 rfl rfl ?_
    refine mx_get 0 50 (ref := "PrairiePool") cl_0 (Nat.le_of_ble_eq_true rfl) (Or.inl q510) (Or.inl rfl) dX0_send_457 (fv_0_50 _ _) (ly0_k La0_h) ?_
    refine mx_tr (ly0_R_0_50 La0_h) ?_
    refine mx_iload dX0_send_460 rfl ?_
    refine mx_dup2_ir dX0_send_462 ?_
    refine my_iald dX0_send_463 rfl (ly0_A_1489 La0_h k2) ?_
    refine mx_iconst dX0_send_464 ic_1 ?_
    refine mx_isub dX0_send_465 ?_
    refine my_iast dX0_send_466 rfl (ly0_A_1489 La0_h k2) ?_
    refine mx_nmI  (fun h3 eh3 Xh3 Kh3 Lh3 => ?_)
    have H := H h3 eh3 Xh3
    have La0_h3 := La0_h.ext Xh3
    refine mx_iload dX0_send_467 rfl ?_
    refine mx_istore (al' := [some (rv a0), none, some (iv x2), none, some (iv x4), none, none, some (iv x7), some (iv (x8 + (ah_I h (a0 + 1491) x10.toNatClampNeg))), some (iv x9), some (iv x10), some (iv x10), none]) dX0_send_469 (Nat.le_of_ble_eq_true rfl) rfl ?_
    exact mx_weak (al' := [some (rv a0), none, some (iv x2), none, some (iv x4), none, none, some (iv x7), some (iv (x8 + (ah_I h (a0 + 1491) x10.toNatClampNeg))), some (iv x9), none, some (iv x10), none]) ⟨rfl, ⟨rfl, ⟨rfl, ⟨rfl, ⟨rfl, ⟨rfl, ⟨rfl, trivial⟩⟩⟩⟩⟩⟩⟩ H
  · have H := H.2 c1
    refine mx_aload_n dX0_send_401 rfl rfl ?_
    refine mx_get 0 50 (ref := "PrairiePool") cl_0 (Nat.le_of_ble_eq_true rfl) (Or.inl q510) (Or.inl rfl) dX0_send_402 (fv_0_50 _ _) (ly0_k La0_h) ?_
    refine mx_tr (ly0_R_0_50 La0_h) ?_
    refine mx_iload dX0_send_405 rfl ?_
    obtain ⟨k4, H⟩ := H
    refine my_iald dX0_send_407 rfl (ly0_A_1489 La0_h k4) ?_
    refine mx_if_le (tgt := 438) dX0_send_408 rfl (fun c5 => ?_) (fun c5 => ?_)
    · have H := H.1 c5
      refine mx_iinc (al' := [some (rv a0), none, some (iv x2), none, some (iv x4), none, none, some (iv x7), some (iv x8), some (iv x9), some (iv x10), some (iv (x11 + (1 : Int32))), none]) dX0_send_438 rfl ic_1 rfl ?_
      refine mx_goto (tgt := 394) dX0_send_441 rfl ?_
      exact mx_weak (al' := [some (rv a0), none, some (iv x2), none, some (iv x4), none, none, some (iv x7), some (iv x8), some (iv x9), some (iv x10), some (iv (x11 + (1 : Int32))), none]) ⟨rfl, ⟨rfl, ⟨rfl, ⟨rfl, ⟨rfl, ⟨rfl, ⟨rfl, ⟨rfl, trivial⟩⟩⟩⟩⟩⟩⟩⟩ H
    · have H := H.2 c5
      refine mx_iload dX0_send_411 rfl ?_
      refine mx_iconst dX0_send_413 ic_m1 ?_
      refine mx_icmp_eq (tgt := 434) dX0_send_414 rfl (fun c6 => ?_) (fun c6 => ?_)
      · have H := H.1 c6
        refine mx_iload dX0_send_434 rfl ?_
        refine mx_istore (al' := [some (rv a0), none, some (iv x2), none, some (iv x4), none, none, some (iv x7), some (iv x8), some (iv x9), some (iv x11), some (iv x11), none]) dX0_send_436 (Nat.le_of_ble_eq_true rfl) rfl ?_
        refine mx_iinc (al' := [some (rv a0), none, some (iv x2), none, some (iv x4), none, none, some (iv x7), some (iv x8), some (iv x9), some (iv x11), some (iv (x11 + (1 : Int32))), none]) dX0_send_438 rfl ic_1 rfl ?_
        refine mx_goto (tgt := 394) dX0_send_441 rfl ?_
        exact mx_weak (al' := [some (rv a0), none, some (iv x2), none, some (iv x4), none, none, some (iv x7), some (iv x8), some (iv x9), some (iv x11), some (iv (x11 + (1 : Int32))), none]) ⟨rfl, ⟨rfl, ⟨rfl, ⟨rfl, ⟨rfl, ⟨rfl, ⟨rfl, ⟨rfl, trivial⟩⟩⟩⟩⟩⟩⟩⟩ H
      · have H := H.2 c6
        refine mx_aload_n dX0_send_417 rfl rfl ?_
        refine mx_get 0 52 (ref := "PrairiePool") cl_0 (Nat.le_of_ble_eq_true rfl) (Or.inl q512) (Or.inl rfl) dX0_send_418 (fv_0_52 _ _) (ly0_k La0_h) ?_
        refine mx_tr (ly0_R_0_52 La0_h) ?_
        refine mx_iload dX0_send_421 rfl ?_
        refine my_iald dX0_send_423 rfl (ly0_A_1491 La0_h k4) ?_
        refine mx_aload_n dX0_send_424 rfl rfl ?_
        refine mx_get 0 52 (ref := "PrairiePool") cl_0 (Nat.le_of_ble_eq_true rfl) (Or.inl q512) (Or.inl rfl) dX0_send_425 (fv_0_52 _ _) (ly0_k La0_h) ?_
        refine mx_tr (ly0_R_0_52 La0_h) ?_
        refine mx_iload dX0_send_428 rfl ?_
        obtain ⟨k7, H⟩ := H
        refine my_iald dX0_send_430 rfl (ly0_A_1491 La0_h k7) ?_
        refine mx_icmp_ge (tgt := 438) dX0_send_431 rfl (fun c8 => ?_) (fun c8 => ?_)
        · have H := H.1 c8
          refine mx_iinc (al' := [some (rv a0), none, some (iv x2), none, some (iv x4), none, none, some (iv x7), some (iv x8), some (iv x9), some (iv x10), some (iv (x11 + (1 : Int32))), none]) dX0_send_438 rfl ic_1 rfl ?_
          refine mx_goto (tgt := 394) dX0_send_441 rfl ?_
          exact mx_weak (al' := [some (rv a0), none, some (iv x2), none, some (iv x4), none, none, some (iv x7), some (iv x8), some (iv x9), some (iv x10), some (iv (x11 + (1 : Int32))), none]) ⟨rfl, ⟨rfl, ⟨rfl, ⟨rfl, ⟨rfl, ⟨rfl, ⟨rfl, ⟨rfl, trivial⟩⟩⟩⟩⟩⟩⟩⟩ H
        · have H := H.2 c8
          refine mx_iload dX0_send_434 rfl ?_
          refine mx_istore (al' := [some (rv a0), none, some (iv x2), none, some (iv x4), none, none, some (iv x7), some (iv x8), some (iv x9), some (iv x11), some (iv x11), none]) dX0_send_436 (Nat.le_of_ble_eq_true rfl) rfl ?_
          refine mx_iinc (al' := [some (rv a0), none, some (iv x2), none, some (iv x4), none, none, some (iv x7), some (iv x8), some (iv x9), some (iv x11), some (iv (x11 + (1 : Int32))), none]) dX0_send_438 rfl ic_1 rfl ?_
          refine mx_goto (tgt := 394) dX0_send_441 rfl ?_
          exact mx_weak (al' := [some (rv a0), none, some (iv x2), none, some (iv x4), none, none, some (iv x7), some (iv x8), some (iv x9), some (iv x11), some (iv (x11 + (1 : Int32))), none]) ⟨rfl, ⟨rfl, ⟨rfl, ⟨rfl, ⟨rfl, ⟨rfl, ⟨rfl, ⟨rfl, trivial⟩⟩⟩⟩⟩⟩⟩⟩ H
theorem v_X0_send_471 {G : ma_G} {d : Nat} {a0 : Nat} {x2 : Int32} {x4 : Int32} {x7 : Int32} {x8 : Int32} {x9 : Int32} {x11 : Int32} {h : ah_T} {Q : Option ma_V → ah_T → Prop} {E : Nat → ah_T → Prop} (La0_h : LY0 h a0) (H : (x11 = (-1 : Int32) → MX G mi_X0_send (d + 1) 374 [some (rv a0), none, some (iv x2), none, some (iv x4), none, none, some (iv x7), some (iv x8), some (iv (x9 + (1 : Int32))), none, none, none] [] h Q E) ∧ (¬ x11 = (-1 : Int32) → vp_in x11 4 ∧ vp_in (ah_I h (a0 + 1493) x11.toNatClampNeg) 5 ∧ ∀ h4 : ah_T, h4 = ah_wI h (a0 + (1483 + (ah_I h (a0 + 1493) x11.toNatClampNeg).toNatClampNeg)) x11.toNatClampNeg ((ah_I h (a0 + (1483 + (ah_I h (a0 + 1493) x11.toNatClampNeg).toNatClampNeg)) x11.toNatClampNeg) + (1 : Int32)) → ah_ext h h4 → (¬ (ah_I h4 (a0 + 1492) (ah_I h (a0 + 1493) x11.toNatClampNeg).toNatClampNeg) = (-1 : Int32) → vp_in (ah_I h4 (a0 + 1492) (ah_I h (a0 + 1493) x11.toNatClampNeg).toNatClampNeg) 4 ∧ ∀ h7 : ah_T, h7 = ah_wI h4 (a0 + (1483 + (ah_I h (a0 + 1493) x11.toNatClampNeg).toNatClampNeg)) (ah_I h4 (a0 + 1492) (ah_I h (a0 + 1493) x11.toNatClampNeg).toNatClampNeg).toNatClampNeg ((ah_I h4 (a0 + (1483 + (ah_I h (a0 + 1493) x11.toNatClampNeg).toNatClampNeg)) (ah_I h4 (a0 + 1492) (ah_I h (a0 + 1493) x11.toNatClampNeg).toNatClampNeg).toNatClampNeg) - (1 : Int32)) → ah_ext h4 h7 → MX G mi_X0_send (d + 1) 471 [some (rv a0), none, some (iv x2), none, some (iv x4), none, none, some (iv x7), some (iv x8), some (iv x9), none, some (iv (ah_I h4 (a0 + 1492) (ah_I h (a0 + 1493) x11.toNatClampNeg).toNatClampNeg)), none] [] h7 Q E) ∧ ((ah_I h4 (a0 + 1492) (ah_I h (a0 + 1493) x11.toNatClampNeg).toNatClampNeg) = (-1 : Int32) → ∀ h8 : ah_T, h8 = ah_wI h4 (a0 + 1488) (ah_I h (a0 + 1493) x11.toNatClampNeg).toNatClampNeg ((ah_I h4 (a0 + 1488) (ah_I h (a0 + 1493) x11.toNatClampNeg).toNatClampNeg) - (1 : Int32)) → ah_ext h4 h8 → MX G mi_X0_send (d + 1) 471 [some (rv a0), none, some (iv x2), none, some (iv x4), none, none, some (iv x7), some (iv x8), some (iv x9), none, some (iv (ah_I h4 (a0 + 1492) (ah_I h (a0 + 1493) x11.toNatClampNeg).toNatClampNeg)), none] [] h8 Q E))) : MX G mi_X0_send (d + 1) 471 [some (rv a0), none, some (iv x2), none, some (iv x4), none, none, some (iv x7), some (iv x8), some (iv x9), none, some (iv x11), none] [] h Q E := by
  refine mx_iload dX0_send_471 rfl ?_
  refine mx_iconst dX0_send_473 ic_m1 ?_
  refine mx_icmp_eq (tgt := 546) dX0_send_474 rfl (fun c1 => ?_) (fun c1 => ?_)
  · have H := H.1 c1
    refine mx_iinc (al' := [some (rv a0), none, some (iv x2), none, some (iv x4), none, none, some (iv x7), some (iv x8), some (iv (x9 + (1 : Int32))), none, some (iv x11), none]) dX0_send_546 rfl ic_1 rfl ?_
    refine mx_goto (tgt := 374) dX0_send_549 rfl ?_
    exact mx_weak (al' := [some (rv a0), none, some (iv x2), none, some (iv x4), none, none, some (iv x7), some (iv x8), some (iv (x9 + (1 : Int32))), none, none, none]) ⟨rfl, ⟨rfl, ⟨rfl, ⟨rfl, ⟨rfl, ⟨rfl, trivial⟩⟩⟩⟩⟩⟩ H
  · have H := H.2 c1
    refine mx_aload_n dX0_send_477 rfl rfl ?_
    refine mx_get 0 54 (ref := "PrairiePool") cl_0 (Nat.le_of_ble_eq_true rfl) (Or.inl q514) (Or.inl rfl) dX0_send_478 (fv_0_54 _ _) (ly0_k La0_h) ?_
    refine mx_tr (ly0_R_0_54 La0_h) ?_
    refine mx_iload dX0_send_481 rfl ?_
    obtain ⟨k2, H⟩ := H
    refine my_iald dX0_send_483 rfl (ly0_A_1493 La0_h k2) ?_
    refine mx_istore (al' := [some (rv a0), none, some (iv x2), none, some (iv x4), none, none, some (iv x7), some (iv x8), some (iv x9), none, some (iv x11), some (iv (ah_I h (a0 + 1493) x11.toNatClampNeg))]) dX0_send_484 (Nat.le_of_ble_eq_true rfl) rfl ?_
    refine mx_aload_n dX0_send_486 rfl rfl ?_
    refine mx_get 0 48 (ref := "PrairiePool") cl_0 (Nat.le_of_ble_eq_true rfl) (Or.inl q508) (Or.inl rfl) dX0_send_487 (fv_0_48 _ _) (ly0_k La0_h) ?_
    refine mx_tr (ly0_R_0_48 La0_h) ?_
    refine mx_iload dX0_send_490 rfl ?_
    obtain ⟨k3, H⟩ := H
    refine my_aald 14 dX0_send_492 (by decide) rfl (ly0_A_1482 La0_h k3) ?_
    refine mx_tr (ly0_G1_1482 La0_h (vp_lt k3)) ?_
    refine mx_iload dX0_send_493 rfl ?_
    refine mx_dup2_ir dX0_send_495 ?_
    refine my_iald dX0_send_496 rfl ⟨(ly0_K1_1482 La0_h (vp_lt k3)), by rw [ly0_N1_1482 La0_h (vp_lt k3)]; exact k2⟩ ?_
    refine mx_iconst dX0_send_497 ic_1 ?_
    refine mx_iadd dX0_send_498 ?_
    refine my_iast dX0_send_499 rfl ⟨(ly0_K1_1482 La0_h (vp_lt k3)), by rw [ly0_N1_1482 La0_h (vp_lt k3)]; exact k2⟩ ?_
    refine mx_nmI  (fun h4 eh4 Xh4 Kh4 Lh4 => ?_)
    have H := H h4 eh4 Xh4
    have La0_h4 := La0_h.ext Xh4
    refine mx_aload_n dX0_send_500 rfl rfl ?_
    refine mx_get 0 53 (ref := "PrairiePool") cl_0 (Nat.le_of_ble_eq_true rfl) (Or.inl q513) (Or.inl rfl) dX0_send_501 (fv_0_53 _ _) (ly0_k La0_h4) ?_
    refine mx_tr (ly0_R_0_53 La0_h4) ?_
    refine mx_iload dX0_send_504 rfl ?_
    refine my_iald dX0_send_506 rfl (ly0_A_1492 La0_h4 k3) ?_
    refine mx_istore (al' := [some (rv a0), none, some (iv x2), none, some (iv x4), none, none, some (iv x7), some (iv x8), some (iv x9), none, some (iv (ah_I h4 (a0 + 1492) (ah_I h (a0 + 1493) x11.toNatClampNeg).toNatClampNeg)), some (iv (ah_I h (a0 + 1493) x11.toNatClampNeg))]) dX0_send_507 (Nat.le_of_ble_eq_true rfl) rfl ?_
    refine mx_iload dX0_send_509 rfl ?_
    refine mx_iconst dX0_send_511 ic_m1 ?_
    refine mx_icmp_ne (tgt := 529) dX0_send_512 rfl (fun c5 => ?_) (fun c5 => ?_)
    · have H := H.1 c5
      refine mx_aload_n dX0_send_529 rfl rfl ?_
      refine mx_get 0 48 (ref := "PrairiePool") cl_0 (Nat.le_of_ble_eq_true rfl) (Or.inl q508) (Or.inl rfl) dX0_send_530 (fv_0_48 _ _) (ly0_k La0_h4) ?_
      refine mx_tr (ly0_R_0_48 La0_h4) ?_
      refine mx_iload dX0_send_533 rfl ?_
      refine my_aald 14 dX0_send_535 (by decide) rfl (ly0_A_1482 La0_h4 k3) ?_
      refine mx_tr (ly0_G1_1482 La0_h4 (vp_lt k3)) ?_
      refine mx_iload dX0_send_536 rfl ?_
      refine mx_dup2_ir dX0_send_538 ?_
      obtain ⟨k6, H⟩ := H
      refine my_iald dX0_send_539 rfl ⟨(ly0_K1_1482 La0_h4 (vp_lt k3)), by rw [ly0_N1_1482 La0_h4 (vp_lt k3)]; exact k6⟩ ?_
      refine mx_iconst dX0_send_540 ic_1 ?_
      refine mx_isub dX0_send_541 ?_
      refine my_iast dX0_send_542 rfl ⟨(ly0_K1_1482 La0_h4 (vp_lt k3)), by rw [ly0_N1_1482 La0_h4 (vp_lt k3)]; exact k6⟩ ?_
      refine mx_nmI  (fun h7 eh7 Xh7 Kh7 Lh7 => ?_)
      have H := H h7 eh7 Xh7
      have Kh7 := Kh7.trans Kh4
      have Lh7 := Lh7.trans Lh4
      have La0_h7 := La0_h4.ext Xh7
      refine mx_goto (tgt := 471) dX0_send_543 rfl ?_
      exact mx_weak (al' := [some (rv a0), none, some (iv x2), none, some (iv x4), none, none, some (iv x7), some (iv x8), some (iv x9), none, some (iv (ah_I h4 (a0 + 1492) (ah_I h (a0 + 1493) x11.toNatClampNeg).toNatClampNeg)), none]) ⟨rfl, ⟨rfl, ⟨rfl, ⟨rfl, ⟨rfl, ⟨rfl, ⟨rfl, trivial⟩⟩⟩⟩⟩⟩⟩ H
    · have H := H.2 c5
      refine mx_aload_n dX0_send_515 rfl rfl ?_
      refine mx_get 0 49 (ref := "PrairiePool") cl_0 (Nat.le_of_ble_eq_true rfl) (Or.inl q509) (Or.inl rfl) dX0_send_516 (fv_0_49 _ _) (ly0_k La0_h4) ?_
      refine mx_tr (ly0_R_0_49 La0_h4) ?_
      refine mx_iload dX0_send_519 rfl ?_
      refine mx_dup2_ir dX0_send_521 ?_
      refine my_iald dX0_send_522 rfl (ly0_A_1488 La0_h4 k3) ?_
      refine mx_iconst dX0_send_523 ic_1 ?_
      refine mx_isub dX0_send_524 ?_
      refine my_iast dX0_send_525 rfl (ly0_A_1488 La0_h4 k3) ?_
      refine mx_nmI  (fun h8 eh8 Xh8 Kh8 Lh8 => ?_)
      have H := H h8 eh8 Xh8
      have Kh8 := Kh8.trans Kh4
      have Lh8 := Lh8.trans Lh4
      have La0_h8 := La0_h4.ext Xh8
      refine mx_goto (tgt := 543) dX0_send_526 rfl ?_
      refine mx_goto (tgt := 471) dX0_send_543 rfl ?_
      exact mx_weak (al' := [some (rv a0), none, some (iv x2), none, some (iv x4), none, none, some (iv x7), some (iv x8), some (iv x9), none, some (iv (ah_I h4 (a0 + 1492) (ah_I h (a0 + 1493) x11.toNatClampNeg).toNatClampNeg)), none]) ⟨rfl, ⟨rfl, ⟨rfl, ⟨rfl, ⟨rfl, ⟨rfl, ⟨rfl, trivial⟩⟩⟩⟩⟩⟩⟩ H
theorem dX0_find_0 : decode mi_X0_find.2.1 0 = .ok (.iconst 0, 1) := by decide +kernel
theorem dX0_find_1 : decode mi_X0_find.2.1 1 = .ok (.istore_n 3, 1) := by decide +kernel
theorem dX0_find_2 : decode mi_X0_find.2.1 2 = .ok (.iload_n 3, 1) := by decide +kernel
theorem dX0_find_3 : decode mi_X0_find.2.1 3 = .ok (.iload_n 1, 1) := by decide +kernel
theorem dX0_find_4 : decode mi_X0_find.2.1 4 = .ok (.if_icmp .ge 38, 3) := by decide +kernel
theorem dX0_find_7 : decode mi_X0_find.2.1 7 = .ok (.aload_n 0, 1) := by decide +kernel
theorem dX0_find_8 : decode mi_X0_find.2.1 8 = .ok (.getfield 168, 3) := by decide +kernel
theorem dX0_find_11 : decode mi_X0_find.2.1 11 = .ok (.iload_n 3, 1) := by decide +kernel
theorem dX0_find_12 : decode mi_X0_find.2.1 12 = .ok (.aload_n 0, 1) := by decide +kernel
theorem dX0_find_13 : decode mi_X0_find.2.1 13 = .ok (.getfield 162, 3) := by decide +kernel
theorem dX0_find_16 : decode mi_X0_find.2.1 16 = .ok (.iload_n 3, 1) := by decide +kernel
theorem dX0_find_17 : decode mi_X0_find.2.1 17 = .ok (.iaload, 1) := by decide +kernel
theorem dX0_find_18 : decode mi_X0_find.2.1 18 = .ok (.ifCond .le 7, 3) := by decide +kernel
theorem dX0_find_21 : decode mi_X0_find.2.1 21 = .ok (.iconst 0, 1) := by decide +kernel
theorem dX0_find_22 : decode mi_X0_find.2.1 22 = .ok (.goto 6, 3) := by decide +kernel
theorem dX0_find_25 : decode mi_X0_find.2.1 25 = .ok (.ldc_w 592, 3) := by decide +kernel
theorem dX0_find_28 : decode mi_X0_find.2.1 28 = .ok (.iastore, 1) := by decide +kernel
theorem dX0_find_29 : decode mi_X0_find.2.1 29 = .ok (.aload_n 0, 1) := by decide +kernel
theorem dX0_find_30 : decode mi_X0_find.2.1 30 = .ok (.getfield 174, 3) := by decide +kernel
theorem dX0_find_33 : decode mi_X0_find.2.1 33 = .ok (.iload_n 3, 1) := by decide +kernel
theorem dX0_find_34 : decode mi_X0_find.2.1 34 = .ok (.iconst (-1), 1) := by decide +kernel
theorem dX0_find_35 : decode mi_X0_find.2.1 35 = .ok (.iastore, 1) := by decide +kernel
theorem dX0_find_36 : decode mi_X0_find.2.1 36 = .ok (.iinc 3 1, 3) := by decide +kernel
theorem dX0_find_39 : decode mi_X0_find.2.1 39 = .ok (.goto (-37), 3) := by decide +kernel
theorem dX0_find_42 : decode mi_X0_find.2.1 42 = .ok (.iconst 0, 1) := by decide +kernel
theorem dX0_find_43 : decode mi_X0_find.2.1 43 = .ok (.istore_n 3, 1) := by decide +kernel
theorem dX0_find_44 : decode mi_X0_find.2.1 44 = .ok (.iload_n 3, 1) := by decide +kernel
theorem dX0_find_45 : decode mi_X0_find.2.1 45 = .ok (.iload_n 2, 1) := by decide +kernel
theorem dX0_find_46 : decode mi_X0_find.2.1 46 = .ok (.if_icmp .ge 18, 3) := by decide +kernel
theorem dX0_find_49 : decode mi_X0_find.2.1 49 = .ok (.aload_n 0, 1) := by decide +kernel
theorem dX0_find_50 : decode mi_X0_find.2.1 50 = .ok (.getfield 171, 3) := by decide +kernel
theorem dX0_find_53 : decode mi_X0_find.2.1 53 = .ok (.iload_n 3, 1) := by decide +kernel
theorem dX0_find_54 : decode mi_X0_find.2.1 54 = .ok (.ldc_w 592, 3) := by decide +kernel
theorem dX0_find_57 : decode mi_X0_find.2.1 57 = .ok (.iastore, 1) := by decide +kernel
theorem dX0_find_58 : decode mi_X0_find.2.1 58 = .ok (.iinc 3 1, 3) := by decide +kernel
theorem dX0_find_61 : decode mi_X0_find.2.1 61 = .ok (.goto (-17), 3) := by decide +kernel
theorem dX0_find_64 : decode mi_X0_find.2.1 64 = .ok (.iconst 1, 1) := by decide +kernel
theorem dX0_find_65 : decode mi_X0_find.2.1 65 = .ok (.istore_n 3, 1) := by decide +kernel
theorem dX0_find_66 : decode mi_X0_find.2.1 66 = .ok (.iload_n 3, 1) := by decide +kernel
theorem dX0_find_67 : decode mi_X0_find.2.1 67 = .ok (.ifCond .eq 205, 3) := by decide +kernel
theorem dX0_find_70 : decode mi_X0_find.2.1 70 = .ok (.iconst 0, 1) := by decide +kernel
theorem dX0_find_71 : decode mi_X0_find.2.1 71 = .ok (.istore_n 3, 1) := by decide +kernel
theorem dX0_find_72 : decode mi_X0_find.2.1 72 = .ok (.iconst 0, 1) := by decide +kernel
theorem dX0_find_73 : decode mi_X0_find.2.1 73 = .ok (.istore 4, 2) := by decide +kernel
theorem dX0_find_75 : decode mi_X0_find.2.1 75 = .ok (.iload 4, 2) := by decide +kernel
theorem dX0_find_77 : decode mi_X0_find.2.1 77 = .ok (.iload_n 1, 1) := by decide +kernel
theorem dX0_find_78 : decode mi_X0_find.2.1 78 = .ok (.if_icmp .ge 191, 3) := by decide +kernel
theorem dX0_find_81 : decode mi_X0_find.2.1 81 = .ok (.iconst 0, 1) := by decide +kernel
theorem dX0_find_82 : decode mi_X0_find.2.1 82 = .ok (.istore 5, 2) := by decide +kernel
theorem dX0_find_84 : decode mi_X0_find.2.1 84 = .ok (.iload 5, 2) := by decide +kernel
theorem dX0_find_86 : decode mi_X0_find.2.1 86 = .ok (.iload_n 2, 1) := by decide +kernel
theorem dX0_find_87 : decode mi_X0_find.2.1 87 = .ok (.if_icmp .ge 176, 3) := by decide +kernel
theorem dX0_find_90 : decode mi_X0_find.2.1 90 = .ok (.aload_n 0, 1) := by decide +kernel
theorem dX0_find_91 : decode mi_X0_find.2.1 91 = .ok (.getfield 168, 3) := by decide +kernel
theorem dX0_find_94 : decode mi_X0_find.2.1 94 = .ok (.iload 4, 2) := by decide +kernel
theorem dX0_find_96 : decode mi_X0_find.2.1 96 = .ok (.iaload, 1) := by decide +kernel
theorem dX0_find_97 : decode mi_X0_find.2.1 97 = .ok (.ldc_w 592, 3) := by decide +kernel
theorem dX0_find_100 : decode mi_X0_find.2.1 100 = .ok (.if_icmp .ge 67, 3) := by decide +kernel
theorem dX0_find_103 : decode mi_X0_find.2.1 103 = .ok (.aload_n 0, 1) := by decide +kernel
theorem dX0_find_104 : decode mi_X0_find.2.1 104 = .ok (.getfield 168, 3) := by decide +kernel
theorem dX0_find_107 : decode mi_X0_find.2.1 107 = .ok (.iload 4, 2) := by decide +kernel
theorem dX0_find_109 : decode mi_X0_find.2.1 109 = .ok (.iaload, 1) := by decide +kernel
theorem dX0_find_110 : decode mi_X0_find.2.1 110 = .ok (.aload_n 0, 1) := by decide +kernel
theorem dX0_find_111 : decode mi_X0_find.2.1 111 = .ok (.getfield 156, 3) := by decide +kernel
theorem dX0_find_114 : decode mi_X0_find.2.1 114 = .ok (.iload 4, 2) := by decide +kernel
theorem dX0_find_116 : decode mi_X0_find.2.1 116 = .ok (.aaload, 1) := by decide +kernel
theorem dX0_find_117 : decode mi_X0_find.2.1 117 = .ok (.iload 5, 2) := by decide +kernel
theorem dX0_find_119 : decode mi_X0_find.2.1 119 = .ok (.iaload, 1) := by decide +kernel
theorem dX0_find_120 : decode mi_X0_find.2.1 120 = .ok (.iadd, 1) := by decide +kernel
theorem dX0_find_121 : decode mi_X0_find.2.1 121 = .ok (.aload_n 0, 1) := by decide +kernel
theorem dX0_find_122 : decode mi_X0_find.2.1 122 = .ok (.getfield 171, 3) := by decide +kernel
theorem dX0_find_125 : decode mi_X0_find.2.1 125 = .ok (.iload 5, 2) := by decide +kernel
theorem dX0_find_127 : decode mi_X0_find.2.1 127 = .ok (.iaload, 1) := by decide +kernel
theorem dX0_find_128 : decode mi_X0_find.2.1 128 = .ok (.if_icmp .ge 39, 3) := by decide +kernel
theorem dX0_find_131 : decode mi_X0_find.2.1 131 = .ok (.aload_n 0, 1) := by decide +kernel
theorem dX0_find_132 : decode mi_X0_find.2.1 132 = .ok (.getfield 171, 3) := by decide +kernel
theorem dX0_find_135 : decode mi_X0_find.2.1 135 = .ok (.iload 5, 2) := by decide +kernel
theorem dX0_find_137 : decode mi_X0_find.2.1 137 = .ok (.aload_n 0, 1) := by decide +kernel
theorem dX0_find_138 : decode mi_X0_find.2.1 138 = .ok (.getfield 168, 3) := by decide +kernel
theorem dX0_find_141 : decode mi_X0_find.2.1 141 = .ok (.iload 4, 2) := by decide +kernel
theorem dX0_find_143 : decode mi_X0_find.2.1 143 = .ok (.iaload, 1) := by decide +kernel
theorem dX0_find_144 : decode mi_X0_find.2.1 144 = .ok (.aload_n 0, 1) := by decide +kernel
theorem dX0_find_145 : decode mi_X0_find.2.1 145 = .ok (.getfield 156, 3) := by decide +kernel
theorem dX0_find_148 : decode mi_X0_find.2.1 148 = .ok (.iload 4, 2) := by decide +kernel
theorem dX0_find_150 : decode mi_X0_find.2.1 150 = .ok (.aaload, 1) := by decide +kernel
theorem dX0_find_151 : decode mi_X0_find.2.1 151 = .ok (.iload 5, 2) := by decide +kernel
theorem dX0_find_153 : decode mi_X0_find.2.1 153 = .ok (.iaload, 1) := by decide +kernel
theorem dX0_find_154 : decode mi_X0_find.2.1 154 = .ok (.iadd, 1) := by decide +kernel
theorem dX0_find_155 : decode mi_X0_find.2.1 155 = .ok (.iastore, 1) := by decide +kernel
theorem dX0_find_156 : decode mi_X0_find.2.1 156 = .ok (.aload_n 0, 1) := by decide +kernel
theorem dX0_find_157 : decode mi_X0_find.2.1 157 = .ok (.getfield 177, 3) := by decide +kernel
theorem dX0_find_160 : decode mi_X0_find.2.1 160 = .ok (.iload 5, 2) := by decide +kernel
theorem dX0_find_162 : decode mi_X0_find.2.1 162 = .ok (.iload 4, 2) := by decide +kernel
theorem dX0_find_164 : decode mi_X0_find.2.1 164 = .ok (.iastore, 1) := by decide +kernel
theorem dX0_find_165 : decode mi_X0_find.2.1 165 = .ok (.iconst 1, 1) := by decide +kernel
theorem dX0_find_166 : decode mi_X0_find.2.1 166 = .ok (.istore_n 3, 1) := by decide +kernel
theorem dX0_find_167 : decode mi_X0_find.2.1 167 = .ok (.aload_n 0, 1) := by decide +kernel
theorem dX0_find_168 : decode mi_X0_find.2.1 168 = .ok (.getfield 159, 3) := by decide +kernel
theorem dX0_find_171 : decode mi_X0_find.2.1 171 = .ok (.iload 4, 2) := by decide +kernel
theorem dX0_find_173 : decode mi_X0_find.2.1 173 = .ok (.aaload, 1) := by decide +kernel
theorem dX0_find_174 : decode mi_X0_find.2.1 174 = .ok (.iload 5, 2) := by decide +kernel
theorem dX0_find_176 : decode mi_X0_find.2.1 176 = .ok (.iaload, 1) := by decide +kernel
theorem dX0_find_177 : decode mi_X0_find.2.1 177 = .ok (.ifCond .le 80, 3) := by decide +kernel
theorem dX0_find_180 : decode mi_X0_find.2.1 180 = .ok (.aload_n 0, 1) := by decide +kernel
theorem dX0_find_181 : decode mi_X0_find.2.1 181 = .ok (.getfield 171, 3) := by decide +kernel
theorem dX0_find_184 : decode mi_X0_find.2.1 184 = .ok (.iload 5, 2) := by decide +kernel
theorem dX0_find_186 : decode mi_X0_find.2.1 186 = .ok (.iaload, 1) := by decide +kernel
theorem dX0_find_187 : decode mi_X0_find.2.1 187 = .ok (.ldc_w 592, 3) := by decide +kernel
theorem dX0_find_190 : decode mi_X0_find.2.1 190 = .ok (.if_icmp .ge 67, 3) := by decide +kernel
theorem dX0_find_193 : decode mi_X0_find.2.1 193 = .ok (.aload_n 0, 1) := by decide +kernel
theorem dX0_find_194 : decode mi_X0_find.2.1 194 = .ok (.getfield 171, 3) := by decide +kernel
theorem dX0_find_197 : decode mi_X0_find.2.1 197 = .ok (.iload 5, 2) := by decide +kernel
theorem dX0_find_199 : decode mi_X0_find.2.1 199 = .ok (.iaload, 1) := by decide +kernel
theorem dX0_find_200 : decode mi_X0_find.2.1 200 = .ok (.aload_n 0, 1) := by decide +kernel
theorem dX0_find_201 : decode mi_X0_find.2.1 201 = .ok (.getfield 156, 3) := by decide +kernel
theorem dX0_find_204 : decode mi_X0_find.2.1 204 = .ok (.iload 4, 2) := by decide +kernel
theorem dX0_find_206 : decode mi_X0_find.2.1 206 = .ok (.aaload, 1) := by decide +kernel
theorem dX0_find_207 : decode mi_X0_find.2.1 207 = .ok (.iload 5, 2) := by decide +kernel
theorem dX0_find_209 : decode mi_X0_find.2.1 209 = .ok (.iaload, 1) := by decide +kernel
theorem dX0_find_210 : decode mi_X0_find.2.1 210 = .ok (.isub, 1) := by decide +kernel
theorem dX0_find_211 : decode mi_X0_find.2.1 211 = .ok (.aload_n 0, 1) := by decide +kernel
theorem dX0_find_212 : decode mi_X0_find.2.1 212 = .ok (.getfield 168, 3) := by decide +kernel
theorem dX0_find_215 : decode mi_X0_find.2.1 215 = .ok (.iload 4, 2) := by decide +kernel
theorem dX0_find_217 : decode mi_X0_find.2.1 217 = .ok (.iaload, 1) := by decide +kernel
theorem dX0_find_218 : decode mi_X0_find.2.1 218 = .ok (.if_icmp .ge 39, 3) := by decide +kernel
theorem dX0_find_221 : decode mi_X0_find.2.1 221 = .ok (.aload_n 0, 1) := by decide +kernel
theorem dX0_find_222 : decode mi_X0_find.2.1 222 = .ok (.getfield 168, 3) := by decide +kernel
theorem dX0_find_225 : decode mi_X0_find.2.1 225 = .ok (.iload 4, 2) := by decide +kernel
theorem dX0_find_227 : decode mi_X0_find.2.1 227 = .ok (.aload_n 0, 1) := by decide +kernel
theorem dX0_find_228 : decode mi_X0_find.2.1 228 = .ok (.getfield 171, 3) := by decide +kernel
theorem dX0_find_231 : decode mi_X0_find.2.1 231 = .ok (.iload 5, 2) := by decide +kernel
theorem dX0_find_233 : decode mi_X0_find.2.1 233 = .ok (.iaload, 1) := by decide +kernel
theorem dX0_find_234 : decode mi_X0_find.2.1 234 = .ok (.aload_n 0, 1) := by decide +kernel
theorem dX0_find_235 : decode mi_X0_find.2.1 235 = .ok (.getfield 156, 3) := by decide +kernel
theorem dX0_find_238 : decode mi_X0_find.2.1 238 = .ok (.iload 4, 2) := by decide +kernel
theorem dX0_find_240 : decode mi_X0_find.2.1 240 = .ok (.aaload, 1) := by decide +kernel
theorem dX0_find_241 : decode mi_X0_find.2.1 241 = .ok (.iload 5, 2) := by decide +kernel
theorem dX0_find_243 : decode mi_X0_find.2.1 243 = .ok (.iaload, 1) := by decide +kernel
theorem dX0_find_244 : decode mi_X0_find.2.1 244 = .ok (.isub, 1) := by decide +kernel
theorem dX0_find_245 : decode mi_X0_find.2.1 245 = .ok (.iastore, 1) := by decide +kernel
theorem dX0_find_246 : decode mi_X0_find.2.1 246 = .ok (.aload_n 0, 1) := by decide +kernel
theorem dX0_find_247 : decode mi_X0_find.2.1 247 = .ok (.getfield 174, 3) := by decide +kernel
theorem dX0_find_250 : decode mi_X0_find.2.1 250 = .ok (.iload 4, 2) := by decide +kernel
theorem dX0_find_252 : decode mi_X0_find.2.1 252 = .ok (.iload 5, 2) := by decide +kernel
theorem dX0_find_254 : decode mi_X0_find.2.1 254 = .ok (.iastore, 1) := by decide +kernel
theorem dX0_find_255 : decode mi_X0_find.2.1 255 = .ok (.iconst 1, 1) := by decide +kernel
theorem dX0_find_256 : decode mi_X0_find.2.1 256 = .ok (.istore_n 3, 1) := by decide +kernel
theorem dX0_find_257 : decode mi_X0_find.2.1 257 = .ok (.iinc 5 1, 3) := by decide +kernel
theorem dX0_find_260 : decode mi_X0_find.2.1 260 = .ok (.goto (-176), 3) := by decide +kernel
theorem dX0_find_263 : decode mi_X0_find.2.1 263 = .ok (.iinc 4 1, 3) := by decide +kernel
theorem dX0_find_266 : decode mi_X0_find.2.1 266 = .ok (.goto (-191), 3) := by decide +kernel
theorem dX0_find_269 : decode mi_X0_find.2.1 269 = .ok (.goto (-203), 3) := by decide +kernel
theorem dX0_find_272 : decode mi_X0_find.2.1 272 = .ok (.return_, 1) := by decide +kernel
theorem v_X0_find {G : ma_G} {d : Nat} {a0 : Nat} {x1 : Int32} {x2 : Int32} {h : ah_T} {Q : Option ma_V → ah_T → Prop} {E : Nat → ah_T → Prop} (La0_h : LY0 h a0) (H : MX G mi_X0_find d 2 [some (rv a0), some (iv x1), some (iv x2), some (iv (0 : Int32)), none, none] [] h Q E) : MX G mi_X0_find d 0 [some (rv a0), some (iv x1), some (iv x2), none, none, none] [] h Q E := by
  refine mx_iconst dX0_find_0 ic_0 ?_
  refine mx_istore_n (al' := [some (rv a0), some (iv x1), some (iv x2), some (iv (0 : Int32)), none, none]) dX0_find_1 rfl (Nat.le_of_ble_eq_true rfl) rfl ?_
  exact mx_weak (al' := [some (rv a0), some (iv x1), some (iv x2), some (iv (0 : Int32)), none, none]) ⟨rfl, ⟨rfl, ⟨rfl, ⟨rfl, trivial⟩⟩⟩⟩ H
theorem v_X0_find_2 {G : ma_G} {d : Nat} {a0 : Nat} {x1 : Int32} {x2 : Int32} {x3 : Int32} {h : ah_T} {Q : Option ma_V → ah_T → Prop} {E : Nat → ah_T → Prop} (La0_h : LY0 h a0) (H : (x1 ≤ x3 → MX G mi_X0_find d 44 [some (rv a0), some (iv x1), some (iv x2), some (iv (0 : Int32)), none, none] [] h Q E) ∧ (¬ x1 ≤ x3 → vp_in x3 5 ∧ ((ah_I h (a0 + 1488) x3.toNatClampNeg) ≤ 0 → ∀ h4 : ah_T, h4 = ah_wI h (a0 + 1490) x3.toNatClampNeg (100000000 : Int32) → ah_ext h h4 → ∀ h5 : ah_T, h5 = ah_wI h4 (a0 + 1492) x3.toNatClampNeg (-1 : Int32) → ah_ext h4 h5 → MX G mi_X0_find d 2 [some (rv a0), some (iv x1), some (iv x2), some (iv (x3 + (1 : Int32))), none, none] [] h5 Q E) ∧ (¬ (ah_I h (a0 + 1488) x3.toNatClampNeg) ≤ 0 → ∀ h6 : ah_T, h6 = ah_wI h (a0 + 1490) x3.toNatClampNeg (0 : Int32) → ah_ext h h6 → ∀ h7 : ah_T, h7 = ah_wI h6 (a0 + 1492) x3.toNatClampNeg (-1 : Int32) → ah_ext h6 h7 → MX G mi_X0_find d 2 [some (rv a0), some (iv x1), some (iv x2), some (iv (x3 + (1 : Int32))), none, none] [] h7 Q E))) : MX G mi_X0_find d 2 [some (rv a0), some (iv x1), some (iv x2), some (iv x3), none, none] [] h Q E := by
  refine mx_iload_n dX0_find_2 rfl rfl ?_
  refine mx_iload_n dX0_find_3 rfl rfl ?_
  refine mx_icmp_ge (tgt := 42) dX0_find_4 rfl (fun c1 => ?_) (fun c1 => ?_)
  · have H := H.1 c1
    refine mx_iconst dX0_find_42 ic_0 ?_
    refine mx_istore_n (al' := [some (rv a0), some (iv x1), some (iv x2), some (iv (0 : Int32)), none, none]) dX0_find_43 rfl (Nat.le_of_ble_eq_true rfl) rfl ?_
    exact mx_weak (al' := [some (rv a0), some (iv x1), some (iv x2), some (iv (0 : Int32)), none, none]) ⟨rfl, ⟨rfl, ⟨rfl, ⟨rfl, trivial⟩⟩⟩⟩ H
  · have H := H.2 c1
    refine mx_aload_n dX0_find_7 rfl rfl ?_
    refine mx_get 0 51 (ref := "PrairiePool") cl_0 (Nat.le_of_ble_eq_true rfl) (Or.inl q511) (Or.inl rfl) dX0_find_8 (fv_0_51 _ _) (ly0_k La0_h) ?_
    refine mx_tr (ly0_R_0_51 La0_h) ?_
    refine mx_iload_n dX0_find_11 rfl rfl ?_
    refine mx_aload_n dX0_find_12 rfl rfl ?_
    refine mx_get 0 49 (ref := "PrairiePool") cl_0 (Nat.le_of_ble_eq_true rfl) (Or.inl q509) (Or.inl rfl) dX0_find_13 (fv_0_49 _ _) (ly0_k La0_h) ?_
    refine mx_tr (ly0_R_0_49 La0_h) ?_
    refine mx_iload_n dX0_find_16 rfl rfl ?_
    obtain ⟨k2, H⟩ := H
    refine my_iald dX0_find_17 rfl (ly0_A_1488 La0_h k2) ?_
    refine mx_if_le (tgt := 25) dX0_find_18 rfl (fun c3 => ?_) (fun c3 => ?_)
    · have H := H.1 c3
      refine mx_ldcw q1620 dX0_find_25 ?_
      refine my_iast dX0_find_28 rfl (ly0_A_1490 La0_h k2) ?_
      refine mx_nmI  (fun h4 eh4 Xh4 Kh4 Lh4 => ?_)
      have H := H h4 eh4 Xh4
      have La0_h4 := La0_h.ext Xh4
      refine mx_aload_n dX0_find_29 rfl rfl ?_
      refine mx_get 0 53 (ref := "PrairiePool") cl_0 (Nat.le_of_ble_eq_true rfl) (Or.inl q513) (Or.inl rfl) dX0_find_30 (fv_0_53 _ _) (ly0_k La0_h4) ?_
      refine mx_tr (ly0_R_0_53 La0_h4) ?_
      refine mx_iload_n dX0_find_33 rfl rfl ?_
      refine mx_iconst dX0_find_34 ic_m1 ?_
      refine my_iast dX0_find_35 rfl (ly0_A_1492 La0_h4 k2) ?_
      refine mx_nmI  (fun h5 eh5 Xh5 Kh5 Lh5 => ?_)
      have H := H h5 eh5 Xh5
      have Kh5 := Kh5.trans Kh4
      have Lh5 := Lh5.trans Lh4
      have La0_h5 := La0_h4.ext Xh5
      refine mx_iinc (al' := [some (rv a0), some (iv x1), some (iv x2), some (iv (x3 + (1 : Int32))), none, none]) dX0_find_36 rfl ic_1 rfl ?_
      refine mx_goto (tgt := 2) dX0_find_39 rfl ?_
      exact mx_weak (al' := [some (rv a0), some (iv x1), some (iv x2), some (iv (x3 + (1 : Int32))), none, none]) ⟨rfl, ⟨rfl, ⟨rfl, ⟨rfl, trivial⟩⟩⟩⟩ H
    · have H := H.2 c3
      refine mx_iconst dX0_find_21 ic_0 ?_
      refine mx_goto (tgt := 28) dX0_find_22 rfl ?_
      refine my_iast dX0_find_28 rfl (ly0_A_1490 La0_h k2) ?_
      refine mx_nmI  (fun h6 eh6 Xh6 Kh6 Lh6 => ?_)
      have H := H h6 eh6 Xh6
      have La0_h6 := La0_h.ext Xh6
      refine mx_aload_n dX0_find_29 rfl rfl ?_
      refine mx_get 0 53 (ref := "PrairiePool") cl_0 (Nat.le_of_ble_eq_true rfl) (Or.inl q513) (Or.inl rfl) dX0_find_30 (fv_0_53 _ _) (ly0_k La0_h6) ?_
      refine mx_tr (ly0_R_0_53 La0_h6) ?_
      refine mx_iload_n dX0_find_33 rfl rfl ?_
      refine mx_iconst dX0_find_34 ic_m1 ?_
      refine my_iast dX0_find_35 rfl (ly0_A_1492 La0_h6 k2) ?_
      refine mx_nmI  (fun h7 eh7 Xh7 Kh7 Lh7 => ?_)
      have H := H h7 eh7 Xh7
      have Kh7 := Kh7.trans Kh6
      have Lh7 := Lh7.trans Lh6
      have La0_h7 := La0_h6.ext Xh7
      refine mx_iinc (al' := [some (rv a0), some (iv x1), some (iv x2), some (iv (x3 + (1 : Int32))), none, none]) dX0_find_36 rfl ic_1 rfl ?_
      refine mx_goto (tgt := 2) dX0_find_39 rfl ?_
      exact mx_weak (al' := [some (rv a0), some (iv x1), some (iv x2), some (iv (x3 + (1 : Int32))), none, none]) ⟨rfl, ⟨rfl, ⟨rfl, ⟨rfl, trivial⟩⟩⟩⟩ H
theorem v_X0_find_44 {G : ma_G} {d : Nat} {a0 : Nat} {x1 : Int32} {x2 : Int32} {x3 : Int32} {h : ah_T} {Q : Option ma_V → ah_T → Prop} {E : Nat → ah_T → Prop} (La0_h : LY0 h a0) (H : (x2 ≤ x3 → MX G mi_X0_find d 66 [some (rv a0), some (iv x1), some (iv x2), some (iv (1 : Int32)), none, none] [] h Q E) ∧ (¬ x2 ≤ x3 → vp_in x3 4 ∧ ∀ h3 : ah_T, h3 = ah_wI h (a0 + 1491) x3.toNatClampNeg (100000000 : Int32) → ah_ext h h3 → MX G mi_X0_find d 44 [some (rv a0), some (iv x1), some (iv x2), some (iv (x3 + (1 : Int32))), none, none] [] h3 Q E)) : MX G mi_X0_find d 44 [some (rv a0), some (iv x1), some (iv x2), some (iv x3), none, none] [] h Q E := by
  refine mx_iload_n dX0_find_44 rfl rfl ?_
  refine mx_iload_n dX0_find_45 rfl rfl ?_
  refine mx_icmp_ge (tgt := 64) dX0_find_46 rfl (fun c1 => ?_) (fun c1 => ?_)
  · have H := H.1 c1
    refine mx_iconst dX0_find_64 ic_1 ?_
    refine mx_istore_n (al' := [some (rv a0), some (iv x1), some (iv x2), some (iv (1 : Int32)), none, none]) dX0_find_65 rfl (Nat.le_of_ble_eq_true rfl) rfl ?_
    exact mx_weak (al' := [some (rv a0), some (iv x1), some (iv x2), some (iv (1 : Int32)), none, none]) ⟨rfl, ⟨rfl, ⟨rfl, ⟨rfl, trivial⟩⟩⟩⟩ H
  · have H := H.2 c1
    refine mx_aload_n dX0_find_49 rfl rfl ?_
    refine mx_get 0 52 (ref := "PrairiePool") cl_0 (Nat.le_of_ble_eq_true rfl) (Or.inl q512) (Or.inl rfl) dX0_find_50 (fv_0_52 _ _) (ly0_k La0_h) ?_
    refine mx_tr (ly0_R_0_52 La0_h) ?_
    refine mx_iload_n dX0_find_53 rfl rfl ?_
    refine mx_ldcw q1620 dX0_find_54 ?_
    obtain ⟨k2, H⟩ := H
    refine my_iast dX0_find_57 rfl (ly0_A_1491 La0_h k2) ?_
    refine mx_nmI  (fun h3 eh3 Xh3 Kh3 Lh3 => ?_)
    have H := H h3 eh3 Xh3
    have La0_h3 := La0_h.ext Xh3
    refine mx_iinc (al' := [some (rv a0), some (iv x1), some (iv x2), some (iv (x3 + (1 : Int32))), none, none]) dX0_find_58 rfl ic_1 rfl ?_
    refine mx_goto (tgt := 44) dX0_find_61 rfl ?_
    exact mx_weak (al' := [some (rv a0), some (iv x1), some (iv x2), some (iv (x3 + (1 : Int32))), none, none]) ⟨rfl, ⟨rfl, ⟨rfl, ⟨rfl, trivial⟩⟩⟩⟩ H
theorem v_X0_find_66 {G : ma_G} {d : Nat} {a0 : Nat} {x1 : Int32} {x2 : Int32} {x3 : Int32} {h : ah_T} {Q : Option ma_V → ah_T → Prop} {E : Nat → ah_T → Prop} (La0_h : LY0 h a0) (H : (x3 = 0 → Q none h) ∧ (¬ x3 = 0 → MX G mi_X0_find d 75 [some (rv a0), some (iv x1), some (iv x2), some (iv (0 : Int32)), some (iv (0 : Int32)), none] [] h Q E)) : MX G mi_X0_find d 66 [some (rv a0), some (iv x1), some (iv x2), some (iv x3), none, none] [] h Q E := by
  refine mx_iload_n dX0_find_66 rfl rfl ?_
  refine mx_if_eq (tgt := 272) dX0_find_67 rfl (fun c1 => ?_) (fun c1 => ?_)
  · have H := H.1 c1
    exact mx_vret rfl dX0_find_272 H
  · have H := H.2 c1
    refine mx_iconst dX0_find_70 ic_0 ?_
    refine mx_istore_n (al' := [some (rv a0), some (iv x1), some (iv x2), some (iv (0 : Int32)), none, none]) dX0_find_71 rfl (Nat.le_of_ble_eq_true rfl) rfl ?_
    refine mx_iconst dX0_find_72 ic_0 ?_
    refine mx_istore (al' := [some (rv a0), some (iv x1), some (iv x2), some (iv (0 : Int32)), some (iv (0 : Int32)), none]) dX0_find_73 (Nat.le_of_ble_eq_true rfl) rfl ?_
    exact mx_weak (al' := [some (rv a0), some (iv x1), some (iv x2), some (iv (0 : Int32)), some (iv (0 : Int32)), none]) ⟨rfl, ⟨rfl, ⟨rfl, ⟨rfl, ⟨rfl, trivial⟩⟩⟩⟩⟩ H
theorem v_X0_find_75 {G : ma_G} {d : Nat} {a0 : Nat} {x1 : Int32} {x2 : Int32} {x3 : Int32} {x4 : Int32} {h : ah_T} {Q : Option ma_V → ah_T → Prop} {E : Nat → ah_T → Prop} (La0_h : LY0 h a0) (H : (x1 ≤ x4 → MX G mi_X0_find d 66 [some (rv a0), some (iv x1), some (iv x2), some (iv x3), none, none] [] h Q E) ∧ (¬ x1 ≤ x4 → MX G mi_X0_find d 84 [some (rv a0), some (iv x1), some (iv x2), some (iv x3), some (iv x4), some (iv (0 : Int32))] [] h Q E)) : MX G mi_X0_find d 75 [some (rv a0), some (iv x1), some (iv x2), some (iv x3), some (iv x4), none] [] h Q E := by
  refine mx_iload dX0_find_75 rfl ?_
  refine mx_iload_n dX0_find_77 rfl rfl ?_
  refine mx_icmp_ge (tgt := 269) dX0_find_78 rfl (fun c1 => ?_) (fun c1 => ?_)
  · have H := H.1 c1
    refine mx_goto (tgt := 66) dX0_find_269 rfl ?_
    exact mx_weak (al' := [some (rv a0), some (iv x1), some (iv x2), some (iv x3), none, none]) ⟨rfl, ⟨rfl, ⟨rfl, ⟨rfl, trivial⟩⟩⟩⟩ H
  · have H := H.2 c1
    refine mx_iconst dX0_find_81 ic_0 ?_
    refine mx_istore (al' := [some (rv a0), some (iv x1), some (iv x2), some (iv x3), some (iv x4), some (iv (0 : Int32))]) dX0_find_82 (Nat.le_of_ble_eq_true rfl) rfl ?_
    exact mx_weak (al' := [some (rv a0), some (iv x1), some (iv x2), some (iv x3), some (iv x4), some (iv (0 : Int32))]) ⟨rfl, ⟨rfl, ⟨rfl, ⟨rfl, ⟨rfl, ⟨rfl, trivial⟩⟩⟩⟩⟩⟩ H
theorem v_X0_find_84 {G : ma_G} {d : Nat} {a0 : Nat} {x1 : Int32} {x2 : Int32} {x3 : Int32} {x4 : Int32} {x5 : Int32} {h : ah_T} {Q : Option ma_V → ah_T → Prop} {E : Nat → ah_T → Prop} (La0_h : LY0 h a0) (H : (x2 ≤ x5 → MX G mi_X0_find d 75 [some (rv a0), some (iv x1), some (iv x2), some (iv x3), some (iv (x4 + (1 : Int32))), none] [] h Q E) ∧ (¬ x2 ≤ x5 → vp_in x4 5 ∧ ((100000000 : Int32) ≤ (ah_I h (a0 + 1490) x4.toNatClampNeg) → MX G mi_X0_find d 167 [some (rv a0), some (iv x1), some (iv x2), some (iv x3), some (iv x4), some (iv x5)] [] h Q E) ∧ (¬ (100000000 : Int32) ≤ (ah_I h (a0 + 1490) x4.toNatClampNeg) → vp_in x5 4 ∧ ((ah_I h (a0 + 1491) x5.toNatClampNeg) ≤ ((ah_I h (a0 + 1490) x4.toNatClampNeg) + (ah_I h (a0 + (1477 + x4.toNatClampNeg)) x5.toNatClampNeg)) → MX G mi_X0_find d 167 [some (rv a0), some (iv x1), some (iv x2), some (iv x3), some (iv x4), some (iv x5)] [] h Q E) ∧ (¬ (ah_I h (a0 + 1491) x5.toNatClampNeg) ≤ ((ah_I h (a0 + 1490) x4.toNatClampNeg) + (ah_I h (a0 + (1477 + x4.toNatClampNeg)) x5.toNatClampNeg)) → ∀ h6 : ah_T, h6 = ah_wI h (a0 + 1491) x5.toNatClampNeg ((ah_I h (a0 + 1490) x4.toNatClampNeg) + (ah_I h (a0 + (1477 + x4.toNatClampNeg)) x5.toNatClampNeg)) → ah_ext h h6 → ∀ h7 : ah_T, h7 = ah_wI h6 (a0 + 1493) x5.toNatClampNeg x4 → ah_ext h6 h7 → MX G mi_X0_find d 167 [some (rv a0), some (iv x1), some (iv x2), some (iv (1 : Int32)), some (iv x4), some (iv x5)] [] h7 Q E)))) : MX G mi_X0_find d 84 [some (rv a0), some (iv x1), some (iv x2), some (iv x3), some (iv x4), some (iv x5)] [] h Q E := by
  refine mx_iload dX0_find_84 rfl ?_
  refine mx_iload_n dX0_find_86 rfl rfl ?_
  refine mx_icmp_ge (tgt := 263) dX0_find_87 rfl (fun c1 => ?_) (fun c1 => ?_)
  · have H := H.1 c1
    refine mx_iinc (al' := [some (rv a0), some (iv x1), some (iv x2), some (iv x3), some (iv (x4 + (1 : Int32))), some (iv x5)]) dX0_find_263 rfl ic_1 rfl ?_
    refine mx_goto (tgt := 75) dX0_find_266 rfl ?_
    exact mx_weak (al' := [some (rv a0), some (iv x1), some (iv x2), some (iv x3), some (iv (x4 + (1 : Int32))), none]) ⟨rfl, ⟨rfl, ⟨rfl, ⟨rfl, ⟨rfl, trivial⟩⟩⟩⟩⟩ H
  · have H := H.2 c1
    refine mx_aload_n dX0_find_90 rfl rfl ?_
    refine mx_get 0 51 (ref := "PrairiePool") cl_0 (Nat.le_of_ble_eq_true rfl) (Or.inl q511) (Or.inl rfl) dX0_find_91 (fv_0_51 _ _) (ly0_k La0_h) ?_
    refine mx_tr (ly0_R_0_51 La0_h) ?_
    refine mx_iload dX0_find_94 rfl ?_
    obtain ⟨k2, H⟩ := H
    refine my_iald dX0_find_96 rfl (ly0_A_1490 La0_h k2) ?_
    refine mx_ldcw q1620 dX0_find_97 ?_
    refine mx_icmp_ge (tgt := 167) dX0_find_100 rfl (fun c3 => ?_) (fun c3 => ?_)
    · have H := H.1 c3
      exact mx_weak (al' := [some (rv a0), some (iv x1), some (iv x2), some (iv x3), some (iv x4), some (iv x5)]) ⟨rfl, ⟨rfl, ⟨rfl, ⟨rfl, ⟨rfl, ⟨rfl, trivial⟩⟩⟩⟩⟩⟩ H
    · have H := H.2 c3
      refine mx_aload_n dX0_find_103 rfl rfl ?_
      refine mx_get 0 51 (ref := "PrairiePool") cl_0 (Nat.le_of_ble_eq_true rfl) (Or.inl q511) (Or.inl rfl) dX0_find_104 (fv_0_51 _ _) (ly0_k La0_h) ?_
      refine mx_tr (ly0_R_0_51 La0_h) ?_
      refine mx_iload dX0_find_107 rfl ?_
      refine my_iald dX0_find_109 rfl (ly0_A_1490 La0_h k2) ?_
      refine mx_aload_n dX0_find_110 rfl rfl ?_
      refine mx_get 0 47 (ref := "PrairiePool") cl_0 (Nat.le_of_ble_eq_true rfl) (Or.inl q507) (Or.inl rfl) dX0_find_111 (fv_0_47 _ _) (ly0_k La0_h) ?_
      refine mx_tr (ly0_R_0_47 La0_h) ?_
      refine mx_iload dX0_find_114 rfl ?_
      refine my_aald 14 dX0_find_116 (by decide) rfl (ly0_A_1476 La0_h k2) ?_
      refine mx_tr (ly0_G1_1476 La0_h (vp_lt k2)) ?_
      refine mx_iload dX0_find_117 rfl ?_
      obtain ⟨k4, H⟩ := H
      refine my_iald dX0_find_119 rfl ⟨(ly0_K1_1476 La0_h (vp_lt k2)), by rw [ly0_N1_1476 La0_h (vp_lt k2)]; exact k4⟩ ?_
      refine mx_iadd dX0_find_120 ?_
      refine mx_aload_n dX0_find_121 rfl rfl ?_
      refine mx_get 0 52 (ref := "PrairiePool") cl_0 (Nat.le_of_ble_eq_true rfl) (Or.inl q512) (Or.inl rfl) dX0_find_122 (fv_0_52 _ _) (ly0_k La0_h) ?_
      refine mx_tr (ly0_R_0_52 La0_h) ?_
      refine mx_iload dX0_find_125 rfl ?_
      refine my_iald dX0_find_127 rfl (ly0_A_1491 La0_h k4) ?_
      refine mx_icmp_ge (tgt := 167) dX0_find_128 rfl (fun c5 => ?_) (fun c5 => ?_)
      · have H := H.1 c5
        exact mx_weak (al' := [some (rv a0), some (iv x1), some (iv x2), some (iv x3), some (iv x4), some (iv x5)]) ⟨rfl, ⟨rfl, ⟨rfl, ⟨rfl, ⟨rfl, ⟨rfl, trivial⟩⟩⟩⟩⟩⟩ H
      · have H := H.2 c5
        refine mx_aload_n dX0_find_131 rfl rfl ?_
        refine mx_get 0 52 (ref := "PrairiePool") cl_0 (Nat.le_of_ble_eq_true rfl) (Or.inl q512) (Or.inl rfl) dX0_find_132 (fv_0_52 _ _) (ly0_k La0_h) ?_
        refine mx_tr (ly0_R_0_52 La0_h) ?_
        refine mx_iload dX0_find_135 rfl ?_
        refine mx_aload_n dX0_find_137 rfl rfl ?_
        refine mx_get 0 51 (ref := "PrairiePool") cl_0 (Nat.le_of_ble_eq_true rfl) (Or.inl q511) (Or.inl rfl) dX0_find_138 (fv_0_51 _ _) (ly0_k La0_h) ?_
        refine mx_tr (ly0_R_0_51 La0_h) ?_
        refine mx_iload dX0_find_141 rfl ?_
        refine my_iald dX0_find_143 rfl (ly0_A_1490 La0_h k2) ?_
        refine mx_aload_n dX0_find_144 rfl rfl ?_
        refine mx_get 0 47 (ref := "PrairiePool") cl_0 (Nat.le_of_ble_eq_true rfl) (Or.inl q507) (Or.inl rfl) dX0_find_145 (fv_0_47 _ _) (ly0_k La0_h) ?_
        refine mx_tr (ly0_R_0_47 La0_h) ?_
        refine mx_iload dX0_find_148 rfl ?_
        refine my_aald 14 dX0_find_150 (by decide) rfl (ly0_A_1476 La0_h k2) ?_
        refine mx_tr (ly0_G1_1476 La0_h (vp_lt k2)) ?_
        refine mx_iload dX0_find_151 rfl ?_
        refine my_iald dX0_find_153 rfl ⟨(ly0_K1_1476 La0_h (vp_lt k2)), by rw [ly0_N1_1476 La0_h (vp_lt k2)]; exact k4⟩ ?_
        refine mx_iadd dX0_find_154 ?_
        refine my_iast dX0_find_155 rfl (ly0_A_1491 La0_h k4) ?_
        refine mx_nmI  (fun h6 eh6 Xh6 Kh6 Lh6 => ?_)
        have H := H h6 eh6 Xh6
        have La0_h6 := La0_h.ext Xh6
        refine mx_aload_n dX0_find_156 rfl rfl ?_
        refine mx_get 0 54 (ref := "PrairiePool") cl_0 (Nat.le_of_ble_eq_true rfl) (Or.inl q514) (Or.inl rfl) dX0_find_157 (fv_0_54 _ _) (ly0_k La0_h6) ?_
        refine mx_tr (ly0_R_0_54 La0_h6) ?_
        refine mx_iload dX0_find_160 rfl ?_
        refine mx_iload dX0_find_162 rfl ?_
        refine my_iast dX0_find_164 rfl (ly0_A_1493 La0_h6 k4) ?_
        refine mx_nmI  (fun h7 eh7 Xh7 Kh7 Lh7 => ?_)
        have H := H h7 eh7 Xh7
        have Kh7 := Kh7.trans Kh6
        have Lh7 := Lh7.trans Lh6
        have La0_h7 := La0_h6.ext Xh7
        refine mx_iconst dX0_find_165 ic_1 ?_
        refine mx_istore_n (al' := [some (rv a0), some (iv x1), some (iv x2), some (iv (1 : Int32)), some (iv x4), some (iv x5)]) dX0_find_166 rfl (Nat.le_of_ble_eq_true rfl) rfl ?_
        exact mx_weak (al' := [some (rv a0), some (iv x1), some (iv x2), some (iv (1 : Int32)), some (iv x4), some (iv x5)]) ⟨rfl, ⟨rfl, ⟨rfl, ⟨rfl, ⟨rfl, ⟨rfl, trivial⟩⟩⟩⟩⟩⟩ H
theorem v_X0_find_167 {G : ma_G} {d : Nat} {a0 : Nat} {x1 : Int32} {x2 : Int32} {x3 : Int32} {x4 : Int32} {x5 : Int32} {h : ah_T} {Q : Option ma_V → ah_T → Prop} {E : Nat → ah_T → Prop} (La0_h : LY0 h a0) (H : vp_in x4 5 ∧ vp_in x5 4 ∧ ((ah_I h (a0 + (1483 + x4.toNatClampNeg)) x5.toNatClampNeg) ≤ 0 → MX G mi_X0_find d 84 [some (rv a0), some (iv x1), some (iv x2), some (iv x3), some (iv x4), some (iv (x5 + (1 : Int32)))] [] h Q E) ∧ (¬ (ah_I h (a0 + (1483 + x4.toNatClampNeg)) x5.toNatClampNeg) ≤ 0 → ((100000000 : Int32) ≤ (ah_I h (a0 + 1491) x5.toNatClampNeg) → MX G mi_X0_find d 84 [some (rv a0), some (iv x1), some (iv x2), some (iv x3), some (iv x4), some (iv (x5 + (1 : Int32)))] [] h Q E) ∧ (¬ (100000000 : Int32) ≤ (ah_I h (a0 + 1491) x5.toNatClampNeg) → ((ah_I h (a0 + 1490) x4.toNatClampNeg) ≤ ((ah_I h (a0 + 1491) x5.toNatClampNeg) - (ah_I h (a0 + (1477 + x4.toNatClampNeg)) x5.toNatClampNeg)) → MX G mi_X0_find d 84 [some (rv a0), some (iv x1), some (iv x2), some (iv x3), some (iv x4), some (iv (x5 + (1 : Int32)))] [] h Q E) ∧ (¬ (ah_I h (a0 + 1490) x4.toNatClampNeg) ≤ ((ah_I h (a0 + 1491) x5.toNatClampNeg) - (ah_I h (a0 + (1477 + x4.toNatClampNeg)) x5.toNatClampNeg)) → ∀ h6 : ah_T, h6 = ah_wI h (a0 + 1490) x4.toNatClampNeg ((ah_I h (a0 + 1491) x5.toNatClampNeg) - (ah_I h (a0 + (1477 + x4.toNatClampNeg)) x5.toNatClampNeg)) → ah_ext h h6 → ∀ h7 : ah_T, h7 = ah_wI h6 (a0 + 1492) x4.toNatClampNeg x5 → ah_ext h6 h7 → MX G mi_X0_find d 84 [some (rv a0), some (iv x1), some (iv x2), some (iv (1 : Int32)), some (iv x4), some (iv (x5 + (1 : Int32)))] [] h7 Q E)))) : MX G mi_X0_find d 167 [some (rv a0), some (iv x1), some (iv x2), some (iv x3), some (iv x4), some (iv x5)] [] h Q E := by
  refine mx_aload_n dX0_find_167 rfl rfl ?_
  refine mx_get 0 48 (ref := "PrairiePool") cl_0 (Nat.le_of_ble_eq_true rfl) (Or.inl q508) (Or.inl rfl) dX0_find_168 (fv_0_48 _ _) (ly0_k La0_h) ?_
  refine mx_tr (ly0_R_0_48 La0_h) ?_
  refine mx_iload dX0_find_171 rfl ?_
  obtain ⟨k1, H⟩ := H
  refine my_aald 14 dX0_find_173 (by decide) rfl (ly0_A_1482 La0_h k1) ?_
  refine mx_tr (ly0_G1_1482 La0_h (vp_lt k1)) ?_
  refine mx_iload dX0_find_174 rfl ?_
  obtain ⟨k2, H⟩ := H
  refine my_iald dX0_find_176 rfl ⟨(ly0_K1_1482 La0_h (vp_lt k1)), by rw [ly0_N1_1482 La0_h (vp_lt k1)]; exact k2⟩ ?_
  refine mx_if_le (tgt := 257) dX0_find_177 rfl (fun c3 => ?_) (fun c3 => ?_)
  · have H := H.1 c3
    refine mx_iinc (al' := [some (rv a0), some (iv x1), some (iv x2), some (iv x3), some (iv x4), some (iv (x5 + (1 : Int32)))]) dX0_find_257 rfl ic_1 rfl ?_
    refine mx_goto (tgt := 84) dX0_find_260 rfl ?_
    exact mx_weak (al' := [some (rv a0), some (iv x1), some (iv x2), some (iv x3), some (iv x4), some (iv (x5 + (1 : Int32)))]) ⟨rfl, ⟨rfl, ⟨rfl, ⟨rfl, ⟨rfl, ⟨rfl, trivial⟩⟩⟩⟩⟩⟩ H
  · have H := H.2 c3
    refine mx_aload_n dX0_find_180 rfl rfl ?_
    refine mx_get 0 52 (ref := "PrairiePool") cl_0 (Nat.le_of_ble_eq_true rfl) (Or.inl q512) (Or.inl rfl) dX0_find_181 (fv_0_52 _ _) (ly0_k La0_h) ?_
    refine mx_tr (ly0_R_0_52 La0_h) ?_
    refine mx_iload dX0_find_184 rfl ?_
    refine my_iald dX0_find_186 rfl (ly0_A_1491 La0_h k2) ?_
    refine mx_ldcw q1620 dX0_find_187 ?_
    refine mx_icmp_ge (tgt := 257) dX0_find_190 rfl (fun c4 => ?_) (fun c4 => ?_)
    · have H := H.1 c4
      refine mx_iinc (al' := [some (rv a0), some (iv x1), some (iv x2), some (iv x3), some (iv x4), some (iv (x5 + (1 : Int32)))]) dX0_find_257 rfl ic_1 rfl ?_
      refine mx_goto (tgt := 84) dX0_find_260 rfl ?_
      exact mx_weak (al' := [some (rv a0), some (iv x1), some (iv x2), some (iv x3), some (iv x4), some (iv (x5 + (1 : Int32)))]) ⟨rfl, ⟨rfl, ⟨rfl, ⟨rfl, ⟨rfl, ⟨rfl, trivial⟩⟩⟩⟩⟩⟩ H
    · have H := H.2 c4
      refine mx_aload_n dX0_find_193 rfl rfl ?_
      refine mx_get 0 52 (ref := "PrairiePool") cl_0 (Nat.le_of_ble_eq_true rfl) (Or.inl q512) (Or.inl rfl) dX0_find_194 (fv_0_52 _ _) (ly0_k La0_h) ?_
      refine mx_tr (ly0_R_0_52 La0_h) ?_
      refine mx_iload dX0_find_197 rfl ?_
      refine my_iald dX0_find_199 rfl (ly0_A_1491 La0_h k2) ?_
      refine mx_aload_n dX0_find_200 rfl rfl ?_
      refine mx_get 0 47 (ref := "PrairiePool") cl_0 (Nat.le_of_ble_eq_true rfl) (Or.inl q507) (Or.inl rfl) dX0_find_201 (fv_0_47 _ _) (ly0_k La0_h) ?_
      refine mx_tr (ly0_R_0_47 La0_h) ?_
      refine mx_iload dX0_find_204 rfl ?_
      refine my_aald 14 dX0_find_206 (by decide) rfl (ly0_A_1476 La0_h k1) ?_
      refine mx_tr (ly0_G1_1476 La0_h (vp_lt k1)) ?_
      refine mx_iload dX0_find_207 rfl ?_
      refine my_iald dX0_find_209 rfl ⟨(ly0_K1_1476 La0_h (vp_lt k1)), by rw [ly0_N1_1476 La0_h (vp_lt k1)]; exact k2⟩ ?_
      refine mx_isub dX0_find_210 ?_
      refine mx_aload_n dX0_find_211 rfl rfl ?_
      refine mx_get 0 51 (ref := "PrairiePool") cl_0 (Nat.le_of_ble_eq_true rfl) (Or.inl q511) (Or.inl rfl) dX0_find_212 (fv_0_51 _ _) (ly0_k La0_h) ?_
      refine mx_tr (ly0_R_0_51 La0_h) ?_
      refine mx_iload dX0_find_215 rfl ?_
      refine my_iald dX0_find_217 rfl (ly0_A_1490 La0_h k1) ?_
      refine mx_icmp_ge (tgt := 257) dX0_find_218 rfl (fun c5 => ?_) (fun c5 => ?_)
      · have H := H.1 c5
        refine mx_iinc (al' := [some (rv a0), some (iv x1), some (iv x2), some (iv x3), some (iv x4), some (iv (x5 + (1 : Int32)))]) dX0_find_257 rfl ic_1 rfl ?_
        refine mx_goto (tgt := 84) dX0_find_260 rfl ?_
        exact mx_weak (al' := [some (rv a0), some (iv x1), some (iv x2), some (iv x3), some (iv x4), some (iv (x5 + (1 : Int32)))]) ⟨rfl, ⟨rfl, ⟨rfl, ⟨rfl, ⟨rfl, ⟨rfl, trivial⟩⟩⟩⟩⟩⟩ H
      · have H := H.2 c5
        refine mx_aload_n dX0_find_221 rfl rfl ?_
        refine mx_get 0 51 (ref := "PrairiePool") cl_0 (Nat.le_of_ble_eq_true rfl) (Or.inl q511) (Or.inl rfl) dX0_find_222 (fv_0_51 _ _) (ly0_k La0_h) ?_
        refine mx_tr (ly0_R_0_51 La0_h) ?_
        refine mx_iload dX0_find_225 rfl ?_
        refine mx_aload_n dX0_find_227 rfl rfl ?_
        refine mx_get 0 52 (ref := "PrairiePool") cl_0 (Nat.le_of_ble_eq_true rfl) (Or.inl q512) (Or.inl rfl) dX0_find_228 (fv_0_52 _ _) (ly0_k La0_h) ?_
        refine mx_tr (ly0_R_0_52 La0_h) ?_
        refine mx_iload dX0_find_231 rfl ?_
        refine my_iald dX0_find_233 rfl (ly0_A_1491 La0_h k2) ?_
        refine mx_aload_n dX0_find_234 rfl rfl ?_
        refine mx_get 0 47 (ref := "PrairiePool") cl_0 (Nat.le_of_ble_eq_true rfl) (Or.inl q507) (Or.inl rfl) dX0_find_235 (fv_0_47 _ _) (ly0_k La0_h) ?_
        refine mx_tr (ly0_R_0_47 La0_h) ?_
        refine mx_iload dX0_find_238 rfl ?_
        refine my_aald 14 dX0_find_240 (by decide) rfl (ly0_A_1476 La0_h k1) ?_
        refine mx_tr (ly0_G1_1476 La0_h (vp_lt k1)) ?_
        refine mx_iload dX0_find_241 rfl ?_
        refine my_iald dX0_find_243 rfl ⟨(ly0_K1_1476 La0_h (vp_lt k1)), by rw [ly0_N1_1476 La0_h (vp_lt k1)]; exact k2⟩ ?_
        refine mx_isub dX0_find_244 ?_
        refine my_iast dX0_find_245 rfl (ly0_A_1490 La0_h k1) ?_
        refine mx_nmI  (fun h6 eh6 Xh6 Kh6 Lh6 => ?_)
        have H := H h6 eh6 Xh6
        have La0_h6 := La0_h.ext Xh6
        refine mx_aload_n dX0_find_246 rfl rfl ?_
        refine mx_get 0 53 (ref := "PrairiePool") cl_0 (Nat.le_of_ble_eq_true rfl) (Or.inl q513) (Or.inl rfl) dX0_find_247 (fv_0_53 _ _) (ly0_k La0_h6) ?_
        refine mx_tr (ly0_R_0_53 La0_h6) ?_
        refine mx_iload dX0_find_250 rfl ?_
        refine mx_iload dX0_find_252 rfl ?_
        refine my_iast dX0_find_254 rfl (ly0_A_1492 La0_h6 k1) ?_
        refine mx_nmI  (fun h7 eh7 Xh7 Kh7 Lh7 => ?_)
        have H := H h7 eh7 Xh7
        have Kh7 := Kh7.trans Kh6
        have Lh7 := Lh7.trans Lh6
        have La0_h7 := La0_h6.ext Xh7
        refine mx_iconst dX0_find_255 ic_1 ?_
        refine mx_istore_n (al' := [some (rv a0), some (iv x1), some (iv x2), some (iv (1 : Int32)), some (iv x4), some (iv x5)]) dX0_find_256 rfl (Nat.le_of_ble_eq_true rfl) rfl ?_
        refine mx_iinc (al' := [some (rv a0), some (iv x1), some (iv x2), some (iv (1 : Int32)), some (iv x4), some (iv (x5 + (1 : Int32)))]) dX0_find_257 rfl ic_1 rfl ?_
        refine mx_goto (tgt := 84) dX0_find_260 rfl ?_
        exact mx_weak (al' := [some (rv a0), some (iv x1), some (iv x2), some (iv (1 : Int32)), some (iv x4), some (iv (x5 + (1 : Int32)))]) ⟨rfl, ⟨rfl, ⟨rfl, ⟨rfl, ⟨rfl, ⟨rfl, trivial⟩⟩⟩⟩⟩⟩ H

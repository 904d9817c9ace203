/-! walks -/
set_option maxRecDepth 100000
theorem dX0_tray_0 : decode mi_X0_tray.2.1 0 = .ok (.iload_n 1, 1) := by decide +kernel
theorem dX0_tray_1 : decode mi_X0_tray.2.1 1 = .ok (.invokestatic 184, 3) := by decide +kernel
theorem dX0_tray_4 : decode mi_X0_tray.2.1 4 = .ok (.ifCond .eq 12, 3) := by decide +kernel
theorem dX0_tray_7 : decode mi_X0_tray.2.1 7 = .ok (.iload_n 2, 1) := by decide +kernel
theorem dX0_tray_8 : decode mi_X0_tray.2.1 8 = .ok (.ifCond .lt 8, 3) := by decide +kernel
theorem dX0_tray_11 : decode mi_X0_tray.2.1 11 = .ok (.iload_n 2, 1) := by decide +kernel
theorem dX0_tray_12 : decode mi_X0_tray.2.1 12 = .ok (.iconst 3, 1) := by decide +kernel
theorem dX0_tray_13 : decode mi_X0_tray.2.1 13 = .ok (.if_icmp .le 9, 3) := by decide +kernel
theorem dX0_tray_16 : decode mi_X0_tray.2.1 16 = .ok (.aload_n 0, 1) := by decide +kernel
theorem dX0_tray_17 : decode mi_X0_tray.2.1 17 = .ok (.iconst 1, 1) := by decide +kernel
theorem dX0_tray_18 : decode mi_X0_tray.2.1 18 = .ok (.invokevirtual 188, 3) := by decide +kernel
theorem dX0_tray_21 : decode mi_X0_tray.2.1 21 = .ok (.ireturn, 1) := by decide +kernel
theorem dX0_tray_22 : decode mi_X0_tray.2.1 22 = .ok (.iload_n 3, 1) := by decide +kernel
theorem dX0_tray_23 : decode mi_X0_tray.2.1 23 = .ok (.bipush 40, 2) := by decide +kernel
theorem dX0_tray_25 : decode mi_X0_tray.2.1 25 = .ok (.if_icmp .le 9, 3) := by decide +kernel
theorem dX0_tray_28 : decode mi_X0_tray.2.1 28 = .ok (.aload_n 0, 1) := by decide +kernel
theorem dX0_tray_29 : decode mi_X0_tray.2.1 29 = .ok (.iconst 5, 1) := by decide +kernel
theorem dX0_tray_30 : decode mi_X0_tray.2.1 30 = .ok (.invokevirtual 188, 3) := by decide +kernel
theorem dX0_tray_33 : decode mi_X0_tray.2.1 33 = .ok (.ireturn, 1) := by decide +kernel
theorem dX0_tray_34 : decode mi_X0_tray.2.1 34 = .ok (.aload_n 0, 1) := by decide +kernel
theorem dX0_tray_35 : decode mi_X0_tray.2.1 35 = .ok (.getfield 11, 3) := by decide +kernel
theorem dX0_tray_38 : decode mi_X0_tray.2.1 38 = .ok (.iload_n 1, 1) := by decide +kernel
theorem dX0_tray_39 : decode mi_X0_tray.2.1 39 = .ok (.aaload, 1) := by decide +kernel
theorem dX0_tray_40 : decode mi_X0_tray.2.1 40 = .ok (.iload_n 2, 1) := by decide +kernel
theorem dX0_tray_41 : decode mi_X0_tray.2.1 41 = .ok (.iload_n 3, 1) := by decide +kernel
theorem dX0_tray_42 : decode mi_X0_tray.2.1 42 = .ok (.invokevirtual 191, 3) := by decide +kernel
theorem dX0_tray_45 : decode mi_X0_tray.2.1 45 = .ok (.goto 12, 3) := by decide +kernel
theorem dX0_tray_48 : decode mi_X0_tray.2.1 48 = .ok (.astore 4, 2) := by decide +kernel
theorem dX0_tray_50 : decode mi_X0_tray.2.1 50 = .ok (.aload_n 0, 1) := by decide +kernel
theorem dX0_tray_51 : decode mi_X0_tray.2.1 51 = .ok (.bipush 6, 2) := by decide +kernel
theorem dX0_tray_53 : decode mi_X0_tray.2.1 53 = .ok (.invokevirtual 188, 3) := by decide +kernel
theorem dX0_tray_56 : decode mi_X0_tray.2.1 56 = .ok (.ireturn, 1) := by decide +kernel
theorem dX0_tray_57 : decode mi_X0_tray.2.1 57 = .ok (.aload_n 0, 1) := by decide +kernel
theorem dX0_tray_58 : decode mi_X0_tray.2.1 58 = .ok (.iconst 0, 1) := by decide +kernel
theorem dX0_tray_59 : decode mi_X0_tray.2.1 59 = .ok (.invokevirtual 188, 3) := by decide +kernel
theorem dX0_tray_62 : decode mi_X0_tray.2.1 62 = .ok (.ireturn, 1) := by decide +kernel
theorem v_X0_tray {G : ma_G} {d : Nat} {a0 : Nat} {x1 : Int32} {x2 : Int32} {x3 : Int32} {h : ah_T} {Q : Option ma_V → ah_T → Prop} {E : Nat → ah_T → Prop} (La0_h : LY0 h a0) (H : (x1 < 0 → ∀ h2 : ah_T, h2 = ah_wI h a0 20 (1 : Int32) → ah_ext h h2 → Q (some (iv (0 : Int32))) h2) ∧ (¬ x1 < 0 → ((4 : Int32) ≤ x1 → ∀ h4 : ah_T, h4 = ah_wI h a0 20 (1 : Int32) → ah_ext h h4 → Q (some (iv (0 : Int32))) h4) ∧ (¬ (4 : Int32) ≤ x1 → (x2 < 0 → ∀ h6 : ah_T, h6 = ah_wI h a0 20 (1 : Int32) → ah_ext h h6 → Q (some (iv (0 : Int32))) h6) ∧ (¬ x2 < 0 → (x2 ≤ (3 : Int32) → (x3 ≤ (40 : Int32) → vp_in x1 4 ∧ MX G mi_X7_make (d + 40) 0 [some (rv (a0 + (1494 + x1.toNatClampNeg))), some (iv x2), some (iv x3), none] [] h (Qv fun h10 => ah_ext h h10 → ∀ h12 : ah_T, h12 = ah_wI h10 a0 20 (0 : Int32) → ah_ext h10 h12 → Q (some (iv (1 : Int32))) h12) (fun x h' => ah_ext h h' → ah_kd h' x = 32 ∧ MX G mi_X0_tray (d + 41) 48 [some (rv a0), none, none, none, none] [rv x] h' Q E)) ∧ (¬ x3 ≤ (40 : Int32) → ∀ h13 : ah_T, h13 = ah_wI h a0 20 (5 : Int32) → ah_ext h h13 → Q (some (iv (0 : Int32))) h13)) ∧ (¬ x2 ≤ (3 : Int32) → ∀ h14 : ah_T, h14 = ah_wI h a0 20 (1 : Int32) → ah_ext h h14 → Q (some (iv (0 : Int32))) h14))))) : MX G mi_X0_tray (d + 41) 0 [some (rv a0), some (iv x1), some (iv x2), some (iv x3), none] [] h Q E := by
  refine mx_iload_n dX0_tray_0 rfl rfl ?_
  refine mx_callS (y' := mi_X0_isTray) (vs := [iv x1]) (st := []) (al' := [some (iv x1)]) S_X0_isTray q661 dX0_tray_1 rfl rfl (Nat.le_of_ble_eq_true rfl) (Nat.le_of_ble_eq_true rfl) ?_
  refine mx_iload_n dX0_isTray_0 rfl rfl ?_
  refine mx_if_lt (tgt := 13) dX0_isTray_1 rfl (fun c1 => ?_) (fun c1 => ?_)
  · have H := H.1 c1
    refine mx_iconst dX0_isTray_13 ic_0 ?_
    refine mx_zretK rfl dX0_isTray_14 (Or.inl rfl) ?_
    refine mx_if_eq (tgt := 16) dX0_tray_4 rfl (fun _ => ?_) (fun _ => absurd ‹_› (by decide))
    refine mx_aload_n dX0_tray_16 rfl rfl ?_
    refine mx_iconst dX0_tray_17 ic_1 ?_
    refine mx_callV 0 (y' := mi_X0_is) (vs := [iv (1 : Int32)]) (st := []) (al' := [some (rv a0), some (iv (1 : Int32))]) cl_0 V_X0_is (Or.inl q664) dX0_tray_18 rfl rfl (Nat.le_of_ble_eq_true rfl) (Nat.le_of_ble_eq_true rfl) (ly0_k La0_h) ?_
    refine mx_aload_n dX0_is_0 rfl rfl ?_
    refine mx_iload_n dX0_is_1 rfl rfl ?_
    refine mx_putI 0 20 (ref := "PrairiePool") cl_0 (Nat.le_of_ble_eq_true rfl) (Or.inl q480) (Or.inl rfl) dX0_is_2 (Or.inl rfl) rfl (ly0_k La0_h) ?_
    refine mx_nmI  (fun h2 eh2 Xh2 Kh2 Lh2 => ?_)
    have H := H h2 eh2 Xh2
    have La0_h2 := La0_h.ext Xh2
    refine mx_iload_n dX0_is_5 rfl rfl ?_
    refine mx_if_ne (tgt := 13) dX0_is_6 rfl (fun _ => ?_) (fun _ => absurd ‹_› (by decide))
    refine mx_iconst dX0_is_13 ic_0 ?_
    refine mx_zretK rfl dX0_is_14 (Or.inl rfl) ?_
    exact mx_zret rfl dX0_tray_21 (Or.inl rfl) H
  · have H := H.2 c1
    refine mx_iload_n dX0_isTray_4 rfl rfl ?_
    refine mx_iconst dX0_isTray_5 ic_4 ?_
    refine mx_icmp_ge (tgt := 13) dX0_isTray_6 rfl (fun c3 => ?_) (fun c3 => ?_)
    · have H := H.1 c3
      refine mx_iconst dX0_isTray_13 ic_0 ?_
      refine mx_zretK rfl dX0_isTray_14 (Or.inl rfl) ?_
      refine mx_if_eq (tgt := 16) dX0_tray_4 rfl (fun _ => ?_) (fun _ => absurd ‹_› (by decide))
      refine mx_aload_n dX0_tray_16 rfl rfl ?_
      refine mx_iconst dX0_tray_17 ic_1 ?_
      refine mx_callV 0 (y' := mi_X0_is) (vs := [iv (1 : Int32)]) (st := []) (al' := [some (rv a0), some (iv (1 : Int32))]) cl_0 V_X0_is (Or.inl q664) dX0_tray_18 rfl rfl (Nat.le_of_ble_eq_true rfl) (Nat.le_of_ble_eq_true rfl) (ly0_k La0_h) ?_
      refine mx_aload_n dX0_is_0 rfl rfl ?_
      refine mx_iload_n dX0_is_1 rfl rfl ?_
      refine mx_putI 0 20 (ref := "PrairiePool") cl_0 (Nat.le_of_ble_eq_true rfl) (Or.inl q480) (Or.inl rfl) dX0_is_2 (Or.inl rfl) rfl (ly0_k La0_h) ?_
      refine mx_nmI  (fun h4 eh4 Xh4 Kh4 Lh4 => ?_)
      have H := H h4 eh4 Xh4
      have La0_h4 := La0_h.ext Xh4
      refine mx_iload_n dX0_is_5 rfl rfl ?_
      refine mx_if_ne (tgt := 13) dX0_is_6 rfl (fun _ => ?_) (fun _ => absurd ‹_› (by decide))
      refine mx_iconst dX0_is_13 ic_0 ?_
      refine mx_zretK rfl dX0_is_14 (Or.inl rfl) ?_
      exact mx_zret rfl dX0_tray_21 (Or.inl rfl) H
    · have H := H.2 c3
      refine mx_iconst dX0_isTray_9 ic_1 ?_
      refine mx_goto (tgt := 14) dX0_isTray_10 rfl ?_
      refine mx_zretK rfl dX0_isTray_14 (Or.inr rfl) ?_
      refine mx_if_eq (tgt := 16) dX0_tray_4 rfl (fun _ => absurd ‹_› (by decide)) (fun _ => ?_)
      refine mx_iload_n dX0_tray_7 rfl rfl ?_
      refine mx_if_lt (tgt := 16) dX0_tray_8 rfl (fun c5 => ?_) (fun c5 => ?_)
      · have H := H.1 c5
        refine mx_aload_n dX0_tray_16 rfl rfl ?_
        refine mx_iconst dX0_tray_17 ic_1 ?_
        refine mx_callV 0 (y' := mi_X0_is) (vs := [iv (1 : Int32)]) (st := []) (al' := [some (rv a0), some (iv (1 : Int32))]) cl_0 V_X0_is (Or.inl q664) dX0_tray_18 rfl rfl (Nat.le_of_ble_eq_true rfl) (Nat.le_of_ble_eq_true rfl) (ly0_k La0_h) ?_
        refine mx_aload_n dX0_is_0 rfl rfl ?_
        refine mx_iload_n dX0_is_1 rfl rfl ?_
        refine mx_putI 0 20 (ref := "PrairiePool") cl_0 (Nat.le_of_ble_eq_true rfl) (Or.inl q480) (Or.inl rfl) dX0_is_2 (Or.inl rfl) rfl (ly0_k La0_h) ?_
        refine mx_nmI  (fun h6 eh6 Xh6 Kh6 Lh6 => ?_)
        have H := H h6 eh6 Xh6
        have La0_h6 := La0_h.ext Xh6
        refine mx_iload_n dX0_is_5 rfl rfl ?_
        refine mx_if_ne (tgt := 13) dX0_is_6 rfl (fun _ => ?_) (fun _ => absurd ‹_› (by decide))
        refine mx_iconst dX0_is_13 ic_0 ?_
        refine mx_zretK rfl dX0_is_14 (Or.inl rfl) ?_
        exact mx_zret rfl dX0_tray_21 (Or.inl rfl) H
      · have H := H.2 c5
        refine mx_iload_n dX0_tray_11 rfl rfl ?_
        refine mx_iconst dX0_tray_12 ic_3 ?_
        refine mx_icmp_le (tgt := 22) dX0_tray_13 rfl (fun c7 => ?_) (fun c7 => ?_)
        · have H := H.1 c7
          refine mx_iload_n dX0_tray_22 rfl rfl ?_
          refine mx_bipush dX0_tray_23 ib_40 ?_
          refine mx_icmp_le (tgt := 34) dX0_tray_25 rfl (fun c8 => ?_) (fun c8 => ?_)
          · have H := H.1 c8
            refine mx_aload_n dX0_tray_34 rfl rfl ?_
            refine mx_get 0 0 (ref := "PrairiePool") cl_0 (Nat.le_of_ble_eq_true rfl) (Or.inl q460) (Or.inl rfl) dX0_tray_35 (fv_0_0 _ _) (ly0_k La0_h) ?_
            refine mx_tr (ly0_R_0_0 La0_h) ?_
            refine mx_iload_n dX0_tray_38 rfl rfl ?_
            obtain ⟨k9, H⟩ := H
            refine my_aald 5 dX0_tray_39 (by decide) rfl (ly0_A_1 La0_h k9) ?_
            refine mx_tr (ly0_T La0_h (vp_lt k9)) ?_
            refine mx_iload_n dX0_tray_40 rfl rfl ?_
            refine mx_iload_n dX0_tray_41 rfl rfl ?_
            refine mx_callV 7 (y' := mi_X7_make) (vs := [iv x2, iv x3]) (st := []) (al' := [some (rv (a0 + (1494 + x1.toNatClampNeg))), some (iv x2), some (iv x3), none]) cl_7 V_X7_make (Or.inl q668) dX0_tray_42 rfl rfl (Nat.le_of_ble_eq_true rfl) (Nat.le_of_ble_eq_true rfl) (ly0_TK La0_h (vp_lt k9)) ?_
            refine ma_kv H (fun h10 Xh10 H => ?_) (fun x1 h1 X1 H => mt_catch rfl (Nat.le_of_ble_eq_true rfl) (Nat.le_of_ble_eq_true rfl) (by decide) q634 (Or.inr ⟨2, by decide, (H X1).1, rfl⟩) (Or.inl ⟨rfl, _, q653⟩) (mx_weak (al' := [some (rv a0), none, none, none, none]) ⟨rfl, trivial⟩ (H X1).2))
            have H := H Xh10
            have La0_h10 := La0_h.ext Xh10
            refine mx_goto (tgt := 57) dX0_tray_45 rfl ?_
            refine mx_aload_n dX0_tray_57 rfl rfl ?_
            refine mx_iconst dX0_tray_58 ic_0 ?_
            refine mx_callV 0 (y' := mi_X0_is) (vs := [iv (0 : Int32)]) (st := []) (al' := [some (rv a0), some (iv (0 : Int32))]) cl_0 V_X0_is (Or.inl q664) dX0_tray_59 rfl rfl (Nat.le_of_ble_eq_true rfl) (Nat.le_of_ble_eq_true rfl) (ly0_k La0_h10) ?_
            refine mx_aload_n dX0_is_0 rfl rfl ?_
            refine mx_iload_n dX0_is_1 rfl rfl ?_
            refine mx_putI 0 20 (ref := "PrairiePool") cl_0 (Nat.le_of_ble_eq_true rfl) (Or.inl q480) (Or.inl rfl) dX0_is_2 (Or.inl rfl) rfl (ly0_k La0_h10) ?_
            refine mx_nmI  (fun h12 eh12 Xh12 Kh12 Lh12 => ?_)
            have H := H h12 eh12 Xh12
            have La0_h12 := La0_h10.ext Xh12
            refine mx_iload_n dX0_is_5 rfl rfl ?_
            refine mx_if_ne (tgt := 13) dX0_is_6 rfl (fun _ => absurd ‹_› (by decide)) (fun _ => ?_)
            refine mx_iconst dX0_is_9 ic_1 ?_
            refine mx_goto (tgt := 14) dX0_is_10 rfl ?_
            refine mx_zretK rfl dX0_is_14 (Or.inr rfl) ?_
            exact mx_zret rfl dX0_tray_62 (Or.inr rfl) H
          · have H := H.2 c8
            refine mx_aload_n dX0_tray_28 rfl rfl ?_
            refine mx_iconst dX0_tray_29 ic_5 ?_
            refine mx_callV 0 (y' := mi_X0_is) (vs := [iv (5 : Int32)]) (st := []) (al' := [some (rv a0), some (iv (5 : Int32))]) cl_0 V_X0_is (Or.inl q664) dX0_tray_30 rfl rfl (Nat.le_of_ble_eq_true rfl) (Nat.le_of_ble_eq_true rfl) (ly0_k La0_h) ?_
            refine mx_aload_n dX0_is_0 rfl rfl ?_
            refine mx_iload_n dX0_is_1 rfl rfl ?_
            refine mx_putI 0 20 (ref := "PrairiePool") cl_0 (Nat.le_of_ble_eq_true rfl) (Or.inl q480) (Or.inl rfl) dX0_is_2 (Or.inl rfl) rfl (ly0_k La0_h) ?_
            refine mx_nmI  (fun h13 eh13 Xh13 Kh13 Lh13 => ?_)
            have H := H h13 eh13 Xh13
            have La0_h13 := La0_h.ext Xh13
            refine mx_iload_n dX0_is_5 rfl rfl ?_
            refine mx_if_ne (tgt := 13) dX0_is_6 rfl (fun _ => ?_) (fun _ => absurd ‹_› (by decide))
            refine mx_iconst dX0_is_13 ic_0 ?_
            refine mx_zretK rfl dX0_is_14 (Or.inl rfl) ?_
            exact mx_zret rfl dX0_tray_33 (Or.inl rfl) H
        · have H := H.2 c7
          refine mx_aload_n dX0_tray_16 rfl rfl ?_
          refine mx_iconst dX0_tray_17 ic_1 ?_
          refine mx_callV 0 (y' := mi_X0_is) (vs := [iv (1 : Int32)]) (st := []) (al' := [some (rv a0), some (iv (1 : Int32))]) cl_0 V_X0_is (Or.inl q664) dX0_tray_18 rfl rfl (Nat.le_of_ble_eq_true rfl) (Nat.le_of_ble_eq_true rfl) (ly0_k La0_h) ?_
          refine mx_aload_n dX0_is_0 rfl rfl ?_
          refine mx_iload_n dX0_is_1 rfl rfl ?_
          refine mx_putI 0 20 (ref := "PrairiePool") cl_0 (Nat.le_of_ble_eq_true rfl) (Or.inl q480) (Or.inl rfl) dX0_is_2 (Or.inl rfl) rfl (ly0_k La0_h) ?_
          refine mx_nmI  (fun h14 eh14 Xh14 Kh14 Lh14 => ?_)
          have H := H h14 eh14 Xh14
          have La0_h14 := La0_h.ext Xh14
          refine mx_iload_n dX0_is_5 rfl rfl ?_
          refine mx_if_ne (tgt := 13) dX0_is_6 rfl (fun _ => ?_) (fun _ => absurd ‹_› (by decide))
          refine mx_iconst dX0_is_13 ic_0 ?_
          refine mx_zretK rfl dX0_is_14 (Or.inl rfl) ?_
          exact mx_zret rfl dX0_tray_21 (Or.inl rfl) H
theorem v_X0_tray_48 {G : ma_G} {d : Nat} {a0 : Nat} {b0 : Nat} {h : ah_T} {Q : Option ma_V → ah_T → Prop} {E : Nat → ah_T → Prop} (La0_h : LY0 h a0) (H : ∀ h1 : ah_T, h1 = ah_wI h a0 20 (6 : Int32) → ah_ext h h1 → Q (some (iv (0 : Int32))) h1) : MX G mi_X0_tray (d + 41) 48 [some (rv a0), none, none, none, none] [rv b0] h Q E := by
  refine mx_astore (al' := [some (rv a0), none, none, none, some (rv b0)]) dX0_tray_48 (Nat.le_of_ble_eq_true rfl) rfl ?_
  refine mx_aload_n dX0_tray_50 rfl rfl ?_
  refine mx_bipush dX0_tray_51 ib_6 ?_
  refine mx_callV 0 (y' := mi_X0_is) (vs := [iv (6 : Int32)]) (st := []) (al' := [some (rv a0), some (iv (6 : Int32))]) cl_0 V_X0_is (Or.inl q664) dX0_tray_53 rfl rfl (Nat.le_of_ble_eq_true rfl) (Nat.le_of_ble_eq_true rfl) (ly0_k La0_h) ?_
  refine mx_aload_n dX0_is_0 rfl rfl ?_
  refine mx_iload_n dX0_is_1 rfl rfl ?_
  refine mx_putI 0 20 (ref := "PrairiePool") cl_0 (Nat.le_of_ble_eq_true rfl) (Or.inl q480) (Or.inl rfl) dX0_is_2 (Or.inl rfl) rfl (ly0_k La0_h) ?_
  refine mx_nmI  (fun h1 eh1 Xh1 Kh1 Lh1 => ?_)
  have H := H h1 eh1 Xh1
  have La0_h1 := La0_h.ext Xh1
  refine mx_iload_n dX0_is_5 rfl rfl ?_
  refine mx_if_ne (tgt := 13) dX0_is_6 rfl (fun _ => ?_) (fun _ => absurd ‹_› (by decide))
  refine mx_iconst dX0_is_13 ic_0 ?_
  refine mx_zretK rfl dX0_is_14 (Or.inl rfl) ?_
  exact mx_zret rfl dX0_tray_56 (Or.inl rfl) H
theorem dX0_write_0 : decode mi_X0_write.2.1 0 = .ok (.iload_n 1, 1) := by decide +kernel
theorem dX0_write_1 : decode mi_X0_write.2.1 1 = .ok (.invokestatic 184, 3) := by decide +kernel
theorem dX0_write_4 : decode mi_X0_write.2.1 4 = .ok (.ifCond .ne 9, 3) := by decide +kernel
theorem dX0_write_7 : decode mi_X0_write.2.1 7 = .ok (.aload_n 0, 1) := by decide +kernel
theorem dX0_write_8 : decode mi_X0_write.2.1 8 = .ok (.iconst 1, 1) := by decide +kernel
theorem dX0_write_9 : decode mi_X0_write.2.1 9 = .ok (.invokevirtual 188, 3) := by decide +kernel
theorem dX0_write_12 : decode mi_X0_write.2.1 12 = .ok (.ireturn, 1) := by decide +kernel
theorem dX0_write_13 : decode mi_X0_write.2.1 13 = .ok (.aload_n 0, 1) := by decide +kernel
theorem dX0_write_14 : decode mi_X0_write.2.1 14 = .ok (.getfield 11, 3) := by decide +kernel
theorem dX0_write_17 : decode mi_X0_write.2.1 17 = .ok (.iload_n 1, 1) := by decide +kernel
theorem dX0_write_18 : decode mi_X0_write.2.1 18 = .ok (.aaload, 1) := by decide +kernel
theorem dX0_write_19 : decode mi_X0_write.2.1 19 = .ok (.iload_n 2, 1) := by decide +kernel
theorem dX0_write_20 : decode mi_X0_write.2.1 20 = .ok (.lload_n 3, 1) := by decide +kernel
theorem dX0_write_21 : decode mi_X0_write.2.1 21 = .ok (.invokevirtual 197, 3) := by decide +kernel
theorem dX0_write_24 : decode mi_X0_write.2.1 24 = .ok (.goto 19, 3) := by decide +kernel
theorem dX0_write_27 : decode mi_X0_write.2.1 27 = .ok (.astore 5, 2) := by decide +kernel
theorem dX0_write_29 : decode mi_X0_write.2.1 29 = .ok (.aload_n 0, 1) := by decide +kernel
theorem dX0_write_30 : decode mi_X0_write.2.1 30 = .ok (.iconst 3, 1) := by decide +kernel
theorem dX0_write_31 : decode mi_X0_write.2.1 31 = .ok (.invokevirtual 188, 3) := by decide +kernel
theorem dX0_write_34 : decode mi_X0_write.2.1 34 = .ok (.ireturn, 1) := by decide +kernel
theorem dX0_write_35 : decode mi_X0_write.2.1 35 = .ok (.astore 5, 2) := by decide +kernel
theorem dX0_write_37 : decode mi_X0_write.2.1 37 = .ok (.aload_n 0, 1) := by decide +kernel
theorem dX0_write_38 : decode mi_X0_write.2.1 38 = .ok (.iconst 4, 1) := by decide +kernel
theorem dX0_write_39 : decode mi_X0_write.2.1 39 = .ok (.invokevirtual 188, 3) := by decide +kernel
theorem dX0_write_42 : decode mi_X0_write.2.1 42 = .ok (.ireturn, 1) := by decide +kernel
theorem dX0_write_43 : decode mi_X0_write.2.1 43 = .ok (.aload_n 0, 1) := by decide +kernel
theorem dX0_write_44 : decode mi_X0_write.2.1 44 = .ok (.iconst 0, 1) := by decide +kernel
theorem dX0_write_45 : decode mi_X0_write.2.1 45 = .ok (.invokevirtual 188, 3) := by decide +kernel
theorem dX0_write_48 : decode mi_X0_write.2.1 48 = .ok (.ireturn, 1) := by decide +kernel
theorem v_X0_write {G : ma_G} {d : Nat} {a0 : Nat} {x1 : Int32} {x2 : Int32} {x3 : Int64} {h : ah_T} {Q : Option ma_V → ah_T → Prop} {E : Nat → ah_T → Prop} (La0_h : LY0 h a0) (H : (x1 < 0 → ∀ h2 : ah_T, h2 = ah_wI h a0 20 (1 : Int32) → ah_ext h h2 → Q (some (iv (0 : Int32))) h2) ∧ (¬ x1 < 0 → ((4 : Int32) ≤ x1 → ∀ h4 : ah_T, h4 = ah_wI h a0 20 (1 : Int32) → ah_ext h h4 → Q (some (iv (0 : Int32))) h4) ∧ (¬ (4 : Int32) ≤ x1 → vp_in x1 4 ∧ MX G mi_X7_set (d + 40) 0 [some (rv (a0 + (1494 + x1.toNatClampNeg))), some (iv x2), some (jv x3), none] [] h (Qv fun h6 => ah_ext h h6 → ∀ h8 : ah_T, h8 = ah_wI h6 a0 20 (0 : Int32) → ah_ext h6 h8 → Q (some (iv (1 : Int32))) h8) (fun x h' => ah_ext h h' → (ah_kd h' x = 30 ∧ MX G mi_X0_write (d + 41) 27 [some (rv a0), none, none, none, none, none] [rv x] h' Q E) ∨ (ah_kd h' x = 31 ∧ MX G mi_X0_write (d + 41) 35 [some (rv a0), none, none, none, none, none] [rv x] h' Q E))))) : MX G mi_X0_write (d + 41) 0 [some (rv a0), some (iv x1), some (iv x2), some (jv x3), none, none] [] h Q E := by
  refine mx_iload_n dX0_write_0 rfl rfl ?_
  refine mx_callS (y' := mi_X0_isTray) (vs := [iv x1]) (st := []) (al' := [some (iv x1)]) S_X0_isTray q661 dX0_write_1 rfl rfl (Nat.le_of_ble_eq_true rfl) (Nat.le_of_ble_eq_true rfl) ?_
  refine mx_iload_n dX0_isTray_0 rfl rfl ?_
  refine mx_if_lt (tgt := 13) dX0_isTray_1 rfl (fun c1 => ?_) (fun c1 => ?_)
  · have H := H.1 c1
    refine mx_iconst dX0_isTray_13 ic_0 ?_
    refine mx_zretK rfl dX0_isTray_14 (Or.inl rfl) ?_
    refine mx_if_ne (tgt := 13) dX0_write_4 rfl (fun _ => absurd ‹_› (by decide)) (fun _ => ?_)
    refine mx_aload_n dX0_write_7 rfl rfl ?_
    refine mx_iconst dX0_write_8 ic_1 ?_
    refine mx_callV 0 (y' := mi_X0_is) (vs := [iv (1 : Int32)]) (st := []) (al' := [some (rv a0), some (iv (1 : Int32))]) cl_0 V_X0_is (Or.inl q664) dX0_write_9 rfl rfl (Nat.le_of_ble_eq_true rfl) (Nat.le_of_ble_eq_true rfl) (ly0_k La0_h) ?_
    refine mx_aload_n dX0_is_0 rfl rfl ?_
    refine mx_iload_n dX0_is_1 rfl rfl ?_
    refine mx_putI 0 20 (ref := "PrairiePool") cl_0 (Nat.le_of_ble_eq_true rfl) (Or.inl q480) (Or.inl rfl) dX0_is_2 (Or.inl rfl) rfl (ly0_k La0_h) ?_
    refine mx_nmI  (fun h2 eh2 Xh2 Kh2 Lh2 => ?_)
    have H := H h2 eh2 Xh2
    have La0_h2 := La0_h.ext Xh2
    refine mx_iload_n dX0_is_5 rfl rfl ?_
    refine mx_if_ne (tgt := 13) dX0_is_6 rfl (fun _ => ?_) (fun _ => absurd ‹_› (by decide))
    refine mx_iconst dX0_is_13 ic_0 ?_
    refine mx_zretK rfl dX0_is_14 (Or.inl rfl) ?_
    exact mx_zret rfl dX0_write_12 (Or.inl rfl) H
  · have H := H.2 c1
    refine mx_iload_n dX0_isTray_4 rfl rfl ?_
    refine mx_iconst dX0_isTray_5 ic_4 ?_
    refine mx_icmp_ge (tgt := 13) dX0_isTray_6 rfl (fun c3 => ?_) (fun c3 => ?_)
    · have H := H.1 c3
      refine mx_iconst dX0_isTray_13 ic_0 ?_
      refine mx_zretK rfl dX0_isTray_14 (Or.inl rfl) ?_
      refine mx_if_ne (tgt := 13) dX0_write_4 rfl (fun _ => absurd ‹_› (by decide)) (fun _ => ?_)
      refine mx_aload_n dX0_write_7 rfl rfl ?_
      refine mx_iconst dX0_write_8 ic_1 ?_
      refine mx_callV 0 (y' := mi_X0_is) (vs := [iv (1 : Int32)]) (st := []) (al' := [some (rv a0), some (iv (1 : Int32))]) cl_0 V_X0_is (Or.inl q664) dX0_write_9 rfl rfl (Nat.le_of_ble_eq_true rfl) (Nat.le_of_ble_eq_true rfl) (ly0_k La0_h) ?_
      refine mx_aload_n dX0_is_0 rfl rfl ?_
      refine mx_iload_n dX0_is_1 rfl rfl ?_
      refine mx_putI 0 20 (ref := "PrairiePool") cl_0 (Nat.le_of_ble_eq_true rfl) (Or.inl q480) (Or.inl rfl) dX0_is_2 (Or.inl rfl) rfl (ly0_k La0_h) ?_
      refine mx_nmI  (fun h4 eh4 Xh4 Kh4 Lh4 => ?_)
      have H := H h4 eh4 Xh4
      have La0_h4 := La0_h.ext Xh4
      refine mx_iload_n dX0_is_5 rfl rfl ?_
      refine mx_if_ne (tgt := 13) dX0_is_6 rfl (fun _ => ?_) (fun _ => absurd ‹_› (by decide))
      refine mx_iconst dX0_is_13 ic_0 ?_
      refine mx_zretK rfl dX0_is_14 (Or.inl rfl) ?_
      exact mx_zret rfl dX0_write_12 (Or.inl rfl) H
    · have H := H.2 c3
      refine mx_iconst dX0_isTray_9 ic_1 ?_
      refine mx_goto (tgt := 14) dX0_isTray_10 rfl ?_
      refine mx_zretK rfl dX0_isTray_14 (Or.inr rfl) ?_
      refine mx_if_ne (tgt := 13) dX0_write_4 rfl (fun _ => ?_) (fun _ => absurd ‹_› (by decide))
      refine mx_aload_n dX0_write_13 rfl rfl ?_
      refine mx_get 0 0 (ref := "PrairiePool") cl_0 (Nat.le_of_ble_eq_true rfl) (Or.inl q460) (Or.inl rfl) dX0_write_14 (fv_0_0 _ _) (ly0_k La0_h) ?_
      refine mx_tr (ly0_R_0_0 La0_h) ?_
      refine mx_iload_n dX0_write_17 rfl rfl ?_
      obtain ⟨k5, H⟩ := H
      refine my_aald 5 dX0_write_18 (by decide) rfl (ly0_A_1 La0_h k5) ?_
      refine mx_tr (ly0_T La0_h (vp_lt k5)) ?_
      refine mx_iload_n dX0_write_19 rfl rfl ?_
      refine mx_lload_n dX0_write_20 rfl rfl ?_
      refine mx_callV 7 (y' := mi_X7_set) (vs := [iv x2, jv x3]) (st := []) (al' := [some (rv (a0 + (1494 + x1.toNatClampNeg))), some (iv x2), some (jv x3), none]) cl_7 V_X7_set (Or.inl q721) dX0_write_21 rfl rfl (Nat.le_of_ble_eq_true rfl) (Nat.le_of_ble_eq_true rfl) (ly0_TK La0_h (vp_lt k5)) ?_
      refine ma_kv H (fun h6 Xh6 H => ?_) (fun x1 h1 X1 H => (H X1).elim (fun q_ => mt_catch rfl (Nat.le_of_ble_eq_true rfl) (Nat.le_of_ble_eq_true rfl) (by decide) q677 (Or.inr ⟨0, by decide, q_.1, rfl⟩) (Or.inl ⟨rfl, _, q335⟩) (mx_weak (al' := [some (rv a0), none, none, none, none, none]) ⟨rfl, trivial⟩ q_.2)) (fun q_ => mt_catchB rfl (Nat.le_of_ble_eq_true rfl) (Nat.le_of_ble_eq_true rfl) (by decide) (Nat.le_of_ble_eq_true rfl) (Nat.le_of_ble_eq_true rfl) (by decide) q677 q702 (Or.inr ⟨1, by decide, q_.1, rfl⟩) nc_aio_npe (Or.inl ⟨rfl, _, q716⟩) (mx_weak (al' := [some (rv a0), none, none, none, none, none]) ⟨rfl, trivial⟩ q_.2)))
      have H := H Xh6
      have La0_h6 := La0_h.ext Xh6
      refine mx_goto (tgt := 43) dX0_write_24 rfl ?_
      refine mx_aload_n dX0_write_43 rfl rfl ?_
      refine mx_iconst dX0_write_44 ic_0 ?_
      refine mx_callV 0 (y' := mi_X0_is) (vs := [iv (0 : Int32)]) (st := []) (al' := [some (rv a0), some (iv (0 : Int32))]) cl_0 V_X0_is (Or.inl q664) dX0_write_45 rfl rfl (Nat.le_of_ble_eq_true rfl) (Nat.le_of_ble_eq_true rfl) (ly0_k La0_h6) ?_
      refine mx_aload_n dX0_is_0 rfl rfl ?_
      refine mx_iload_n dX0_is_1 rfl rfl ?_
      refine mx_putI 0 20 (ref := "PrairiePool") cl_0 (Nat.le_of_ble_eq_true rfl) (Or.inl q480) (Or.inl rfl) dX0_is_2 (Or.inl rfl) rfl (ly0_k La0_h6) ?_
      refine mx_nmI  (fun h8 eh8 Xh8 Kh8 Lh8 => ?_)
      have H := H h8 eh8 Xh8
      have La0_h8 := La0_h6.ext Xh8
      refine mx_iload_n dX0_is_5 rfl rfl ?_
      refine mx_if_ne (tgt := 13) dX0_is_6 rfl (fun _ => absurd ‹_› (by decide)) (fun _ => ?_)
      refine mx_iconst dX0_is_9 ic_1 ?_
      refine mx_goto (tgt := 14) dX0_is_10 rfl ?_
      refine mx_zretK rfl dX0_is_14 (Or.inr rfl) ?_
      exact mx_zret rfl dX0_write_48 (Or.inr rfl) H
theorem v_X0_write_27 {G : ma_G} {d : Nat} {a0 : Nat} {b0 : Nat} {h : ah_T} {Q : Option ma_V → ah_T → Prop} {E : Nat → ah_T → Prop} (La0_h : LY0 h a0) (H : ∀ h1 : ah_T, h1 = ah_wI h a0 20 (3 : Int32) → ah_ext h h1 → Q (some (iv (0 : Int32))) h1) : MX G mi_X0_write (d + 41) 27 [some (rv a0), none, none, none, none, none] [rv b0] h Q E := by
  refine mx_astore (al' := [some (rv a0), none, none, none, none, some (rv b0)]) dX0_write_27 (Nat.le_of_ble_eq_true rfl) rfl ?_
  refine mx_aload_n dX0_write_29 rfl rfl ?_
  refine mx_iconst dX0_write_30 ic_3 ?_
  refine mx_callV 0 (y' := mi_X0_is) (vs := [iv (3 : Int32)]) (st := []) (al' := [some (rv a0), some (iv (3 : Int32))]) cl_0 V_X0_is (Or.inl q664) dX0_write_31 rfl rfl (Nat.le_of_ble_eq_true rfl) (Nat.le_of_ble_eq_true rfl) (ly0_k La0_h) ?_
  refine mx_aload_n dX0_is_0 rfl rfl ?_
  refine mx_iload_n dX0_is_1 rfl rfl ?_
  refine mx_putI 0 20 (ref := "PrairiePool") cl_0 (Nat.le_of_ble_eq_true rfl) (Or.inl q480) (Or.inl rfl) dX0_is_2 (Or.inl rfl) rfl (ly0_k La0_h) ?_
  refine mx_nmI  (fun h1 eh1 Xh1 Kh1 Lh1 => ?_)
  have H := H h1 eh1 Xh1
  have La0_h1 := La0_h.ext Xh1
  refine mx_iload_n dX0_is_5 rfl rfl ?_
  refine mx_if_ne (tgt := 13) dX0_is_6 rfl (fun _ => ?_) (fun _ => absurd ‹_› (by decide))
  refine mx_iconst dX0_is_13 ic_0 ?_
  refine mx_zretK rfl dX0_is_14 (Or.inl rfl) ?_
  exact mx_zret rfl dX0_write_34 (Or.inl rfl) H
theorem v_X0_write_35 {G : ma_G} {d : Nat} {a0 : Nat} {b0 : Nat} {h : ah_T} {Q : Option ma_V → ah_T → Prop} {E : Nat → ah_T → Prop} (La0_h : LY0 h a0) (H : ∀ h1 : ah_T, h1 = ah_wI h a0 20 (4 : Int32) → ah_ext h h1 → Q (some (iv (0 : Int32))) h1) : MX G mi_X0_write (d + 41) 35 [some (rv a0), none, none, none, none, none] [rv b0] h Q E := by
  refine mx_astore (al' := [some (rv a0), none, none, none, none, some (rv b0)]) dX0_write_35 (Nat.le_of_ble_eq_true rfl) rfl ?_
  refine mx_aload_n dX0_write_37 rfl rfl ?_
  refine mx_iconst dX0_write_38 ic_4 ?_
  refine mx_callV 0 (y' := mi_X0_is) (vs := [iv (4 : Int32)]) (st := []) (al' := [some (rv a0), some (iv (4 : Int32))]) cl_0 V_X0_is (Or.inl q664) dX0_write_39 rfl rfl (Nat.le_of_ble_eq_true rfl) (Nat.le_of_ble_eq_true rfl) (ly0_k La0_h) ?_
  refine mx_aload_n dX0_is_0 rfl rfl ?_
  refine mx_iload_n dX0_is_1 rfl rfl ?_
  refine mx_putI 0 20 (ref := "PrairiePool") cl_0 (Nat.le_of_ble_eq_true rfl) (Or.inl q480) (Or.inl rfl) dX0_is_2 (Or.inl rfl) rfl (ly0_k La0_h) ?_
  refine mx_nmI  (fun h1 eh1 Xh1 Kh1 Lh1 => ?_)
  have H := H h1 eh1 Xh1
  have La0_h1 := La0_h.ext Xh1
  refine mx_iload_n dX0_is_5 rfl rfl ?_
  refine mx_if_ne (tgt := 13) dX0_is_6 rfl (fun _ => ?_) (fun _ => absurd ‹_› (by decide))
  refine mx_iconst dX0_is_13 ic_0 ?_
  refine mx_zretK rfl dX0_is_14 (Or.inl rfl) ?_
  exact mx_zret rfl dX0_write_42 (Or.inl rfl) H
theorem dX0_read_0 : decode mi_X0_read.2.1 0 = .ok (.iload_n 1, 1) := by decide +kernel
theorem dX0_read_1 : decode mi_X0_read.2.1 1 = .ok (.invokestatic 184, 3) := by decide +kernel
theorem dX0_read_4 : decode mi_X0_read.2.1 4 = .ok (.ifCond .ne 10, 3) := by decide +kernel
theorem dX0_read_7 : decode mi_X0_read.2.1 7 = .ok (.aload_n 0, 1) := by decide +kernel
theorem dX0_read_8 : decode mi_X0_read.2.1 8 = .ok (.iconst 1, 1) := by decide +kernel
theorem dX0_read_9 : decode mi_X0_read.2.1 9 = .ok (.invokevirtual 205, 3) := by decide +kernel
theorem dX0_read_12 : decode mi_X0_read.2.1 12 = .ok (.i2l, 1) := by decide +kernel
theorem dX0_read_13 : decode mi_X0_read.2.1 13 = .ok (.lreturn, 1) := by decide +kernel
theorem dX0_read_14 : decode mi_X0_read.2.1 14 = .ok (.aload_n 0, 1) := by decide +kernel
theorem dX0_read_15 : decode mi_X0_read.2.1 15 = .ok (.iconst 0, 1) := by decide +kernel
theorem dX0_read_16 : decode mi_X0_read.2.1 16 = .ok (.putfield 181, 3) := by decide +kernel
theorem dX0_read_19 : decode mi_X0_read.2.1 19 = .ok (.aload_n 0, 1) := by decide +kernel
theorem dX0_read_20 : decode mi_X0_read.2.1 20 = .ok (.getfield 11, 3) := by decide +kernel
theorem dX0_read_23 : decode mi_X0_read.2.1 23 = .ok (.iload_n 1, 1) := by decide +kernel
theorem dX0_read_24 : decode mi_X0_read.2.1 24 = .ok (.aaload, 1) := by decide +kernel
theorem dX0_read_25 : decode mi_X0_read.2.1 25 = .ok (.iload_n 2, 1) := by decide +kernel
theorem dX0_read_26 : decode mi_X0_read.2.1 26 = .ok (.invokevirtual 209, 3) := by decide +kernel
theorem dX0_read_29 : decode mi_X0_read.2.1 29 = .ok (.lreturn, 1) := by decide +kernel
theorem dX0_read_30 : decode mi_X0_read.2.1 30 = .ok (.astore_n 3, 1) := by decide +kernel
theorem dX0_read_31 : decode mi_X0_read.2.1 31 = .ok (.aload_n 0, 1) := by decide +kernel
theorem dX0_read_32 : decode mi_X0_read.2.1 32 = .ok (.iconst 3, 1) := by decide +kernel
theorem dX0_read_33 : decode mi_X0_read.2.1 33 = .ok (.putfield 181, 3) := by decide +kernel
theorem dX0_read_36 : decode mi_X0_read.2.1 36 = .ok (.goto 9, 3) := by decide +kernel
theorem dX0_read_39 : decode mi_X0_read.2.1 39 = .ok (.astore_n 3, 1) := by decide +kernel
theorem dX0_read_40 : decode mi_X0_read.2.1 40 = .ok (.aload_n 0, 1) := by decide +kernel
theorem dX0_read_41 : decode mi_X0_read.2.1 41 = .ok (.iconst 4, 1) := by decide +kernel
theorem dX0_read_42 : decode mi_X0_read.2.1 42 = .ok (.putfield 181, 3) := by decide +kernel
theorem dX0_read_45 : decode mi_X0_read.2.1 45 = .ok (.ldc2_w 213, 3) := by decide +kernel
theorem dX0_read_48 : decode mi_X0_read.2.1 48 = .ok (.lreturn, 1) := by decide +kernel
theorem v_X0_read {G : ma_G} {d : Nat} {a0 : Nat} {x1 : Int32} {x2 : Int32} {h : ah_T} {Q : Option ma_V → ah_T → Prop} {E : Nat → ah_T → Prop} (La0_h : LY0 h a0) (H : (x1 < 0 → ∀ h2 : ah_T, h2 = ah_wI h a0 20 (1 : Int32) → ah_ext h h2 → Q (some (jv (-1 : Int32).toInt64)) h2) ∧ (¬ x1 < 0 → ((4 : Int32) ≤ x1 → ∀ h4 : ah_T, h4 = ah_wI h a0 20 (1 : Int32) → ah_ext h h4 → Q (some (jv (-1 : Int32).toInt64)) h4) ∧ (¬ (4 : Int32) ≤ x1 → ∀ h5 : ah_T, h5 = ah_wI h a0 20 (0 : Int32) → ah_ext h h5 → vp_in x1 4 ∧ MX G mi_X7_get (d + 40) 0 [some (rv (a0 + (1494 + x1.toNatClampNeg))), some (iv x2)] [] h5 (Ql fun r8 h7 => ah_ext h5 h7 → Q (some (jv r8)) h7) (fun x h' => ah_ext h5 h' → (ah_kd h' x = 30 ∧ MX G mi_X0_read (d + 41) 30 [some (rv a0), none, none, none] [rv x] h' Q E) ∨ (ah_kd h' x = 31 ∧ MX G mi_X0_read (d + 41) 39 [some (rv a0), none, none, none] [rv x] h' Q E))))) : MX G mi_X0_read (d + 41) 0 [some (rv a0), some (iv x1), some (iv x2), none] [] h Q E := by
  refine mx_iload_n dX0_read_0 rfl rfl ?_
  refine mx_callS (y' := mi_X0_isTray) (vs := [iv x1]) (st := []) (al' := [some (iv x1)]) S_X0_isTray q661 dX0_read_1 rfl rfl (Nat.le_of_ble_eq_true rfl) (Nat.le_of_ble_eq_true rfl) ?_
  refine mx_iload_n dX0_isTray_0 rfl rfl ?_
  refine mx_if_lt (tgt := 13) dX0_isTray_1 rfl (fun c1 => ?_) (fun c1 => ?_)
  · have H := H.1 c1
    refine mx_iconst dX0_isTray_13 ic_0 ?_
    refine mx_zretK rfl dX0_isTray_14 (Or.inl rfl) ?_
    refine mx_if_ne (tgt := 14) dX0_read_4 rfl (fun _ => absurd ‹_› (by decide)) (fun _ => ?_)
    refine mx_aload_n dX0_read_7 rfl rfl ?_
    refine mx_iconst dX0_read_8 ic_1 ?_
    refine mx_callV 0 (y' := mi_X0_none) (vs := [iv (1 : Int32)]) (st := []) (al' := [some (rv a0), some (iv (1 : Int32))]) cl_0 V_X0_none (Or.inl q733) dX0_read_9 rfl rfl (Nat.le_of_ble_eq_true rfl) (Nat.le_of_ble_eq_true rfl) (ly0_k La0_h) ?_
    refine mx_aload_n dX0_none_0 rfl rfl ?_
    refine mx_iload_n dX0_none_1 rfl rfl ?_
    refine mx_putI 0 20 (ref := "PrairiePool") cl_0 (Nat.le_of_ble_eq_true rfl) (Or.inl q480) (Or.inl rfl) dX0_none_2 (Or.inl rfl) rfl (ly0_k La0_h) ?_
    refine mx_nmI  (fun h2 eh2 Xh2 Kh2 Lh2 => ?_)
    have H := H h2 eh2 Xh2
    have La0_h2 := La0_h.ext Xh2
    refine mx_iconst dX0_none_5 ic_m1 ?_
    refine mx_iretK rfl dX0_none_6 ?_
    refine mx_i2l dX0_read_12 ?_
    exact mx_lret rfl dX0_read_13 H
  · have H := H.2 c1
    refine mx_iload_n dX0_isTray_4 rfl rfl ?_
    refine mx_iconst dX0_isTray_5 ic_4 ?_
    refine mx_icmp_ge (tgt := 13) dX0_isTray_6 rfl (fun c3 => ?_) (fun c3 => ?_)
    · have H := H.1 c3
      refine mx_iconst dX0_isTray_13 ic_0 ?_
      refine mx_zretK rfl dX0_isTray_14 (Or.inl rfl) ?_
      refine mx_if_ne (tgt := 14) dX0_read_4 rfl (fun _ => absurd ‹_› (by decide)) (fun _ => ?_)
      refine mx_aload_n dX0_read_7 rfl rfl ?_
      refine mx_iconst dX0_read_8 ic_1 ?_
      refine mx_callV 0 (y' := mi_X0_none) (vs := [iv (1 : Int32)]) (st := []) (al' := [some (rv a0), some (iv (1 : Int32))]) cl_0 V_X0_none (Or.inl q733) dX0_read_9 rfl rfl (Nat.le_of_ble_eq_true rfl) (Nat.le_of_ble_eq_true rfl) (ly0_k La0_h) ?_
      refine mx_aload_n dX0_none_0 rfl rfl ?_
      refine mx_iload_n dX0_none_1 rfl rfl ?_
      refine mx_putI 0 20 (ref := "PrairiePool") cl_0 (Nat.le_of_ble_eq_true rfl) (Or.inl q480) (Or.inl rfl) dX0_none_2 (Or.inl rfl) rfl (ly0_k La0_h) ?_
      refine mx_nmI  (fun h4 eh4 Xh4 Kh4 Lh4 => ?_)
      have H := H h4 eh4 Xh4
      have La0_h4 := La0_h.ext Xh4
      refine mx_iconst dX0_none_5 ic_m1 ?_
      refine mx_iretK rfl dX0_none_6 ?_
      refine mx_i2l dX0_read_12 ?_
      exact mx_lret rfl dX0_read_13 H
    · have H := H.2 c3
      refine mx_iconst dX0_isTray_9 ic_1 ?_
      refine mx_goto (tgt := 14) dX0_isTray_10 rfl ?_
      refine mx_zretK rfl dX0_isTray_14 (Or.inr rfl) ?_
      refine mx_if_ne (tgt := 14) dX0_read_4 rfl (fun _ => ?_) (fun _ => absurd ‹_› (by decide))
      refine mx_aload_n dX0_read_14 rfl rfl ?_
      refine mx_iconst dX0_read_15 ic_0 ?_
      refine mx_putI 0 20 (ref := "PrairiePool") cl_0 (Nat.le_of_ble_eq_true rfl) (Or.inl q480) (Or.inl rfl) dX0_read_16 (Or.inl rfl) rfl (ly0_k La0_h) ?_
      refine mx_nmI  (fun h5 eh5 Xh5 Kh5 Lh5 => ?_)
      have H := H h5 eh5 Xh5
      have La0_h5 := La0_h.ext Xh5
      refine mx_aload_n dX0_read_19 rfl rfl ?_
      refine mx_get 0 0 (ref := "PrairiePool") cl_0 (Nat.le_of_ble_eq_true rfl) (Or.inl q460) (Or.inl rfl) dX0_read_20 (fv_0_0 _ _) (ly0_k La0_h5) ?_
      refine mx_tr (ly0_R_0_0 La0_h5) ?_
      refine mx_iload_n dX0_read_23 rfl rfl ?_
      obtain ⟨k6, H⟩ := H
      refine my_aald 5 dX0_read_24 (by decide) rfl (ly0_A_1 La0_h5 k6) ?_
      refine mx_tr (ly0_T La0_h5 (vp_lt k6)) ?_
      refine mx_iload_n dX0_read_25 rfl rfl ?_
      refine mx_callV 7 (y' := mi_X7_get) (vs := [iv x2]) (st := []) (al' := [some (rv (a0 + (1494 + x1.toNatClampNeg))), some (iv x2)]) cl_7 V_X7_get (Or.inl q737) dX0_read_26 rfl rfl (Nat.le_of_ble_eq_true rfl) (Nat.le_of_ble_eq_true rfl) (ly0_TK La0_h5 (vp_lt k6)) ?_
      refine ma_kl H (fun r8 h7 Xh7 H => ?_) (fun x1 h1 X1 H => (H X1).elim (fun q_ => mt_catch rfl (Nat.le_of_ble_eq_true rfl) (Nat.le_of_ble_eq_true rfl) (by decide) q677 (Or.inr ⟨0, by decide, q_.1, rfl⟩) (Or.inl ⟨rfl, _, q335⟩) (mx_weak (al' := [some (rv a0), none, none, none]) ⟨rfl, trivial⟩ q_.2)) (fun q_ => mt_catchB rfl (Nat.le_of_ble_eq_true rfl) (Nat.le_of_ble_eq_true rfl) (by decide) (Nat.le_of_ble_eq_true rfl) (Nat.le_of_ble_eq_true rfl) (by decide) q677 q702 (Or.inr ⟨1, by decide, q_.1, rfl⟩) nc_aio_npe (Or.inl ⟨rfl, _, q716⟩) (mx_weak (al' := [some (rv a0), none, none, none]) ⟨rfl, trivial⟩ q_.2)))
      have H := H Xh7
      have La0_h7 := La0_h5.ext Xh7
      exact mx_lret rfl dX0_read_29 H
theorem v_X0_read_30 {G : ma_G} {d : Nat} {a0 : Nat} {b0 : Nat} {h : ah_T} {Q : Option ma_V → ah_T → Prop} {E : Nat → ah_T → Prop} (La0_h : LY0 h a0) (H : ∀ h1 : ah_T, h1 = ah_wI h a0 20 (3 : Int32) → ah_ext h h1 → Q (some (jv (-1 : Int64))) h1) : MX G mi_X0_read (d + 41) 30 [some (rv a0), none, none, none] [rv b0] h Q E := by
  refine mx_astore_n (al' := [some (rv a0), none, none, some (rv b0)]) dX0_read_30 rfl (Nat.le_of_ble_eq_true rfl) rfl ?_
  refine mx_aload_n dX0_read_31 rfl rfl ?_
  refine mx_iconst dX0_read_32 ic_3 ?_
  refine mx_putI 0 20 (ref := "PrairiePool") cl_0 (Nat.le_of_ble_eq_true rfl) (Or.inl q480) (Or.inl rfl) dX0_read_33 (Or.inl rfl) rfl (ly0_k La0_h) ?_
  refine mx_nmI  (fun h1 eh1 Xh1 Kh1 Lh1 => ?_)
  have H := H h1 eh1 Xh1
  have La0_h1 := La0_h.ext Xh1
  refine mx_goto (tgt := 45) dX0_read_36 rfl ?_
  refine mx_ldc2 q741 dX0_read_45 ?_
  exact mx_lret rfl dX0_read_48 H
theorem v_X0_read_39 {G : ma_G} {d : Nat} {a0 : Nat} {b0 : Nat} {h : ah_T} {Q : Option ma_V → ah_T → Prop} {E : Nat → ah_T → Prop} (La0_h : LY0 h a0) (H : ∀ h1 : ah_T, h1 = ah_wI h a0 20 (4 : Int32) → ah_ext h h1 → Q (some (jv (-1 : Int64))) h1) : MX G mi_X0_read (d + 41) 39 [some (rv a0), none, none, none] [rv b0] h Q E := by
  refine mx_astore_n (al' := [some (rv a0), none, none, some (rv b0)]) dX0_read_39 rfl (Nat.le_of_ble_eq_true rfl) rfl ?_
  refine mx_aload_n dX0_read_40 rfl rfl ?_
  refine mx_iconst dX0_read_41 ic_4 ?_
  refine mx_putI 0 20 (ref := "PrairiePool") cl_0 (Nat.le_of_ble_eq_true rfl) (Or.inl q480) (Or.inl rfl) dX0_read_42 (Or.inl rfl) rfl (ly0_k La0_h) ?_
  refine mx_nmI  (fun h1 eh1 Xh1 Kh1 Lh1 => ?_)
  have H := H h1 eh1 Xh1
  have La0_h1 := La0_h.ext Xh1
  refine mx_ldc2 q741 dX0_read_45 ?_
  exact mx_lret rfl dX0_read_48 H
theorem dX7_make_0 : decode mi_X7_make.2.1 0 = .ok (.iload_n 1, 1) := by decide +kernel
theorem dX7_make_1 : decode mi_X7_make.2.1 1 = .ok (.ifCond .ne 9, 3) := by decide +kernel
theorem dX7_make_4 : decode mi_X7_make.2.1 4 = .ok (.iload_n 2, 1) := by decide +kernel
theorem dX7_make_5 : decode mi_X7_make.2.1 5 = .ok (.newarray .byte, 2) := by decide +kernel
theorem dX7_make_7 : decode mi_X7_make.2.1 7 = .ok (.goto 28, 3) := by decide +kernel
theorem dX7_make_10 : decode mi_X7_make.2.1 10 = .ok (.iload_n 1, 1) := by decide +kernel
theorem dX7_make_11 : decode mi_X7_make.2.1 11 = .ok (.iconst 1, 1) := by decide +kernel
theorem dX7_make_12 : decode mi_X7_make.2.1 12 = .ok (.if_icmp .ne 9, 3) := by decide +kernel
theorem dX7_make_15 : decode mi_X7_make.2.1 15 = .ok (.iload_n 2, 1) := by decide +kernel
theorem dX7_make_16 : decode mi_X7_make.2.1 16 = .ok (.newarray .short, 2) := by decide +kernel
theorem dX7_make_18 : decode mi_X7_make.2.1 18 = .ok (.goto 17, 3) := by decide +kernel
theorem dX7_make_21 : decode mi_X7_make.2.1 21 = .ok (.iload_n 1, 1) := by decide +kernel
theorem dX7_make_22 : decode mi_X7_make.2.1 22 = .ok (.iconst 2, 1) := by decide +kernel
theorem dX7_make_23 : decode mi_X7_make.2.1 23 = .ok (.if_icmp .ne 9, 3) := by decide +kernel
theorem dX7_make_26 : decode mi_X7_make.2.1 26 = .ok (.iload_n 2, 1) := by decide +kernel
theorem dX7_make_27 : decode mi_X7_make.2.1 27 = .ok (.newarray .int, 2) := by decide +kernel
theorem dX7_make_29 : decode mi_X7_make.2.1 29 = .ok (.goto 6, 3) := by decide +kernel
theorem dX7_make_32 : decode mi_X7_make.2.1 32 = .ok (.iload_n 2, 1) := by decide +kernel
theorem dX7_make_33 : decode mi_X7_make.2.1 33 = .ok (.newarray .long, 2) := by decide +kernel
theorem dX7_make_35 : decode mi_X7_make.2.1 35 = .ok (.astore_n 3, 1) := by decide +kernel
theorem dX7_make_36 : decode mi_X7_make.2.1 36 = .ok (.aload_n 0, 1) := by decide +kernel
theorem dX7_make_37 : decode mi_X7_make.2.1 37 = .ok (.aload_n 3, 1) := by decide +kernel
theorem dX7_make_38 : decode mi_X7_make.2.1 38 = .ok (.putfield 7, 3) := by decide +kernel
theorem dX7_make_41 : decode mi_X7_make.2.1 41 = .ok (.aload_n 0, 1) := by decide +kernel
theorem dX7_make_42 : decode mi_X7_make.2.1 42 = .ok (.iload_n 1, 1) := by decide +kernel
theorem dX7_make_43 : decode mi_X7_make.2.1 43 = .ok (.putfield 13, 3) := by decide +kernel
theorem dX7_make_46 : decode mi_X7_make.2.1 46 = .ok (.return_, 1) := by decide +kernel
theorem v_X7_make {G : ma_G} {d : Nat} {a0 : Nat} {x1 : Int32} {x2 : Int32} {h : ah_T} {Q : Option ma_V → ah_T → Prop} {E : Nat → ah_T → Prop}  (H : (¬ x1 = 0 → (¬ x1 = (1 : Int32) → (¬ x1 = (2 : Int32) → (x2 < 0 → (3 ≤ ah_rc h ∧ 222 ≤ ah_rs h) ∧ E (ah_sz h + 2) (ah_exn h 2 3 222)) ∧ (¬ x2 < 0 → (1 ≤ ah_rc h ∧ x2.toNatClampNeg ≤ ah_rs h ∧ x2.toNatClampNeg ≤ 1000000) ∧ ∀ h6 : ah_T, h6 = ah_new h 41 x2.toNatClampNeg x2.toNatClampNeg → ah_ext h h6 → ah_liv h → ah_kd h6 a0 = 8 ∧ ∀ h9 : ah_T, h9 = ah_wR h6 a0 0 (ah_sz h) → ah_ext h6 h9 → ∀ h10 : ah_T, h10 = ah_wI h9 a0 1 x1 → ah_ext h9 h10 → Q none h10)) ∧ (x1 = (2 : Int32) → (x2 < 0 → (3 ≤ ah_rc h ∧ 222 ≤ ah_rs h) ∧ E (ah_sz h + 2) (ah_exn h 2 3 222)) ∧ (¬ x2 < 0 → (1 ≤ ah_rc h ∧ x2.toNatClampNeg ≤ ah_rs h ∧ x2.toNatClampNeg ≤ 1000000) ∧ ∀ h13 : ah_T, h13 = ah_new h 40 x2.toNatClampNeg x2.toNatClampNeg → ah_ext h h13 → ah_liv h → ah_kd h13 a0 = 8 ∧ ∀ h16 : ah_T, h16 = ah_wR h13 a0 0 (ah_sz h) → ah_ext h13 h16 → ∀ h17 : ah_T, h17 = ah_wI h16 a0 1 x1 → ah_ext h16 h17 → Q none h17))) ∧ (x1 = (1 : Int32) → (x2 < 0 → (3 ≤ ah_rc h ∧ 222 ≤ ah_rs h) ∧ E (ah_sz h + 2) (ah_exn h 2 3 222)) ∧ (¬ x2 < 0 → (1 ≤ ah_rc h ∧ x2.toNatClampNeg ≤ ah_rs h ∧ x2.toNatClampNeg ≤ 1000000) ∧ ∀ h20 : ah_T, h20 = ah_new h 43 x2.toNatClampNeg x2.toNatClampNeg → ah_ext h h20 → ah_liv h → ah_kd h20 a0 = 8 ∧ ∀ h23 : ah_T, h23 = ah_wR h20 a0 0 (ah_sz h) → ah_ext h20 h23 → ∀ h24 : ah_T, h24 = ah_wI h23 a0 1 x1 → ah_ext h23 h24 → Q none h24))) ∧ (x1 = 0 → (x2 < 0 → (3 ≤ ah_rc h ∧ 222 ≤ ah_rs h) ∧ E (ah_sz h + 2) (ah_exn h 2 3 222)) ∧ (¬ x2 < 0 → (1 ≤ ah_rc h ∧ x2.toNatClampNeg ≤ ah_rs h ∧ x2.toNatClampNeg ≤ 1000000) ∧ ∀ h27 : ah_T, h27 = ah_new h 42 x2.toNatClampNeg x2.toNatClampNeg → ah_ext h h27 → ah_liv h → ah_kd h27 a0 = 8 ∧ ∀ h30 : ah_T, h30 = ah_wR h27 a0 0 (ah_sz h) → ah_ext h27 h30 → ∀ h31 : ah_T, h31 = ah_wI h30 a0 1 x1 → ah_ext h30 h31 → Q none h31))) : MX G mi_X7_make (d + 40) 0 [some (rv a0), some (iv x1), some (iv x2), none] [] h Q E := by
  refine mx_iload_n dX7_make_0 rfl rfl ?_
  refine mx_if_ne (tgt := 10) dX7_make_1 rfl (fun c1 => ?_) (fun c1 => ?_)
  · have H := H.1 c1
    refine mx_iload_n dX7_make_10 rfl rfl ?_
    refine mx_iconst dX7_make_11 ic_1 ?_
    refine mx_icmp_ne (tgt := 21) dX7_make_12 rfl (fun c2 => ?_) (fun c2 => ?_)
    · have H := H.1 c2
      refine mx_iload_n dX7_make_21 rfl rfl ?_
      refine mx_iconst dX7_make_22 ic_2 ?_
      refine mx_icmp_ne (tgt := 32) dX7_make_23 rfl (fun c3 => ?_) (fun c3 => ?_)
      · have H := H.1 c3
        refine mx_iload_n dX7_make_32 rfl rfl ?_
        by_cases c4 : x2 < 0
        · have H := H.1 c4
          exact mx_neg dX7_make_33 rfl (Nat.le_add_left 40 d) (Nat.le_of_ble_eq_true rfl) c4 H.1 H.2
        have H := H.2 c4
        obtain ⟨k5, H⟩ := H
        refine mx_newa 1 rfl (by decide) q206 dX7_make_33 rfl c4 k5.1 k5.2.1 k5.2.2 (fun x_ lv_ => ?_)
        refine mx_nmN x_ lv_ (fun h6 eh6 Xh6 lv_ => ?_)
        have H := H h6 eh6 Xh6 lv_
        have k7 : ah_kd h6 (ah_sz h) = 41 := by rw [eh6]; exact if_pos rfl
        refine mx_astore_n (al' := [some (rv a0), some (iv x1), some (iv x2), some (rv (ah_sz h))]) dX7_make_35 rfl (Nat.le_of_ble_eq_true rfl) rfl ?_
        refine mx_aload_n dX7_make_36 rfl rfl ?_
        refine mx_aload_n dX7_make_37 rfl rfl ?_
        obtain ⟨k8, H⟩ := H
        refine mx_putO 7 0 (ref := "PrairiePool$Tray") cl_7 (Nat.le_of_ble_eq_true rfl) (Or.inl q451) (Or.inl rfl) dX7_make_38 (Or.inl rfl) rfl (Or.inl rfl) k8 ?_
        refine mx_nmR (ah_ext.wR (Or.inl (by rw [k8]; rfl))) (fun h9 eh9 Xh9 Kh9 Lh9 => ?_)
        have H := H h9 eh9 Xh9
        refine mx_aload_n dX7_make_41 rfl rfl ?_
        refine mx_iload_n dX7_make_42 rfl rfl ?_
        refine mx_putI 7 1 (ref := "PrairiePool$Tray") cl_7 (Nat.le_of_ble_eq_true rfl) (Or.inl q453) (Or.inl rfl) dX7_make_43 (Or.inl rfl) rfl (ma_kde Kh9 (k8)) ?_
        refine mx_nmI  (fun h10 eh10 Xh10 Kh10 Lh10 => ?_)
        have H := H h10 eh10 Xh10
        have Kh10 := Kh10.trans Kh9
        have Lh10 := Lh10.trans Lh9
        exact mx_vret rfl dX7_make_46 H
      · have H := H.2 c3
        refine mx_iload_n dX7_make_26 rfl rfl ?_
        by_cases c11 : x2 < 0
        · have H := H.1 c11
          exact mx_neg dX7_make_27 rfl (Nat.le_add_left 40 d) (Nat.le_of_ble_eq_true rfl) c11 H.1 H.2
        have H := H.2 c11
        obtain ⟨k12, H⟩ := H
        refine mx_newa 0 rfl (by decide) q205 dX7_make_27 rfl c11 k12.1 k12.2.1 k12.2.2 (fun x_ lv_ => ?_)
        refine mx_nmN x_ lv_ (fun h13 eh13 Xh13 lv_ => ?_)
        have H := H h13 eh13 Xh13 lv_
        have k14 : ah_kd h13 (ah_sz h) = 40 := by rw [eh13]; exact if_pos rfl
        refine mx_goto (tgt := 35) dX7_make_29 rfl ?_
        refine mx_astore_n (al' := [some (rv a0), some (iv x1), some (iv x2), some (rv (ah_sz h))]) dX7_make_35 rfl (Nat.le_of_ble_eq_true rfl) rfl ?_
        refine mx_aload_n dX7_make_36 rfl rfl ?_
        refine mx_aload_n dX7_make_37 rfl rfl ?_
        obtain ⟨k15, H⟩ := H
        refine mx_putO 7 0 (ref := "PrairiePool$Tray") cl_7 (Nat.le_of_ble_eq_true rfl) (Or.inl q451) (Or.inl rfl) dX7_make_38 (Or.inl rfl) rfl (Or.inl rfl) k15 ?_
        refine mx_nmR (ah_ext.wR (Or.inl (by rw [k15]; rfl))) (fun h16 eh16 Xh16 Kh16 Lh16 => ?_)
        have H := H h16 eh16 Xh16
        refine mx_aload_n dX7_make_41 rfl rfl ?_
        refine mx_iload_n dX7_make_42 rfl rfl ?_
        refine mx_putI 7 1 (ref := "PrairiePool$Tray") cl_7 (Nat.le_of_ble_eq_true rfl) (Or.inl q453) (Or.inl rfl) dX7_make_43 (Or.inl rfl) rfl (ma_kde Kh16 (k15)) ?_
        refine mx_nmI  (fun h17 eh17 Xh17 Kh17 Lh17 => ?_)
        have H := H h17 eh17 Xh17
        have Kh17 := Kh17.trans Kh16
        have Lh17 := Lh17.trans Lh16
        exact mx_vret rfl dX7_make_46 H
    · have H := H.2 c2
      refine mx_iload_n dX7_make_15 rfl rfl ?_
      by_cases c18 : x2 < 0
      · have H := H.1 c18
        exact mx_neg dX7_make_16 rfl (Nat.le_add_left 40 d) (Nat.le_of_ble_eq_true rfl) c18 H.1 H.2
      have H := H.2 c18
      obtain ⟨k19, H⟩ := H
      refine mx_newa 3 rfl (by decide) q672 dX7_make_16 rfl c18 k19.1 k19.2.1 k19.2.2 (fun x_ lv_ => ?_)
      refine mx_nmN x_ lv_ (fun h20 eh20 Xh20 lv_ => ?_)
      have H := H h20 eh20 Xh20 lv_
      have k21 : ah_kd h20 (ah_sz h) = 43 := by rw [eh20]; exact if_pos rfl
      refine mx_goto (tgt := 35) dX7_make_18 rfl ?_
      refine mx_astore_n (al' := [some (rv a0), some (iv x1), some (iv x2), some (rv (ah_sz h))]) dX7_make_35 rfl (Nat.le_of_ble_eq_true rfl) rfl ?_
      refine mx_aload_n dX7_make_36 rfl rfl ?_
      refine mx_aload_n dX7_make_37 rfl rfl ?_
      obtain ⟨k22, H⟩ := H
      refine mx_putO 7 0 (ref := "PrairiePool$Tray") cl_7 (Nat.le_of_ble_eq_true rfl) (Or.inl q451) (Or.inl rfl) dX7_make_38 (Or.inl rfl) rfl (Or.inl rfl) k22 ?_
      refine mx_nmR (ah_ext.wR (Or.inl (by rw [k22]; rfl))) (fun h23 eh23 Xh23 Kh23 Lh23 => ?_)
      have H := H h23 eh23 Xh23
      refine mx_aload_n dX7_make_41 rfl rfl ?_
      refine mx_iload_n dX7_make_42 rfl rfl ?_
      refine mx_putI 7 1 (ref := "PrairiePool$Tray") cl_7 (Nat.le_of_ble_eq_true rfl) (Or.inl q453) (Or.inl rfl) dX7_make_43 (Or.inl rfl) rfl (ma_kde Kh23 (k22)) ?_
      refine mx_nmI  (fun h24 eh24 Xh24 Kh24 Lh24 => ?_)
      have H := H h24 eh24 Xh24
      have Kh24 := Kh24.trans Kh23
      have Lh24 := Lh24.trans Lh23
      exact mx_vret rfl dX7_make_46 H
  · have H := H.2 c1
    refine mx_iload_n dX7_make_4 rfl rfl ?_
    by_cases c25 : x2 < 0
    · have H := H.1 c25
      exact mx_neg dX7_make_5 rfl (Nat.le_add_left 40 d) (Nat.le_of_ble_eq_true rfl) c25 H.1 H.2
    have H := H.2 c25
    obtain ⟨k26, H⟩ := H
    refine mx_newa 2 rfl (by decide) q412 dX7_make_5 rfl c25 k26.1 k26.2.1 k26.2.2 (fun x_ lv_ => ?_)
    refine mx_nmN x_ lv_ (fun h27 eh27 Xh27 lv_ => ?_)
    have H := H h27 eh27 Xh27 lv_
    have k28 : ah_kd h27 (ah_sz h) = 42 := by rw [eh27]; exact if_pos rfl
    refine mx_goto (tgt := 35) dX7_make_7 rfl ?_
    refine mx_astore_n (al' := [some (rv a0), some (iv x1), some (iv x2), some (rv (ah_sz h))]) dX7_make_35 rfl (Nat.le_of_ble_eq_true rfl) rfl ?_
    refine mx_aload_n dX7_make_36 rfl rfl ?_
    refine mx_aload_n dX7_make_37 rfl rfl ?_
    obtain ⟨k29, H⟩ := H
    refine mx_putO 7 0 (ref := "PrairiePool$Tray") cl_7 (Nat.le_of_ble_eq_true rfl) (Or.inl q451) (Or.inl rfl) dX7_make_38 (Or.inl rfl) rfl (Or.inl rfl) k29 ?_
    refine mx_nmR (ah_ext.wR (Or.inl (by rw [k29]; rfl))) (fun h30 eh30 Xh30 Kh30 Lh30 => ?_)
    have H := H h30 eh30 Xh30
    refine mx_aload_n dX7_make_41 rfl rfl ?_
    refine mx_iload_n dX7_make_42 rfl rfl ?_
    refine mx_putI 7 1 (ref := "PrairiePool$Tray") cl_7 (Nat.le_of_ble_eq_true rfl) (Or.inl q453) (Or.inl rfl) dX7_make_43 (Or.inl rfl) rfl (ma_kde Kh30 (k29)) ?_
    refine mx_nmI  (fun h31 eh31 Xh31 Kh31 Lh31 => ?_)
    have H := H h31 eh31 Xh31
    have Kh31 := Kh31.trans Kh30
    have Lh31 := Lh31.trans Lh30
    exact mx_vret rfl dX7_make_46 H
theorem dX7_set_0 : decode mi_X7_set.2.1 0 = .ok (.aload_n 0, 1) := by decide +kernel
theorem dX7_set_1 : decode mi_X7_set.2.1 1 = .ok (.getfield 13, 3) := by decide +kernel
theorem dX7_set_4 : decode mi_X7_set.2.1 4 = .ok (.ifCond .ne 18, 3) := by decide +kernel
theorem dX7_set_7 : decode mi_X7_set.2.1 7 = .ok (.aload_n 0, 1) := by decide +kernel
theorem dX7_set_8 : decode mi_X7_set.2.1 8 = .ok (.getfield 7, 3) := by decide +kernel
theorem dX7_set_11 : decode mi_X7_set.2.1 11 = .ok (.checkcast 17, 3) := by decide +kernel
theorem dX7_set_14 : decode mi_X7_set.2.1 14 = .ok (.iload_n 1, 1) := by decide +kernel
theorem dX7_set_15 : decode mi_X7_set.2.1 15 = .ok (.lload_n 2, 1) := by decide +kernel
theorem dX7_set_16 : decode mi_X7_set.2.1 16 = .ok (.l2i, 1) := by decide +kernel
theorem dX7_set_17 : decode mi_X7_set.2.1 17 = .ok (.i2b, 1) := by decide +kernel
theorem dX7_set_18 : decode mi_X7_set.2.1 18 = .ok (.bastore, 1) := by decide +kernel
theorem dX7_set_19 : decode mi_X7_set.2.1 19 = .ok (.goto 58, 3) := by decide +kernel
theorem dX7_set_22 : decode mi_X7_set.2.1 22 = .ok (.aload_n 0, 1) := by decide +kernel
theorem dX7_set_23 : decode mi_X7_set.2.1 23 = .ok (.getfield 13, 3) := by decide +kernel
theorem dX7_set_26 : decode mi_X7_set.2.1 26 = .ok (.iconst 1, 1) := by decide +kernel
theorem dX7_set_27 : decode mi_X7_set.2.1 27 = .ok (.if_icmp .ne 18, 3) := by decide +kernel
theorem dX7_set_30 : decode mi_X7_set.2.1 30 = .ok (.aload_n 0, 1) := by decide +kernel
theorem dX7_set_31 : decode mi_X7_set.2.1 31 = .ok (.getfield 7, 3) := by decide +kernel
theorem dX7_set_34 : decode mi_X7_set.2.1 34 = .ok (.checkcast 19, 3) := by decide +kernel
theorem dX7_set_37 : decode mi_X7_set.2.1 37 = .ok (.iload_n 1, 1) := by decide +kernel
theorem dX7_set_38 : decode mi_X7_set.2.1 38 = .ok (.lload_n 2, 1) := by decide +kernel
theorem dX7_set_39 : decode mi_X7_set.2.1 39 = .ok (.l2i, 1) := by decide +kernel
theorem dX7_set_40 : decode mi_X7_set.2.1 40 = .ok (.i2s, 1) := by decide +kernel
theorem dX7_set_41 : decode mi_X7_set.2.1 41 = .ok (.sastore, 1) := by decide +kernel
theorem dX7_set_42 : decode mi_X7_set.2.1 42 = .ok (.goto 35, 3) := by decide +kernel
theorem dX7_set_45 : decode mi_X7_set.2.1 45 = .ok (.aload_n 0, 1) := by decide +kernel
theorem dX7_set_46 : decode mi_X7_set.2.1 46 = .ok (.getfield 13, 3) := by decide +kernel
theorem dX7_set_49 : decode mi_X7_set.2.1 49 = .ok (.iconst 2, 1) := by decide +kernel
theorem dX7_set_50 : decode mi_X7_set.2.1 50 = .ok (.if_icmp .ne 17, 3) := by decide +kernel
theorem dX7_set_53 : decode mi_X7_set.2.1 53 = .ok (.aload_n 0, 1) := by decide +kernel
theorem dX7_set_54 : decode mi_X7_set.2.1 54 = .ok (.getfield 7, 3) := by decide +kernel
theorem dX7_set_57 : decode mi_X7_set.2.1 57 = .ok (.checkcast 21, 3) := by decide +kernel
theorem dX7_set_60 : decode mi_X7_set.2.1 60 = .ok (.iload_n 1, 1) := by decide +kernel
theorem dX7_set_61 : decode mi_X7_set.2.1 61 = .ok (.lload_n 2, 1) := by decide +kernel
theorem dX7_set_62 : decode mi_X7_set.2.1 62 = .ok (.l2i, 1) := by decide +kernel
theorem dX7_set_63 : decode mi_X7_set.2.1 63 = .ok (.iastore, 1) := by decide +kernel
theorem dX7_set_64 : decode mi_X7_set.2.1 64 = .ok (.goto 13, 3) := by decide +kernel
theorem dX7_set_67 : decode mi_X7_set.2.1 67 = .ok (.aload_n 0, 1) := by decide +kernel
theorem dX7_set_68 : decode mi_X7_set.2.1 68 = .ok (.getfield 7, 3) := by decide +kernel
theorem dX7_set_71 : decode mi_X7_set.2.1 71 = .ok (.checkcast 23, 3) := by decide +kernel
theorem dX7_set_74 : decode mi_X7_set.2.1 74 = .ok (.iload_n 1, 1) := by decide +kernel
theorem dX7_set_75 : decode mi_X7_set.2.1 75 = .ok (.lload_n 2, 1) := by decide +kernel
theorem dX7_set_76 : decode mi_X7_set.2.1 76 = .ok (.lastore, 1) := by decide +kernel
theorem dX7_set_77 : decode mi_X7_set.2.1 77 = .ok (.return_, 1) := by decide +kernel
theorem v_X7_set {G : ma_G} {d : Nat} {a0 : Nat} {x1 : Int32} {x2 : Int64} {h : ah_T} {Q : Option ma_V → ah_T → Prop} {E : Nat → ah_T → Prop}  (H : ah_kd h a0 = 8 ∧ (¬ (ah_I h a0 1) = 0 → (¬ (ah_I h a0 1) = (1 : Int32) → (¬ (ah_I h a0 1) = (2 : Int32) → ((ah_R h a0 0) = 0 ∨ ah_kd h (ah_R h a0 0) = 41) ∧ ((ah_R h a0 0) = 0 → (1 ≤ ah_rc h ∧ 8 ≤ ah_rs h) ∧ E (ah_sz h) (ah_exn h 0 1 8)) ∧ (¬ (ah_R h a0 0) = 0 → ((vp_in x1 (ah_ln h (ah_R h a0 0)) → ∀ h10 : ah_T, h10 = ah_wJ h (ah_R h a0 0) x1.toNatClampNeg x2 → ah_ext h h10 → Q none h10) ∧ (¬ vp_in x1 (ah_ln h (ah_R h a0 0)) → ah_ln h (ah_R h a0 0) < 2 ^ 31 ∧ (3 ≤ ah_rc h ∧ 222 ≤ ah_rs h) ∧ E (ah_sz h + 2) (ah_exn h 1 3 222))))) ∧ ((ah_I h a0 1) = (2 : Int32) → ((ah_R h a0 0) = 0 ∨ ah_kd h (ah_R h a0 0) = 40) ∧ ((ah_R h a0 0) = 0 → (1 ≤ ah_rc h ∧ 8 ≤ ah_rs h) ∧ E (ah_sz h) (ah_exn h 0 1 8)) ∧ (¬ (ah_R h a0 0) = 0 → ((vp_in x1 (ah_ln h (ah_R h a0 0)) → ∀ h16 : ah_T, h16 = ah_wI h (ah_R h a0 0) x1.toNatClampNeg x2.toInt32 → ah_ext h h16 → Q none h16) ∧ (¬ vp_in x1 (ah_ln h (ah_R h a0 0)) → ah_ln h (ah_R h a0 0) < 2 ^ 31 ∧ (3 ≤ ah_rc h ∧ 222 ≤ ah_rs h) ∧ E (ah_sz h + 2) (ah_exn h 1 3 222)))))) ∧ ((ah_I h a0 1) = (1 : Int32) → ((ah_R h a0 0) = 0 ∨ ah_kd h (ah_R h a0 0) = 43) ∧ ((ah_R h a0 0) = 0 → (1 ≤ ah_rc h ∧ 8 ≤ ah_rs h) ∧ E (ah_sz h) (ah_exn h 0 1 8)) ∧ (¬ (ah_R h a0 0) = 0 → ((vp_in x1 (ah_ln h (ah_R h a0 0)) → ∀ h22 : ah_T, h22 = ah_wI h (ah_R h a0 0) x1.toNatClampNeg (vp_nar .short x2.toInt32.toInt16.toInt32) → ah_ext h h22 → Q none h22) ∧ (¬ vp_in x1 (ah_ln h (ah_R h a0 0)) → ah_ln h (ah_R h a0 0) < 2 ^ 31 ∧ (3 ≤ ah_rc h ∧ 222 ≤ ah_rs h) ∧ E (ah_sz h + 2) (ah_exn h 1 3 222)))))) ∧ ((ah_I h a0 1) = 0 → ((ah_R h a0 0) = 0 ∨ ah_kd h (ah_R h a0 0) = 42) ∧ ((ah_R h a0 0) = 0 → (1 ≤ ah_rc h ∧ 8 ≤ ah_rs h) ∧ E (ah_sz h) (ah_exn h 0 1 8)) ∧ (¬ (ah_R h a0 0) = 0 → ((vp_in x1 (ah_ln h (ah_R h a0 0)) → ∀ h28 : ah_T, h28 = ah_wI h (ah_R h a0 0) x1.toNatClampNeg (vp_nar .byte x2.toInt32.toInt8.toInt32) → ah_ext h h28 → Q none h28) ∧ (¬ vp_in x1 (ah_ln h (ah_R h a0 0)) → ah_ln h (ah_R h a0 0) < 2 ^ 31 ∧ (3 ≤ ah_rc h ∧ 222 ≤ ah_rs h) ∧ E (ah_sz h + 2) (ah_exn h 1 3 222)))))) : MX G mi_X7_set (d + 40) 0 [some (rv a0), some (iv x1), some (jv x2), none] [] h Q E := by
  refine mx_aload_n dX7_set_0 rfl rfl ?_
  obtain ⟨k1, H⟩ := H
  refine mx_get 7 1 (ref := "PrairiePool$Tray") cl_7 (Nat.le_of_ble_eq_true rfl) (Or.inl q453) (Or.inl rfl) dX7_set_1 (fv_7_1 _ _) k1 ?_
  refine mx_if_ne (tgt := 22) dX7_set_4 rfl (fun c2 => ?_) (fun c2 => ?_)
  · have H := H.1 c2
    refine mx_aload_n dX7_set_22 rfl rfl ?_
    refine mx_get 7 1 (ref := "PrairiePool$Tray") cl_7 (Nat.le_of_ble_eq_true rfl) (Or.inl q453) (Or.inl rfl) dX7_set_23 (fv_7_1 _ _) k1 ?_
    refine mx_iconst dX7_set_26 ic_1 ?_
    refine mx_icmp_ne (tgt := 45) dX7_set_27 rfl (fun c3 => ?_) (fun c3 => ?_)
    · have H := H.1 c3
      refine mx_aload_n dX7_set_45 rfl rfl ?_
      refine mx_get 7 1 (ref := "PrairiePool$Tray") cl_7 (Nat.le_of_ble_eq_true rfl) (Or.inl q453) (Or.inl rfl) dX7_set_46 (fv_7_1 _ _) k1 ?_
      refine mx_iconst dX7_set_49 ic_2 ?_
      refine mx_icmp_ne (tgt := 67) dX7_set_50 rfl (fun c4 => ?_) (fun c4 => ?_)
      · have H := H.1 c4
        refine mx_aload_n dX7_set_67 rfl rfl ?_
        refine mx_get 7 0 (ref := "PrairiePool$Tray") cl_7 (Nat.le_of_ble_eq_true rfl) (Or.inl q451) (Or.inl rfl) dX7_set_68 (fv_7_0 _ _) k1 ?_
        obtain ⟨k5, H⟩ := H
        refine mx_castA 1 (by decide) (by decide +kernel) q728 dX7_set_71 k5 ?_
        refine mx_iload_n dX7_set_74 rfl rfl ?_
        refine mx_lload_n dX7_set_75 rfl rfl ?_
        by_cases c6 : (ah_R h a0 0) = 0
        · have H := H.1 c6
          rw [c6]
          exact mx_nul_lastore dX7_set_76 rfl (Nat.le_add_left 40 d) (Nat.le_of_ble_eq_true rfl) H.1 H.2
        have H := H.2 c6
        have k7 := k5.resolve_left c6
        by_cases c8 : vp_in x1 (ah_ln h (ah_R h a0 0))
        rotate_left
        · have H := H.2 c8
          exact mx_out_lastore 1 dX7_set_76 rfl (Nat.le_add_left 40 d) (Nat.le_of_ble_eq_true rfl) (by decide) k7 c8 H.1 H.2.1 H.2.2
        have H := H.1 c8
        have k9 : aok h 41 (ah_R h a0 0) x1 := ⟨k7, c8⟩
        refine my_last dX7_set_76 rfl k9 ?_
        refine mx_nmJ  (fun h10 eh10 Xh10 Kh10 Lh10 => ?_)
        have H := H h10 eh10 Xh10
        exact mx_vret rfl dX7_set_77 H
      · have H := H.2 c4
        refine mx_aload_n dX7_set_53 rfl rfl ?_
        refine mx_get 7 0 (ref := "PrairiePool$Tray") cl_7 (Nat.le_of_ble_eq_true rfl) (Or.inl q451) (Or.inl rfl) dX7_set_54 (fv_7_0 _ _) k1 ?_
        obtain ⟨k11, H⟩ := H
        refine mx_castA 0 (by decide) (by decide +kernel) q727 dX7_set_57 k11 ?_
        refine mx_iload_n dX7_set_60 rfl rfl ?_
        refine mx_lload_n dX7_set_61 rfl rfl ?_
        refine mx_l2i dX7_set_62 ?_
        by_cases c12 : (ah_R h a0 0) = 0
        · have H := H.1 c12
          rw [c12]
          exact mx_nul_iastore dX7_set_63 rfl (Nat.le_add_left 40 d) (Nat.le_of_ble_eq_true rfl) H.1 H.2
        have H := H.2 c12
        have k13 := k11.resolve_left c12
        by_cases c14 : vp_in x1 (ah_ln h (ah_R h a0 0))
        rotate_left
        · have H := H.2 c14
          exact mx_out_iastore 0 dX7_set_63 rfl (Nat.le_add_left 40 d) (Nat.le_of_ble_eq_true rfl) (by decide) k13 c14 H.1 H.2.1 H.2.2
        have H := H.1 c14
        have k15 : aok h 40 (ah_R h a0 0) x1 := ⟨k13, c14⟩
        refine my_iast dX7_set_63 rfl k15 ?_
        refine mx_nmI  (fun h16 eh16 Xh16 Kh16 Lh16 => ?_)
        have H := H h16 eh16 Xh16
        refine mx_goto (tgt := 77) dX7_set_64 rfl ?_
        exact mx_vret rfl dX7_set_77 H
    · have H := H.2 c3
      refine mx_aload_n dX7_set_30 rfl rfl ?_
      refine mx_get 7 0 (ref := "PrairiePool$Tray") cl_7 (Nat.le_of_ble_eq_true rfl) (Or.inl q451) (Or.inl rfl) dX7_set_31 (fv_7_0 _ _) k1 ?_
      obtain ⟨k17, H⟩ := H
      refine mx_castA 3 (by decide) (by decide +kernel) q726 dX7_set_34 k17 ?_
      refine mx_iload_n dX7_set_37 rfl rfl ?_
      refine mx_lload_n dX7_set_38 rfl rfl ?_
      refine mx_l2i dX7_set_39 ?_
      refine mx_i2s dX7_set_40 ?_
      by_cases c18 : (ah_R h a0 0) = 0
      · have H := H.1 c18
        rw [c18]
        exact mx_nul_sastore dX7_set_41 rfl (Nat.le_add_left 40 d) (Nat.le_of_ble_eq_true rfl) H.1 H.2
      have H := H.2 c18
      have k19 := k17.resolve_left c18
      by_cases c20 : vp_in x1 (ah_ln h (ah_R h a0 0))
      rotate_left
      · have H := H.2 c20
        exact mx_out_sastore 3 dX7_set_41 rfl (Nat.le_add_left 40 d) (Nat.le_of_ble_eq_true rfl) (by decide) k19 c20 H.1 H.2.1 H.2.2
      have H := H.1 c20
      have k21 : aok h 43 (ah_R h a0 0) x1 := ⟨k19, c20⟩
      refine my_sast dX7_set_41 rfl k21 ?_
      refine mx_nmI  (fun h22 eh22 Xh22 Kh22 Lh22 => ?_)
      have H := H h22 eh22 Xh22
      refine mx_goto (tgt := 77) dX7_set_42 rfl ?_
      exact mx_vret rfl dX7_set_77 H
  · have H := H.2 c2
    refine mx_aload_n dX7_set_7 rfl rfl ?_
    refine mx_get 7 0 (ref := "PrairiePool$Tray") cl_7 (Nat.le_of_ble_eq_true rfl) (Or.inl q451) (Or.inl rfl) dX7_set_8 (fv_7_0 _ _) k1 ?_
    obtain ⟨k23, H⟩ := H
    refine mx_castA 2 (by decide) (by decide +kernel) q725 dX7_set_11 k23 ?_
    refine mx_iload_n dX7_set_14 rfl rfl ?_
    refine mx_lload_n dX7_set_15 rfl rfl ?_
    refine mx_l2i dX7_set_16 ?_
    refine mx_i2b dX7_set_17 ?_
    by_cases c24 : (ah_R h a0 0) = 0
    · have H := H.1 c24
      rw [c24]
      exact mx_nul_bastore dX7_set_18 rfl (Nat.le_add_left 40 d) (Nat.le_of_ble_eq_true rfl) H.1 H.2
    have H := H.2 c24
    have k25 := k23.resolve_left c24
    by_cases c26 : vp_in x1 (ah_ln h (ah_R h a0 0))
    rotate_left
    · have H := H.2 c26
      exact mx_out_bastore 2 dX7_set_18 rfl (Nat.le_add_left 40 d) (Nat.le_of_ble_eq_true rfl) (by decide) k25 c26 H.1 H.2.1 H.2.2
    have H := H.1 c26
    have k27 : aok h 42 (ah_R h a0 0) x1 := ⟨k25, c26⟩
    refine my_bast dX7_set_18 rfl k27 ?_
    refine mx_nmI  (fun h28 eh28 Xh28 Kh28 Lh28 => ?_)
    have H := H h28 eh28 Xh28
    refine mx_goto (tgt := 77) dX7_set_19 rfl ?_
    exact mx_vret rfl dX7_set_77 H
theorem dX7_get_0 : decode mi_X7_get.2.1 0 = .ok (.aload_n 0, 1) := by decide +kernel
theorem dX7_get_1 : decode mi_X7_get.2.1 1 = .ok (.getfield 13, 3) := by decide +kernel
theorem dX7_get_4 : decode mi_X7_get.2.1 4 = .ok (.ifCond .ne 16, 3) := by decide +kernel
theorem dX7_get_7 : decode mi_X7_get.2.1 7 = .ok (.aload_n 0, 1) := by decide +kernel
theorem dX7_get_8 : decode mi_X7_get.2.1 8 = .ok (.getfield 7, 3) := by decide +kernel
theorem dX7_get_11 : decode mi_X7_get.2.1 11 = .ok (.checkcast 17, 3) := by decide +kernel
theorem dX7_get_14 : decode mi_X7_get.2.1 14 = .ok (.iload_n 1, 1) := by decide +kernel
theorem dX7_get_15 : decode mi_X7_get.2.1 15 = .ok (.baload, 1) := by decide +kernel
theorem dX7_get_16 : decode mi_X7_get.2.1 16 = .ok (.i2l, 1) := by decide +kernel
theorem dX7_get_17 : decode mi_X7_get.2.1 17 = .ok (.goto 54, 3) := by decide +kernel
theorem dX7_get_20 : decode mi_X7_get.2.1 20 = .ok (.aload_n 0, 1) := by decide +kernel
theorem dX7_get_21 : decode mi_X7_get.2.1 21 = .ok (.getfield 13, 3) := by decide +kernel
theorem dX7_get_24 : decode mi_X7_get.2.1 24 = .ok (.iconst 1, 1) := by decide +kernel
theorem dX7_get_25 : decode mi_X7_get.2.1 25 = .ok (.if_icmp .ne 16, 3) := by decide +kernel
theorem dX7_get_28 : decode mi_X7_get.2.1 28 = .ok (.aload_n 0, 1) := by decide +kernel
theorem dX7_get_29 : decode mi_X7_get.2.1 29 = .ok (.getfield 7, 3) := by decide +kernel
theorem dX7_get_32 : decode mi_X7_get.2.1 32 = .ok (.checkcast 19, 3) := by decide +kernel
theorem dX7_get_35 : decode mi_X7_get.2.1 35 = .ok (.iload_n 1, 1) := by decide +kernel
theorem dX7_get_36 : decode mi_X7_get.2.1 36 = .ok (.saload, 1) := by decide +kernel
theorem dX7_get_37 : decode mi_X7_get.2.1 37 = .ok (.i2l, 1) := by decide +kernel
theorem dX7_get_38 : decode mi_X7_get.2.1 38 = .ok (.goto 33, 3) := by decide +kernel
theorem dX7_get_41 : decode mi_X7_get.2.1 41 = .ok (.aload_n 0, 1) := by decide +kernel
theorem dX7_get_42 : decode mi_X7_get.2.1 42 = .ok (.getfield 13, 3) := by decide +kernel
theorem dX7_get_45 : decode mi_X7_get.2.1 45 = .ok (.iconst 2, 1) := by decide +kernel
theorem dX7_get_46 : decode mi_X7_get.2.1 46 = .ok (.if_icmp .ne 16, 3) := by decide +kernel
theorem dX7_get_49 : decode mi_X7_get.2.1 49 = .ok (.aload_n 0, 1) := by decide +kernel
theorem dX7_get_50 : decode mi_X7_get.2.1 50 = .ok (.getfield 7, 3) := by decide +kernel
theorem dX7_get_53 : decode mi_X7_get.2.1 53 = .ok (.checkcast 21, 3) := by decide +kernel
theorem dX7_get_56 : decode mi_X7_get.2.1 56 = .ok (.iload_n 1, 1) := by decide +kernel
theorem dX7_get_57 : decode mi_X7_get.2.1 57 = .ok (.iaload, 1) := by decide +kernel
theorem dX7_get_58 : decode mi_X7_get.2.1 58 = .ok (.i2l, 1) := by decide +kernel
theorem dX7_get_59 : decode mi_X7_get.2.1 59 = .ok (.goto 12, 3) := by decide +kernel
theorem dX7_get_62 : decode mi_X7_get.2.1 62 = .ok (.aload_n 0, 1) := by decide +kernel
theorem dX7_get_63 : decode mi_X7_get.2.1 63 = .ok (.getfield 7, 3) := by decide +kernel
theorem dX7_get_66 : decode mi_X7_get.2.1 66 = .ok (.checkcast 23, 3) := by decide +kernel
theorem dX7_get_69 : decode mi_X7_get.2.1 69 = .ok (.iload_n 1, 1) := by decide +kernel
theorem dX7_get_70 : decode mi_X7_get.2.1 70 = .ok (.laload, 1) := by decide +kernel
theorem dX7_get_71 : decode mi_X7_get.2.1 71 = .ok (.lreturn, 1) := by decide +kernel
theorem v_X7_get {G : ma_G} {d : Nat} {a0 : Nat} {x1 : Int32} {h : ah_T} {Q : Option ma_V → ah_T → Prop} {E : Nat → ah_T → Prop}  (H : ah_kd h a0 = 8 ∧ (¬ (ah_I h a0 1) = 0 → (¬ (ah_I h a0 1) = (1 : Int32) → (¬ (ah_I h a0 1) = (2 : Int32) → ((ah_R h a0 0) = 0 ∨ ah_kd h (ah_R h a0 0) = 41) ∧ ((ah_R h a0 0) = 0 → (1 ≤ ah_rc h ∧ 8 ≤ ah_rs h) ∧ E (ah_sz h) (ah_exn h 0 1 8)) ∧ (¬ (ah_R h a0 0) = 0 → ((vp_in x1 (ah_ln h (ah_R h a0 0)) → Q (some (jv (ah_J h (ah_R h a0 0) x1.toNatClampNeg))) h) ∧ (¬ vp_in x1 (ah_ln h (ah_R h a0 0)) → ah_ln h (ah_R h a0 0) < 2 ^ 31 ∧ (3 ≤ ah_rc h ∧ 222 ≤ ah_rs h) ∧ E (ah_sz h + 2) (ah_exn h 1 3 222))))) ∧ ((ah_I h a0 1) = (2 : Int32) → ((ah_R h a0 0) = 0 ∨ ah_kd h (ah_R h a0 0) = 40) ∧ ((ah_R h a0 0) = 0 → (1 ≤ ah_rc h ∧ 8 ≤ ah_rs h) ∧ E (ah_sz h) (ah_exn h 0 1 8)) ∧ (¬ (ah_R h a0 0) = 0 → ((vp_in x1 (ah_ln h (ah_R h a0 0)) → Q (some (jv (ah_I h (ah_R h a0 0) x1.toNatClampNeg).toInt64)) h) ∧ (¬ vp_in x1 (ah_ln h (ah_R h a0 0)) → ah_ln h (ah_R h a0 0) < 2 ^ 31 ∧ (3 ≤ ah_rc h ∧ 222 ≤ ah_rs h) ∧ E (ah_sz h + 2) (ah_exn h 1 3 222)))))) ∧ ((ah_I h a0 1) = (1 : Int32) → ((ah_R h a0 0) = 0 ∨ ah_kd h (ah_R h a0 0) = 43) ∧ ((ah_R h a0 0) = 0 → (1 ≤ ah_rc h ∧ 8 ≤ ah_rs h) ∧ E (ah_sz h) (ah_exn h 0 1 8)) ∧ (¬ (ah_R h a0 0) = 0 → ((vp_in x1 (ah_ln h (ah_R h a0 0)) → Q (some (jv (ah_I h (ah_R h a0 0) x1.toNatClampNeg).toInt64)) h) ∧ (¬ vp_in x1 (ah_ln h (ah_R h a0 0)) → ah_ln h (ah_R h a0 0) < 2 ^ 31 ∧ (3 ≤ ah_rc h ∧ 222 ≤ ah_rs h) ∧ E (ah_sz h + 2) (ah_exn h 1 3 222)))))) ∧ ((ah_I h a0 1) = 0 → ((ah_R h a0 0) = 0 ∨ ah_kd h (ah_R h a0 0) = 42) ∧ ((ah_R h a0 0) = 0 → (1 ≤ ah_rc h ∧ 8 ≤ ah_rs h) ∧ E (ah_sz h) (ah_exn h 0 1 8)) ∧ (¬ (ah_R h a0 0) = 0 → ((vp_in x1 (ah_ln h (ah_R h a0 0)) → Q (some (jv (ah_I h (ah_R h a0 0) x1.toNatClampNeg).toInt64)) h) ∧ (¬ vp_in x1 (ah_ln h (ah_R h a0 0)) → ah_ln h (ah_R h a0 0) < 2 ^ 31 ∧ (3 ≤ ah_rc h ∧ 222 ≤ ah_rs h) ∧ E (ah_sz h + 2) (ah_exn h 1 3 222)))))) : MX G mi_X7_get (d + 40) 0 [some (rv a0), some (iv x1)] [] h Q E := by
  refine mx_aload_n dX7_get_0 rfl rfl ?_
  obtain ⟨k1, H⟩ := H
  refine mx_get 7 1 (ref := "PrairiePool$Tray") cl_7 (Nat.le_of_ble_eq_true rfl) (Or.inl q453) (Or.inl rfl) dX7_get_1 (fv_7_1 _ _) k1 ?_
  refine mx_if_ne (tgt := 20) dX7_get_4 rfl (fun c2 => ?_) (fun c2 => ?_)
  · have H := H.1 c2
    refine mx_aload_n dX7_get_20 rfl rfl ?_
    refine mx_get 7 1 (ref := "PrairiePool$Tray") cl_7 (Nat.le_of_ble_eq_true rfl) (Or.inl q453) (Or.inl rfl) dX7_get_21 (fv_7_1 _ _) k1 ?_
    refine mx_iconst dX7_get_24 ic_1 ?_
    refine mx_icmp_ne (tgt := 41) dX7_get_25 rfl (fun c3 => ?_) (fun c3 => ?_)
    · have H := H.1 c3
      refine mx_aload_n dX7_get_41 rfl rfl ?_
      refine mx_get 7 1 (ref := "PrairiePool$Tray") cl_7 (Nat.le_of_ble_eq_true rfl) (Or.inl q453) (Or.inl rfl) dX7_get_42 (fv_7_1 _ _) k1 ?_
      refine mx_iconst dX7_get_45 ic_2 ?_
      refine mx_icmp_ne (tgt := 62) dX7_get_46 rfl (fun c4 => ?_) (fun c4 => ?_)
      · have H := H.1 c4
        refine mx_aload_n dX7_get_62 rfl rfl ?_
        refine mx_get 7 0 (ref := "PrairiePool$Tray") cl_7 (Nat.le_of_ble_eq_true rfl) (Or.inl q451) (Or.inl rfl) dX7_get_63 (fv_7_0 _ _) k1 ?_
        obtain ⟨k5, H⟩ := H
        refine mx_castA 1 (by decide) (by decide +kernel) q728 dX7_get_66 k5 ?_
        refine mx_iload_n dX7_get_69 rfl rfl ?_
        by_cases c6 : (ah_R h a0 0) = 0
        · have H := H.1 c6
          rw [c6]
          exact mx_nul_laload dX7_get_70 rfl (Nat.le_add_left 40 d) (Nat.le_of_ble_eq_true rfl) H.1 H.2
        have H := H.2 c6
        have k7 := k5.resolve_left c6
        by_cases c8 : vp_in x1 (ah_ln h (ah_R h a0 0))
        rotate_left
        · have H := H.2 c8
          exact mx_out_laload 1 dX7_get_70 rfl (Nat.le_add_left 40 d) (Nat.le_of_ble_eq_true rfl) (by decide) k7 c8 H.1 H.2.1 H.2.2
        have H := H.1 c8
        have k9 : aok h 41 (ah_R h a0 0) x1 := ⟨k7, c8⟩
        refine my_lald dX7_get_70 rfl k9 ?_
        exact mx_lret rfl dX7_get_71 H
      · have H := H.2 c4
        refine mx_aload_n dX7_get_49 rfl rfl ?_
        refine mx_get 7 0 (ref := "PrairiePool$Tray") cl_7 (Nat.le_of_ble_eq_true rfl) (Or.inl q451) (Or.inl rfl) dX7_get_50 (fv_7_0 _ _) k1 ?_
        obtain ⟨k10, H⟩ := H
        refine mx_castA 0 (by decide) (by decide +kernel) q727 dX7_get_53 k10 ?_
        refine mx_iload_n dX7_get_56 rfl rfl ?_
        by_cases c11 : (ah_R h a0 0) = 0
        · have H := H.1 c11
          rw [c11]
          exact mx_nul_iaload dX7_get_57 rfl (Nat.le_add_left 40 d) (Nat.le_of_ble_eq_true rfl) H.1 H.2
        have H := H.2 c11
        have k12 := k10.resolve_left c11
        by_cases c13 : vp_in x1 (ah_ln h (ah_R h a0 0))
        rotate_left
        · have H := H.2 c13
          exact mx_out_iaload 0 dX7_get_57 rfl (Nat.le_add_left 40 d) (Nat.le_of_ble_eq_true rfl) (by decide) k12 c13 H.1 H.2.1 H.2.2
        have H := H.1 c13
        have k14 : aok h 40 (ah_R h a0 0) x1 := ⟨k12, c13⟩
        refine my_iald dX7_get_57 rfl k14 ?_
        refine mx_i2l dX7_get_58 ?_
        refine mx_goto (tgt := 71) dX7_get_59 rfl ?_
        exact mx_lret rfl dX7_get_71 H
    · have H := H.2 c3
      refine mx_aload_n dX7_get_28 rfl rfl ?_
      refine mx_get 7 0 (ref := "PrairiePool$Tray") cl_7 (Nat.le_of_ble_eq_true rfl) (Or.inl q451) (Or.inl rfl) dX7_get_29 (fv_7_0 _ _) k1 ?_
      obtain ⟨k15, H⟩ := H
      refine mx_castA 3 (by decide) (by decide +kernel) q726 dX7_get_32 k15 ?_
      refine mx_iload_n dX7_get_35 rfl rfl ?_
      by_cases c16 : (ah_R h a0 0) = 0
      · have H := H.1 c16
        rw [c16]
        exact mx_nul_saload dX7_get_36 rfl (Nat.le_add_left 40 d) (Nat.le_of_ble_eq_true rfl) H.1 H.2
      have H := H.2 c16
      have k17 := k15.resolve_left c16
      by_cases c18 : vp_in x1 (ah_ln h (ah_R h a0 0))
      rotate_left
      · have H := H.2 c18
        exact mx_out_saload 3 dX7_get_36 rfl (Nat.le_add_left 40 d) (Nat.le_of_ble_eq_true rfl) (by decide) k17 c18 H.1 H.2.1 H.2.2
      have H := H.1 c18
      have k19 : aok h 43 (ah_R h a0 0) x1 := ⟨k17, c18⟩
      refine my_sald dX7_get_36 rfl k19 ?_
      refine mx_i2l dX7_get_37 ?_
      refine mx_goto (tgt := 71) dX7_get_38 rfl ?_
      exact mx_lret rfl dX7_get_71 H
  · have H := H.2 c2
    refine mx_aload_n dX7_get_7 rfl rfl ?_
    refine mx_get 7 0 (ref := "PrairiePool$Tray") cl_7 (Nat.le_of_ble_eq_true rfl) (Or.inl q451) (Or.inl rfl) dX7_get_8 (fv_7_0 _ _) k1 ?_
    obtain ⟨k20, H⟩ := H
    refine mx_castA 2 (by decide) (by decide +kernel) q725 dX7_get_11 k20 ?_
    refine mx_iload_n dX7_get_14 rfl rfl ?_
    by_cases c21 : (ah_R h a0 0) = 0
    · have H := H.1 c21
      rw [c21]
      exact mx_nul_baload dX7_get_15 rfl (Nat.le_add_left 40 d) (Nat.le_of_ble_eq_true rfl) H.1 H.2
    have H := H.2 c21
    have k22 := k20.resolve_left c21
    by_cases c23 : vp_in x1 (ah_ln h (ah_R h a0 0))
    rotate_left
    · have H := H.2 c23
      exact mx_out_baload 2 dX7_get_15 rfl (Nat.le_add_left 40 d) (Nat.le_of_ble_eq_true rfl) (by decide) k22 c23 H.1 H.2.1 H.2.2
    have H := H.1 c23
    have k24 : aok h 42 (ah_R h a0 0) x1 := ⟨k22, c23⟩
    refine my_bald dX7_get_15 rfl k24 ?_
    refine mx_i2l dX7_get_16 ?_
    refine mx_goto (tgt := 71) dX7_get_17 rfl ?_
    exact mx_lret rfl dX7_get_71 H
theorem dX7_many_0 : decode mi_X7_many.2.1 0 = .ok (.aload_n 0, 1) := by decide +kernel
theorem dX7_many_1 : decode mi_X7_many.2.1 1 = .ok (.getfield 13, 3) := by decide +kernel
theorem dX7_many_4 : decode mi_X7_many.2.1 4 = .ok (.ifCond .ne 14, 3) := by decide +kernel
theorem dX7_many_7 : decode mi_X7_many.2.1 7 = .ok (.aload_n 0, 1) := by decide +kernel
theorem dX7_many_8 : decode mi_X7_many.2.1 8 = .ok (.getfield 7, 3) := by decide +kernel
theorem dX7_many_11 : decode mi_X7_many.2.1 11 = .ok (.checkcast 17, 3) := by decide +kernel
theorem dX7_many_14 : decode mi_X7_many.2.1 14 = .ok (.arraylength, 1) := by decide +kernel
theorem dX7_many_15 : decode mi_X7_many.2.1 15 = .ok (.goto 49, 3) := by decide +kernel
theorem dX7_many_18 : decode mi_X7_many.2.1 18 = .ok (.aload_n 0, 1) := by decide +kernel
theorem dX7_many_19 : decode mi_X7_many.2.1 19 = .ok (.getfield 13, 3) := by decide +kernel
theorem dX7_many_22 : decode mi_X7_many.2.1 22 = .ok (.iconst 1, 1) := by decide +kernel
theorem dX7_many_23 : decode mi_X7_many.2.1 23 = .ok (.if_icmp .ne 14, 3) := by decide +kernel
theorem dX7_many_26 : decode mi_X7_many.2.1 26 = .ok (.aload_n 0, 1) := by decide +kernel
theorem dX7_many_27 : decode mi_X7_many.2.1 27 = .ok (.getfield 7, 3) := by decide +kernel
theorem dX7_many_30 : decode mi_X7_many.2.1 30 = .ok (.checkcast 19, 3) := by decide +kernel
theorem dX7_many_33 : decode mi_X7_many.2.1 33 = .ok (.arraylength, 1) := by decide +kernel
theorem dX7_many_34 : decode mi_X7_many.2.1 34 = .ok (.goto 30, 3) := by decide +kernel
theorem dX7_many_37 : decode mi_X7_many.2.1 37 = .ok (.aload_n 0, 1) := by decide +kernel
theorem dX7_many_38 : decode mi_X7_many.2.1 38 = .ok (.getfield 13, 3) := by decide +kernel
theorem dX7_many_41 : decode mi_X7_many.2.1 41 = .ok (.iconst 2, 1) := by decide +kernel
theorem dX7_many_42 : decode mi_X7_many.2.1 42 = .ok (.if_icmp .ne 14, 3) := by decide +kernel
theorem dX7_many_45 : decode mi_X7_many.2.1 45 = .ok (.aload_n 0, 1) := by decide +kernel
theorem dX7_many_46 : decode mi_X7_many.2.1 46 = .ok (.getfield 7, 3) := by decide +kernel
theorem dX7_many_49 : decode mi_X7_many.2.1 49 = .ok (.checkcast 21, 3) := by decide +kernel
theorem dX7_many_52 : decode mi_X7_many.2.1 52 = .ok (.arraylength, 1) := by decide +kernel
theorem dX7_many_53 : decode mi_X7_many.2.1 53 = .ok (.goto 11, 3) := by decide +kernel
theorem dX7_many_56 : decode mi_X7_many.2.1 56 = .ok (.aload_n 0, 1) := by decide +kernel
theorem dX7_many_57 : decode mi_X7_many.2.1 57 = .ok (.getfield 7, 3) := by decide +kernel
theorem dX7_many_60 : decode mi_X7_many.2.1 60 = .ok (.checkcast 23, 3) := by decide +kernel
theorem dX7_many_63 : decode mi_X7_many.2.1 63 = .ok (.arraylength, 1) := by decide +kernel
theorem dX7_many_64 : decode mi_X7_many.2.1 64 = .ok (.ireturn, 1) := by decide +kernel
theorem v_X7_many {G : ma_G} {d : Nat} {a0 : Nat} {h : ah_T} {Q : Option ma_V → ah_T → Prop} {E : Nat → ah_T → Prop}  (H : ah_kd h a0 = 8 ∧ (¬ (ah_I h a0 1) = 0 → (¬ (ah_I h a0 1) = (1 : Int32) → (¬ (ah_I h a0 1) = (2 : Int32) → ((ah_R h a0 0) = 0 ∨ ah_kd h (ah_R h a0 0) = 41) ∧ ah_kd h (ah_R h a0 0) = 41 ∧ Q (some (iv (nI (ah_ln h (ah_R h a0 0))))) h) ∧ ((ah_I h a0 1) = (2 : Int32) → ((ah_R h a0 0) = 0 ∨ ah_kd h (ah_R h a0 0) = 40) ∧ ah_kd h (ah_R h a0 0) = 40 ∧ Q (some (iv (nI (ah_ln h (ah_R h a0 0))))) h)) ∧ ((ah_I h a0 1) = (1 : Int32) → ((ah_R h a0 0) = 0 ∨ ah_kd h (ah_R h a0 0) = 43) ∧ ah_kd h (ah_R h a0 0) = 43 ∧ Q (some (iv (nI (ah_ln h (ah_R h a0 0))))) h)) ∧ ((ah_I h a0 1) = 0 → ((ah_R h a0 0) = 0 ∨ ah_kd h (ah_R h a0 0) = 42) ∧ ah_kd h (ah_R h a0 0) = 42 ∧ Q (some (iv (nI (ah_ln h (ah_R h a0 0))))) h)) : MX G mi_X7_many d 0 [some (rv a0)] [] h Q E := by
  refine mx_aload_n dX7_many_0 rfl rfl ?_
  obtain ⟨k1, H⟩ := H
  refine mx_get 7 1 (ref := "PrairiePool$Tray") cl_7 (Nat.le_of_ble_eq_true rfl) (Or.inl q453) (Or.inl rfl) dX7_many_1 (fv_7_1 _ _) k1 ?_
  refine mx_if_ne (tgt := 18) dX7_many_4 rfl (fun c2 => ?_) (fun c2 => ?_)
  · have H := H.1 c2
    refine mx_aload_n dX7_many_18 rfl rfl ?_
    refine mx_get 7 1 (ref := "PrairiePool$Tray") cl_7 (Nat.le_of_ble_eq_true rfl) (Or.inl q453) (Or.inl rfl) dX7_many_19 (fv_7_1 _ _) k1 ?_
    refine mx_iconst dX7_many_22 ic_1 ?_
    refine mx_icmp_ne (tgt := 37) dX7_many_23 rfl (fun c3 => ?_) (fun c3 => ?_)
    · have H := H.1 c3
      refine mx_aload_n dX7_many_37 rfl rfl ?_
      refine mx_get 7 1 (ref := "PrairiePool$Tray") cl_7 (Nat.le_of_ble_eq_true rfl) (Or.inl q453) (Or.inl rfl) dX7_many_38 (fv_7_1 _ _) k1 ?_
      refine mx_iconst dX7_many_41 ic_2 ?_
      refine mx_icmp_ne (tgt := 56) dX7_many_42 rfl (fun c4 => ?_) (fun c4 => ?_)
      · have H := H.1 c4
        refine mx_aload_n dX7_many_56 rfl rfl ?_
        refine mx_get 7 0 (ref := "PrairiePool$Tray") cl_7 (Nat.le_of_ble_eq_true rfl) (Or.inl q451) (Or.inl rfl) dX7_many_57 (fv_7_0 _ _) k1 ?_
        obtain ⟨k5, H⟩ := H
        refine mx_castA 1 (by decide) (by decide +kernel) q728 dX7_many_60 k5 ?_
        obtain ⟨k6, H⟩ := H
        refine mx_alen 1 dX7_many_63 (Nat.le_of_ble_eq_true rfl) k6 ?_
        exact mx_iret rfl dX7_many_64 H
      · have H := H.2 c4
        refine mx_aload_n dX7_many_45 rfl rfl ?_
        refine mx_get 7 0 (ref := "PrairiePool$Tray") cl_7 (Nat.le_of_ble_eq_true rfl) (Or.inl q451) (Or.inl rfl) dX7_many_46 (fv_7_0 _ _) k1 ?_
        obtain ⟨k7, H⟩ := H
        refine mx_castA 0 (by decide) (by decide +kernel) q727 dX7_many_49 k7 ?_
        obtain ⟨k8, H⟩ := H
        refine mx_alen 0 dX7_many_52 (Nat.le_of_ble_eq_true rfl) k8 ?_
        refine mx_goto (tgt := 64) dX7_many_53 rfl ?_
        exact mx_iret rfl dX7_many_64 H
    · have H := H.2 c3
      refine mx_aload_n dX7_many_26 rfl rfl ?_
      refine mx_get 7 0 (ref := "PrairiePool$Tray") cl_7 (Nat.le_of_ble_eq_true rfl) (Or.inl q451) (Or.inl rfl) dX7_many_27 (fv_7_0 _ _) k1 ?_
      obtain ⟨k9, H⟩ := H
      refine mx_castA 3 (by decide) (by decide +kernel) q726 dX7_many_30 k9 ?_
      obtain ⟨k10, H⟩ := H
      refine mx_alen 3 dX7_many_33 (Nat.le_of_ble_eq_true rfl) k10 ?_
      refine mx_goto (tgt := 64) dX7_many_34 rfl ?_
      exact mx_iret rfl dX7_many_64 H
  · have H := H.2 c2
    refine mx_aload_n dX7_many_7 rfl rfl ?_
    refine mx_get 7 0 (ref := "PrairiePool$Tray") cl_7 (Nat.le_of_ble_eq_true rfl) (Or.inl q451) (Or.inl rfl) dX7_many_8 (fv_7_0 _ _) k1 ?_
    obtain ⟨k11, H⟩ := H
    refine mx_castA 2 (by decide) (by decide +kernel) q725 dX7_many_11 k11 ?_
    obtain ⟨k12, H⟩ := H
    refine mx_alen 2 dX7_many_14 (Nat.le_of_ble_eq_true rfl) k12 ?_
    refine mx_goto (tgt := 64) dX7_many_15 rfl ?_
    exact mx_iret rfl dX7_many_64 H

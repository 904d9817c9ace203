def wy_paid (S : MS) (x1 x2 x3 x4 : Int32) : Int32 := if (0 ≤ x2.toInt ∧ x2.toInt ≤ 5) then (if (0 ≤ x1.toInt ∧ x1.toInt ≤ 9) ∧ (0 ≤ x3.toInt ∧ x3.toInt ≤ 2) ∧ (0 ≤ x4.toInt ∧ x4.toInt ≤ 519) then 0 else 5) else 2
theorem c_paid {G : ma_G} {d X : Nat} {h : ah_T} {S : MS} {tx : Nat → List Nat × List PD} {Q : Option ma_V → ah_T → Prop} {E : Nat → ah_T → Prop} {x1 x2 x3 x4 : Int32} (L : LY0 h X) (C : CI0 h X S) (T : CIk G h X S tx)  (Kf : wy_paid S x1 x2 x3 x4 ≠ 0 → ∀ h1, cpo X h h1 (uI S 0 0 (wy_paid S x1 x2 x3 x4)) → Q (some (jv (-1))) h1) (Kg : wy_paid S x1 x2 x3 x4 = 0 → ∀ h1, cpo X h h1 (uI S 0 0 0) → Q (some (jv (paV S tx x1 x2 x3 x4))) h1) : MX G mi_X0_paid (d + 53) 0 [some (rv X), some (iv x1), some (iv x2), some (iv x3), some (iv x4)] [] h Q E := by
  refine v_X0_paid (d := d + 52) L ?_
  refine ⟨fun c1 => ?_, fun c1 => ?_⟩
  · skip
    intro h2_1 eh2_1 Xh2_1
    have w_ : wy_paid S x1 x2 x3 x4 = (2 : Int32) := by
      unfold wy_paid
      simp only [i3_lt, i3_le, i6_lt, i6_le, i3_eq, i3_l, Int32.reduceToInt, Int64.reduceToInt, tm_1, tl_1] at c1
      repeat' split
      all_goals first | rfl | (exfalso; omega)
    subst eh2_1
    exact Kf (by rw [w_]; decide) _ (by rw [w_]; exact cpo.st L C Xh2_1)
  · skip
    refine ⟨fun c2 => ?_, fun c2 => ?_⟩
    · skip
      intro h4_2 eh4_2 Xh4_2
      have w_ : wy_paid S x1 x2 x3 x4 = (2 : Int32) := by
        unfold wy_paid
        simp only [i3_lt, i3_le, i6_lt, i6_le, i3_eq, i3_l, Int32.reduceToInt, Int64.reduceToInt, tm_1, tl_1] at c1 c2
        repeat' split
        all_goals first | rfl | (exfalso; omega)
      subst eh4_2
      exact Kf (by rw [w_]; decide) _ (by rw [w_]; exact cpo.st L C Xh4_2)
    · skip
      refine ⟨fun c3 => ?_, fun c3 => ?_⟩
      · skip
        intro h6_3 eh6_3 Xh6_3
        have w_ : wy_paid S x1 x2 x3 x4 = (5 : Int32) := by
          unfold wy_paid
          simp only [i3_lt, i3_le, i6_lt, i6_le, i3_eq, i3_l, Int32.reduceToInt, Int64.reduceToInt, tm_1, tl_1] at c1 c2 c3
          repeat' split
          all_goals first | rfl | (exfalso; omega)
        subst eh6_3
        exact Kf (by rw [w_]; decide) _ (by rw [w_]; exact cpo.st L C Xh6_3)
      · skip
        refine ⟨fun c4 => ?_, fun c4 => ?_⟩
        · skip
          intro h8_4 eh8_4 Xh8_4
          have w_ : wy_paid S x1 x2 x3 x4 = (5 : Int32) := by
            unfold wy_paid
            simp only [i3_lt, i3_le, i6_lt, i6_le, i3_eq, i3_l, Int32.reduceToInt, Int64.reduceToInt, tm_1, tl_1] at c1 c2 c3 c4
            repeat' split
            all_goals first | rfl | (exfalso; omega)
          subst eh8_4
          exact Kf (by rw [w_]; decide) _ (by rw [w_]; exact cpo.st L C Xh8_4)
        · skip
          refine ⟨fun c5 => ?_, fun c5 => ?_⟩
          · skip
            intro h10_5 eh10_5 Xh10_5
            have w_ : wy_paid S x1 x2 x3 x4 = (5 : Int32) := by
              unfold wy_paid
              simp only [i3_lt, i3_le, i6_lt, i6_le, i3_eq, i3_l, Int32.reduceToInt, Int64.reduceToInt, tm_1, tl_1] at c1 c2 c3 c4 c5
              repeat' split
              all_goals first | rfl | (exfalso; omega)
            subst eh10_5
            exact Kf (by rw [w_]; decide) _ (by rw [w_]; exact cpo.st L C Xh10_5)
          · skip
            refine ⟨fun c6 => ?_, fun c6 => ?_⟩
            · skip
              intro h12_6 eh12_6 Xh12_6
              have w_ : wy_paid S x1 x2 x3 x4 = (5 : Int32) := by
                unfold wy_paid
                simp only [i3_lt, i3_le, i6_lt, i6_le, i3_eq, i3_l, Int32.reduceToInt, Int64.reduceToInt, tm_1, tl_1] at c1 c2 c3 c4 c5 c6
                repeat' split
                all_goals first | rfl | (exfalso; omega)
              subst eh12_6
              exact Kf (by rw [w_]; decide) _ (by rw [w_]; exact cpo.st L C Xh12_6)
            · skip
              refine ⟨fun c7 => ?_, fun c7 => ?_⟩
              · skip
                intro h14_7 eh14_7 Xh14_7
                have w_ : wy_paid S x1 x2 x3 x4 = (5 : Int32) := by
                  unfold wy_paid
                  simp only [i3_lt, i3_le, i6_lt, i6_le, i3_eq, i3_l, Int32.reduceToInt, Int64.reduceToInt, tm_1, tl_1] at c1 c2 c3 c4 c5 c6 c7
                  repeat' split
                  all_goals first | rfl | (exfalso; omega)
                subst eh14_7
                exact Kf (by rw [w_]; decide) _ (by rw [w_]; exact cpo.st L C Xh14_7)
              · skip
                refine ⟨fun c8 => ?_, fun c8 => ?_⟩
                · skip
                  intro h16_8 eh16_8 Xh16_8
                  have w_ : wy_paid S x1 x2 x3 x4 = (5 : Int32) := by
                    unfold wy_paid
                    simp only [i3_lt, i3_le, i6_lt, i6_le, i3_eq, i3_l, Int32.reduceToInt, Int64.reduceToInt, tm_1, tl_1] at c1 c2 c3 c4 c5 c6 c7 c8
                    repeat' split
                    all_goals first | rfl | (exfalso; omega)
                  subst eh16_8
                  exact Kf (by rw [w_]; decide) _ (by rw [w_]; exact cpo.st L C Xh16_8)
                · skip
                  have w_ : wy_paid S x1 x2 x3 x4 = (0 : Int32) := by
                    unfold wy_paid
                    simp only [i3_lt, i3_le, i6_lt, i6_le, i3_eq, i3_l, Int32.reduceToInt, Int64.reduceToInt, tm_1, tl_1] at c1 c2 c3 c4 c5 c6 c7 c8
                    repeat' split
                    all_goals first | rfl | (exfalso; omega)
                  obtain ⟨nx11, nx12⟩ := x_nI (x := x1) (n := 9) (by simp only [i3_lt, i3_le, i6_lt, i6_le, i3_eq, i3_l, Int32.reduceToInt, Int64.reduceToInt, tm_1, tl_1] at c1 c2 c3 c4 c5 c6 c7 c8 ⊢; omega) (by simp only [i3_lt, i3_le, i6_lt, i6_le, i3_eq, i3_l, Int32.reduceToInt, Int64.reduceToInt, tm_1, tl_1] at c1 c2 c3 c4 c5 c6 c7 c8 ⊢; omega)
                  obtain ⟨nx21, nx22⟩ := x_nI (x := x2) (n := 5) (by simp only [i3_lt, i3_le, i6_lt, i6_le, i3_eq, i3_l, Int32.reduceToInt, Int64.reduceToInt, tm_1, tl_1] at c1 c2 c3 c4 c5 c6 c7 c8 ⊢; omega) (by simp only [i3_lt, i3_le, i6_lt, i6_le, i3_eq, i3_l, Int32.reduceToInt, Int64.reduceToInt, tm_1, tl_1] at c1 c2 c3 c4 c5 c6 c7 c8 ⊢; omega)
                  refine c_plays L C T (fun g I _ => ?_)
                  intro _
                  have Lg := I.1.ly L
                  have Cg := C.qf L I.1
                  have Tg := T.qf L I.1
                  have kk := fun g2 (z : qfr X h g2) => Kg w_ _ (z.po L C (c := 0))
                  unfold paV at kk
                  have hj : ah_J g (X + (90 + x2.toNatClampNeg)) x1.toNatClampNeg = lN (PLS S tx x4 (nV S) 16 (10 * x2.toNatClampNeg + x1.toNatClampNeg) 0) := by
                    have := I.2.1.2.2.2.1 (10 * x2.toNatClampNeg + x1.toNatClampNeg) (by omega)
                    rw [show X + 9 + (81 + (10 * x2.toNatClampNeg + x1.toNatClampNeg) / 10) = X + (90 + x2.toNatClampNeg) by omega, show (10 * x2.toNatClampNeg + x1.toNatClampNeg) % 10 = x1.toNatClampNeg by omega] at this
                    exact this
                  have v2 : vp_in x2 6 := by rw [nx21]; exact vp_in_nI (by omega) (by decide)
                  have v1 : vp_in x1 10 := by rw [nx11]; exact vp_in_nI (by omega) (by decide)
                  refine ⟨fun q0 => ⟨fun q1 => ⟨v2, v1, fun h23 e23 _ => ?_⟩, fun q1 => ?_⟩, fun q0 => ⟨v2, v1, fun h29 e29 _ => ?_⟩⟩
                  · have hh := (I.2.1.1 10 (10 * x2.toNatClampNeg + x1.toNatClampNeg) (by omega) (by omega)).2
                    rw [show X + 9 + (97 + 22 * (10 * x2.toNatClampNeg + x1.toNatClampNeg) + 2 * 10) = X + (126 + 22 * (10 * x2.toNatClampNeg + x1.toNatClampNeg)) by omega] at hh
                    have PI4 := (PLS_i (tx := tx) (kn := x4) C.2.2.2.2.2 ⟨C.iF.2, C.iE.2, C.iV.2⟩ (Nat.le_refl (nV S))).2.2.2.1
                    have ig := inA_ge (P := PLS S tx x4 (nV S)) (e := 10) (y := 10 * x2.toNatClampNeg + x1.toNatClampNeg) (by omega)
                    have iv := C.iV.2
                    have k2 := kk g I.1
                    rw [if_neg q0, if_neg q1] at k2
                    rw [hh, nI_l (by omega), e23]; exact k2
                  · rw [nx11, nx21]
                    refine c_heldOf Lg Cg Tg (by omega) (by omega) (fun g2 z2 => ?_)
                    intro _ h26 e26 _
                    have k2 := kk g2 (I.1.tr z2.qf)
                    rw [if_neg q0, if_pos q1] at k2
                    rw [hj, e26]; exact k2
                  · have k2 := kk g I.1
                    rw [if_pos q0] at k2
                    rw [hj, e29]; exact k2
theorem m_paid {G : ma_G} {d M : Nat} {h : ah_T} {S : MS} {tx : Nat → List Nat × List PD} {Q : Option ma_V → ah_T → Prop} {E : Nat → ah_T → Prop} {x1 x2 x3 x4 : Int32} (L : LY8 h M) (eS : mv h M = S) (W : WF S) (B : WB S) (T : TXm S tx)  (Kf : wy_paid S x1 x2 x3 x4 ≠ 0 → ∀ h1, mpo M h h1 (uI S 0 0 (wy_paid S x1 x2 x3 x4)) → Q (some (jv (-1))) h1) (Kg : wy_paid S x1 x2 x3 x4 = 0 → ∀ h1, mpo M h h1 (uI S 0 0 0) → Q (some (jv (paV S tx x1 x2 x3 x4))) h1) : MX G mi_X8_paid (d + 8) 0 [some (rv M), some (iv x1), some (iv x2), some (iv x3), some (iv x4)] [] h Q E := by
  refine v_X8_paid (d := d + 6) L ?_
  intro h1_1 eh1_1 Xh1_1
  intro h2_2 eh2_2 Xh2_2
  refine ⟨fun c1 => ?_, fun c1 => ?_⟩
  · skip
    intro h4_3 eh4_3 Xh4_3
    have w_ : wy_paid S x1 x2 x3 x4 = (2 : Int32) := by
      unfold wy_paid
      simp only [i3_lt, i3_le, i6_lt, i6_le, i3_eq, i3_l, Int32.reduceToInt, Int64.reduceToInt, tm_1, tl_1] at c1
      repeat' split
      all_goals first | rfl | (exfalso; omega)
    subst eh1_1
    subst eh2_2
    subst eh4_3
    exact Kf (by rw [w_]; decide) _ (by rw [w_]; exact mpo.st eS)
  · skip
    refine ⟨fun c2 => ?_, fun c2 => ?_⟩
    · skip
      intro h6_4 eh6_4 Xh6_4
      have w_ : wy_paid S x1 x2 x3 x4 = (2 : Int32) := by
        unfold wy_paid
        simp only [i3_lt, i3_le, i6_lt, i6_le, i3_eq, i3_l, Int32.reduceToInt, Int64.reduceToInt, tm_1, tl_1] at c1 c2
        repeat' split
        all_goals first | rfl | (exfalso; omega)
      subst eh1_1
      subst eh2_2
      subst eh6_4
      exact Kf (by rw [w_]; decide) _ (by rw [w_]; exact mpo.st eS)
    · skip
      refine ⟨fun c3 => ?_, fun c3 => ?_⟩
      · skip
        intro h8_5 eh8_5 Xh8_5
        have w_ : wy_paid S x1 x2 x3 x4 = (5 : Int32) := by
          unfold wy_paid
          simp only [i3_lt, i3_le, i6_lt, i6_le, i3_eq, i3_l, Int32.reduceToInt, Int64.reduceToInt, tm_1, tl_1] at c1 c2 c3
          repeat' split
          all_goals first | rfl | (exfalso; omega)
        subst eh1_1
        subst eh2_2
        subst eh8_5
        exact Kf (by rw [w_]; decide) _ (by rw [w_]; exact mpo.st eS)
      · skip
        refine ⟨fun c4 => ?_, fun c4 => ?_⟩
        · skip
          intro h10_6 eh10_6 Xh10_6
          have w_ : wy_paid S x1 x2 x3 x4 = (5 : Int32) := by
            unfold wy_paid
            simp only [i3_lt, i3_le, i6_lt, i6_le, i3_eq, i3_l, Int32.reduceToInt, Int64.reduceToInt, tm_1, tl_1] at c1 c2 c3 c4
            repeat' split
            all_goals first | rfl | (exfalso; omega)
          subst eh1_1
          subst eh2_2
          subst eh10_6
          exact Kf (by rw [w_]; decide) _ (by rw [w_]; exact mpo.st eS)
        · skip
          refine ⟨fun c5 => ?_, fun c5 => ?_⟩
          · skip
            intro h12_7 eh12_7 Xh12_7
            have w_ : wy_paid S x1 x2 x3 x4 = (5 : Int32) := by
              unfold wy_paid
              simp only [i3_lt, i3_le, i6_lt, i6_le, i3_eq, i3_l, Int32.reduceToInt, Int64.reduceToInt, tm_1, tl_1] at c1 c2 c3 c4 c5
              repeat' split
              all_goals first | rfl | (exfalso; omega)
            subst eh1_1
            subst eh2_2
            subst eh12_7
            exact Kf (by rw [w_]; decide) _ (by rw [w_]; exact mpo.st eS)
          · skip
            refine ⟨fun c6 => ?_, fun c6 => ?_⟩
            · skip
              intro h14_8 eh14_8 Xh14_8
              have w_ : wy_paid S x1 x2 x3 x4 = (5 : Int32) := by
                unfold wy_paid
                simp only [i3_lt, i3_le, i6_lt, i6_le, i3_eq, i3_l, Int32.reduceToInt, Int64.reduceToInt, tm_1, tl_1] at c1 c2 c3 c4 c5 c6
                repeat' split
                all_goals first | rfl | (exfalso; omega)
              subst eh1_1
              subst eh2_2
              subst eh14_8
              exact Kf (by rw [w_]; decide) _ (by rw [w_]; exact mpo.st eS)
            · skip
              refine ⟨fun c7 => ?_, fun c7 => ?_⟩
              · skip
                intro h16_9 eh16_9 Xh16_9
                have w_ : wy_paid S x1 x2 x3 x4 = (5 : Int32) := by
                  unfold wy_paid
                  simp only [i3_lt, i3_le, i6_lt, i6_le, i3_eq, i3_l, Int32.reduceToInt, Int64.reduceToInt, tm_1, tl_1] at c1 c2 c3 c4 c5 c6 c7
                  repeat' split
                  all_goals first | rfl | (exfalso; omega)
                subst eh1_1
                subst eh2_2
                subst eh16_9
                exact Kf (by rw [w_]; decide) _ (by rw [w_]; exact mpo.st eS)
              · skip
                refine ⟨fun c8 => ?_, fun c8 => ?_⟩
                · skip
                  intro h18_10 eh18_10 Xh18_10
                  have w_ : wy_paid S x1 x2 x3 x4 = (5 : Int32) := by
                    unfold wy_paid
                    simp only [i3_lt, i3_le, i6_lt, i6_le, i3_eq, i3_l, Int32.reduceToInt, Int64.reduceToInt, tm_1, tl_1] at c1 c2 c3 c4 c5 c6 c7 c8
                    repeat' split
                    all_goals first | rfl | (exfalso; omega)
                  subst eh1_1
                  subst eh2_2
                  subst eh18_10
                  exact Kf (by rw [w_]; decide) _ (by rw [w_]; exact mpo.st eS)
                · skip
                  have w_ : wy_paid S x1 x2 x3 x4 = (0 : Int32) := by
                    unfold wy_paid
                    simp only [i3_lt, i3_le, i6_lt, i6_le, i3_eq, i3_l, Int32.reduceToInt, Int64.reduceToInt, tm_1, tl_1] at c1 c2 c3 c4 c5 c6 c7 c8
                    repeat' split
                    all_goals first | rfl | (exfalso; omega)
                  subst eh1_1
                  subst eh2_2
                  obtain ⟨nx11, nx12⟩ := x_nI (x := x1) (n := 9) (by simp only [i3_lt, i3_le, i6_lt, i6_le, i3_eq, i3_l, Int32.reduceToInt, Int64.reduceToInt, tm_1, tl_1] at c1 c2 c3 c4 c5 c6 c7 c8 ⊢; omega) (by simp only [i3_lt, i3_le, i6_lt, i6_le, i3_eq, i3_l, Int32.reduceToInt, Int64.reduceToInt, tm_1, tl_1] at c1 c2 c3 c4 c5 c6 c7 c8 ⊢; omega)
                  obtain ⟨nx21, nx22⟩ := x_nI (x := x2) (n := 5) (by simp only [i3_lt, i3_le, i6_lt, i6_le, i3_eq, i3_l, Int32.reduceToInt, Int64.reduceToInt, tm_1, tl_1] at c1 c2 c3 c4 c5 c6 c7 c8 ⊢; omega) (by simp only [i3_lt, i3_le, i6_lt, i6_le, i3_eq, i3_l, Int32.reduceToInt, Int64.reduceToInt, tm_1, tl_1] at c1 c2 c3 c4 c5 c6 c7 c8 ⊢; omega)
                  have L2 := L.ext (Xh1_1.tr Xh2_2)
                  have k0 : kq S (mv (ah_wI (ah_wI h M 1 0) M 0 0) M) := kq.st eS
                  refine m_play L2 k0 W B T (fun g z => ?_)
                  intro _
                  have Lg := z.1.ly L2
                  have kg := k0.mc z.1 (by decide) (by decide) (by decide)
                  have F : mpF S tx x4 M g := z.2.2
                  have kk := fun g2 (zz : mch (49 :: mplA) [39, 72, 108] M (ah_wI (ah_wI h M 1 0) M 0 0) g2) => Kg w_ g2 (mpo.qy eS zz (by decide) (by decide) (by decide) (by decide))
                  have z1 : mch (49 :: mplA) [39, 72, 108] M (ah_wI (ah_wI h M 1 0) M 0 0) g := z.1.mono (by decide) (by decide)
                  unfold paV at kk
                  rw [nx11, nx21]
                  refine ⟨fun q0 => ⟨fun q1 => ?_, fun q1 => ?_⟩, fun q0 => ?_⟩
                  · refine m_bring Lg kg W B F (by omega) (by omega) (fun g2 z2 _ => ?_)
                    intro _
                    have k2 := kk g2 (z1.tr (z2.mono (by decide) (by decide)))
                    rw [if_neg q0, if_neg q1] at k2; exact k2
                  · refine m_kept Lg kg W B T F (by omega) (by omega) (fun g2 z2 => ?_)
                    intro _
                    have k2 := kk g2 (z1.tr (z2.mono (by decide) (by decide)))
                    rw [if_neg q0, if_pos q1] at k2; exact k2
                  · refine m_came Lg kg W B F (by omega) (by omega) ?_
                    intro _
                    have k2 := kk g z1
                    rw [if_pos q0] at k2; exact k2

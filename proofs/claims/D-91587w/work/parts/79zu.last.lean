def wy_last (S : MS) (x1 x2 x3 : Int32) : Int32 := if (0 ≤ x1.toInt ∧ x1.toInt ≤ ((nF) S : Int) - 1) then (if (0 ≤ x2.toInt ∧ x2.toInt ≤ 9) ∧ (0 ≤ x3.toInt ∧ x3.toInt ≤ 519) then 0 else 5) else 2
theorem c_last {G : ma_G} {d X : Nat} {h : ah_T} {S : MS} {tx : Nat → List Nat × List PD} {Q : Option ma_V → ah_T → Prop} {E : Nat → ah_T → Prop} {x1 x2 x3 : Int32} (L : LY0 h X) (C : CI0 h X S) (T : CIk G h X S tx)  (Kf : wy_last S x1 x2 x3 ≠ 0 → ∀ h1, cpo X h h1 (uI S 0 0 (wy_last S x1 x2 x3)) → Q (some (jv (-1))) h1) (Kg : wy_last S x1 x2 x3 = 0 → ∀ h1, cpo X h h1 (uI S 0 0 0) → Q (some (jv (dN (stAS S tx x3 x2.toNatClampNeg 6 x1.toNatClampNeg) (stBS S tx x3 x2.toNatClampNeg 6 x1.toNatClampNeg)))) h1) : MX G mi_X0_last (d + 54) 0 [some (rv X), some (iv x1), some (iv x2), some (iv x3), none] [] h Q E := by
  have bF := C.iF.2
  have fF : (ah_I h X 14).toInt = (nF S : Int) := by rw [C.iF.1]; exact nI_x (by omega)
  refine v_X0_last (d := d + 52) L ?_
  refine ⟨fun c1 => ?_, fun c1 => ?_⟩
  · skip
    intro h2_1 eh2_1 Xh2_1
    have w_ : wy_last S x1 x2 x3 = (2 : Int32) := by
      unfold wy_last
      simp only [i3_lt, i3_le, i6_lt, i6_le, i3_eq, i3_l, Int32.reduceToInt, Int64.reduceToInt, tm_1, tl_1, fF] at c1
      repeat' split
      all_goals first | rfl | (exfalso; omega)
    subst eh2_1
    exact Kf (by rw [w_]; decide) _ (by rw [w_]; exact cpo.st L C Xh2_1)
  · skip
    refine ⟨fun c2 => ?_, fun c2 => ?_⟩
    · skip
      intro h4_2 eh4_2 Xh4_2
      have w_ : wy_last S x1 x2 x3 = (2 : Int32) := by
        unfold wy_last
        simp only [i3_lt, i3_le, i6_lt, i6_le, i3_eq, i3_l, Int32.reduceToInt, Int64.reduceToInt, tm_1, tl_1, fF] at c1 c2
        repeat' split
        all_goals first | rfl | (exfalso; omega)
      subst eh4_2
      exact Kf (by rw [w_]; decide) _ (by rw [w_]; exact cpo.st L C Xh4_2)
    · skip
      refine ⟨fun c3 => ?_, fun c3 => ?_⟩
      · skip
        intro h6_3 eh6_3 Xh6_3
        have w_ : wy_last S x1 x2 x3 = (5 : Int32) := by
          unfold wy_last
          simp only [i3_lt, i3_le, i6_lt, i6_le, i3_eq, i3_l, Int32.reduceToInt, Int64.reduceToInt, tm_1, tl_1, fF] at c1 c2 c3
          repeat' split
          all_goals first | rfl | (exfalso; omega)
        subst eh6_3
        exact Kf (by rw [w_]; decide) _ (by rw [w_]; exact cpo.st L C Xh6_3)
      · skip
        refine ⟨fun c4 => ?_, fun c4 => ?_⟩
        · skip
          intro h8_4 eh8_4 Xh8_4
          have w_ : wy_last S x1 x2 x3 = (5 : Int32) := by
            unfold wy_last
            simp only [i3_lt, i3_le, i6_lt, i6_le, i3_eq, i3_l, Int32.reduceToInt, Int64.reduceToInt, tm_1, tl_1, fF] at c1 c2 c3 c4
            repeat' split
            all_goals first | rfl | (exfalso; omega)
          subst eh8_4
          exact Kf (by rw [w_]; decide) _ (by rw [w_]; exact cpo.st L C Xh8_4)
        · skip
          refine ⟨fun c5 => ?_, fun c5 => ?_⟩
          · skip
            intro h10_5 eh10_5 Xh10_5
            have w_ : wy_last S x1 x2 x3 = (5 : Int32) := by
              unfold wy_last
              simp only [i3_lt, i3_le, i6_lt, i6_le, i3_eq, i3_l, Int32.reduceToInt, Int64.reduceToInt, tm_1, tl_1, fF] at c1 c2 c3 c4 c5
              repeat' split
              all_goals first | rfl | (exfalso; omega)
            subst eh10_5
            exact Kf (by rw [w_]; decide) _ (by rw [w_]; exact cpo.st L C Xh10_5)
          · skip
            refine ⟨fun c6 => ?_, fun c6 => ?_⟩
            · skip
              intro h12_6 eh12_6 Xh12_6
              have w_ : wy_last S x1 x2 x3 = (5 : Int32) := by
                unfold wy_last
                simp only [i3_lt, i3_le, i6_lt, i6_le, i3_eq, i3_l, Int32.reduceToInt, Int64.reduceToInt, tm_1, tl_1, fF] at c1 c2 c3 c4 c5 c6
                repeat' split
                all_goals first | rfl | (exfalso; omega)
              subst eh12_6
              exact Kf (by rw [w_]; decide) _ (by rw [w_]; exact cpo.st L C Xh12_6)
            · skip
              have w_ : wy_last S x1 x2 x3 = (0 : Int32) := by
                unfold wy_last
                simp only [i3_lt, i3_le, i6_lt, i6_le, i3_eq, i3_l, Int32.reduceToInt, Int64.reduceToInt, tm_1, tl_1, fF] at c1 c2 c3 c4 c5 c6
                repeat' split
                all_goals first | rfl | (exfalso; omega)
              obtain ⟨nx11, nx12⟩ := x_nI (x := x1) (n := 19) (by simp only [i3_lt, i3_le, i6_lt, i6_le, i3_eq, i3_l, Int32.reduceToInt, Int64.reduceToInt, tm_1, tl_1, fF] at c1 c2 c3 c4 c5 c6 ⊢; omega) (by simp only [i3_lt, i3_le, i6_lt, i6_le, i3_eq, i3_l, Int32.reduceToInt, Int64.reduceToInt, tm_1, tl_1, fF] at c1 c2 c3 c4 c5 c6 ⊢; omega)
              obtain ⟨nx21, nx22⟩ := x_nI (x := x2) (n := 9) (by simp only [i3_lt, i3_le, i6_lt, i6_le, i3_eq, i3_l, Int32.reduceToInt, Int64.reduceToInt, tm_1, tl_1, fF] at c1 c2 c3 c4 c5 c6 ⊢; omega) (by simp only [i3_lt, i3_le, i6_lt, i6_le, i3_eq, i3_l, Int32.reduceToInt, Int64.reduceToInt, tm_1, tl_1, fF] at c1 c2 c3 c4 c5 c6 ⊢; omega)
              rw [nx21]
              refine c_settle L C T (by omega) (fun g z s => ?_)
              intro _
              refine ⟨by rw [nx11]; exact vp_in_nI (by omega) (by decide), fun h16 e16 _ => ?_⟩
              rw [(s.1 _ (by omega : x1.toNatClampNeg < 20)).1, e16]; exact Kg w_ _ (z.po L C)
theorem m_last {G : ma_G} {d M : Nat} {h : ah_T} {S : MS} {tx : Nat → List Nat × List PD} {Q : Option ma_V → ah_T → Prop} {E : Nat → ah_T → Prop} {x1 x2 x3 : Int32} (L : LY8 h M) (eS : mv h M = S) (W : WF S) (B : WB S) (T : TXm S tx)  (Kf : wy_last S x1 x2 x3 ≠ 0 → ∀ h1, mpo M h h1 (uI S 0 0 (wy_last S x1 x2 x3)) → Q (some (jv (-1))) h1) (Kg : wy_last S x1 x2 x3 = 0 → ∀ h1, mpo M h h1 (uI S 0 0 0) → Q (some (jv (dN (stAS S tx x3 x2.toNatClampNeg 6 x1.toNatClampNeg) (stBS S tx x3 x2.toNatClampNeg 6 x1.toNatClampNeg)))) h1) : MX G mi_X8_last (d + 9) 0 [some (rv M), some (iv x1), some (iv x2), some (iv x3)] [] h Q E := by
  have qF := mk_F eS W
  have bF := mb_F W B
  have fF : (ah_I h M 5).toInt = (nF S : Int) := by rw [qF]; exact nI_x (by omega)
  have gF : (ah_I h M 5 - 1).toInt = (nF S : Int) - 1 := by rw [qF]; exact nI_m1 (by omega)
  refine v_X8_last (d := d + 6) L ?_
  intro h1_1 eh1_1 Xh1_1
  refine ⟨fun c1 => ?_, fun c1 => ?_⟩
  · skip
    intro h3_2 eh3_2 Xh3_2
    have w_ : wy_last S x1 x2 x3 = (2 : Int32) := by
      unfold wy_last
      simp only [i3_lt, i3_le, i6_lt, i6_le, i3_eq, i3_l, Int32.reduceToInt, Int64.reduceToInt, tm_1, tl_1, fF, gF] at c1
      repeat' split
      all_goals first | rfl | (exfalso; omega)
    subst eh1_1
    subst eh3_2
    exact Kf (by rw [w_]; decide) _ (by rw [w_]; exact mpo.s2 eS)
  · skip
    refine ⟨fun c2 => ?_, fun c2 => ?_⟩
    · skip
      intro h5_3 eh5_3 Xh5_3
      have w_ : wy_last S x1 x2 x3 = (2 : Int32) := by
        unfold wy_last
        simp only [i3_lt, i3_le, i6_lt, i6_le, i3_eq, i3_l, Int32.reduceToInt, Int64.reduceToInt, tm_1, tl_1, fF, gF] at c1 c2
        repeat' split
        all_goals first | rfl | (exfalso; omega)
      subst eh1_1
      subst eh5_3
      exact Kf (by rw [w_]; decide) _ (by rw [w_]; exact mpo.s2 eS)
    · skip
      refine ⟨fun c3 => ?_, fun c3 => ?_⟩
      · skip
        intro h7_4 eh7_4 Xh7_4
        have w_ : wy_last S x1 x2 x3 = (5 : Int32) := by
          unfold wy_last
          simp only [i3_lt, i3_le, i6_lt, i6_le, i3_eq, i3_l, Int32.reduceToInt, Int64.reduceToInt, tm_1, tl_1, fF, gF] at c1 c2 c3
          repeat' split
          all_goals first | rfl | (exfalso; omega)
        subst eh1_1
        subst eh7_4
        exact Kf (by rw [w_]; decide) _ (by rw [w_]; exact mpo.s2 eS)
      · skip
        refine ⟨fun c4 => ?_, fun c4 => ?_⟩
        · skip
          intro h9_5 eh9_5 Xh9_5
          have w_ : wy_last S x1 x2 x3 = (5 : Int32) := by
            unfold wy_last
            simp only [i3_lt, i3_le, i6_lt, i6_le, i3_eq, i3_l, Int32.reduceToInt, Int64.reduceToInt, tm_1, tl_1, fF, gF] at c1 c2 c3 c4
            repeat' split
            all_goals first | rfl | (exfalso; omega)
          subst eh1_1
          subst eh9_5
          exact Kf (by rw [w_]; decide) _ (by rw [w_]; exact mpo.s2 eS)
        · skip
          refine ⟨fun c5 => ?_, fun c5 => ?_⟩
          · skip
            intro h11_6 eh11_6 Xh11_6
            have w_ : wy_last S x1 x2 x3 = (5 : Int32) := by
              unfold wy_last
              simp only [i3_lt, i3_le, i6_lt, i6_le, i3_eq, i3_l, Int32.reduceToInt, Int64.reduceToInt, tm_1, tl_1, fF, gF] at c1 c2 c3 c4 c5
              repeat' split
              all_goals first | rfl | (exfalso; omega)
            subst eh1_1
            subst eh11_6
            exact Kf (by rw [w_]; decide) _ (by rw [w_]; exact mpo.s2 eS)
          · skip
            refine ⟨fun c6 => ?_, fun c6 => ?_⟩
            · skip
              intro h13_7 eh13_7 Xh13_7
              have w_ : wy_last S x1 x2 x3 = (5 : Int32) := by
                unfold wy_last
                simp only [i3_lt, i3_le, i6_lt, i6_le, i3_eq, i3_l, Int32.reduceToInt, Int64.reduceToInt, tm_1, tl_1, fF, gF] at c1 c2 c3 c4 c5 c6
                repeat' split
                all_goals first | rfl | (exfalso; omega)
              subst eh1_1
              subst eh13_7
              exact Kf (by rw [w_]; decide) _ (by rw [w_]; exact mpo.s2 eS)
            · skip
              intro h14_8 eh14_8 Xh14_8
              have w_ : wy_last S x1 x2 x3 = (0 : Int32) := by
                unfold wy_last
                simp only [i3_lt, i3_le, i6_lt, i6_le, i3_eq, i3_l, Int32.reduceToInt, Int64.reduceToInt, tm_1, tl_1, fF, gF] at c1 c2 c3 c4 c5 c6
                repeat' split
                all_goals first | rfl | (exfalso; omega)
              subst eh1_1
              subst eh14_8
              obtain ⟨nx11, nx12⟩ := x_nI (x := x1) (n := 19) (by simp only [i3_lt, i3_le, i6_lt, i6_le, i3_eq, i3_l, Int32.reduceToInt, Int64.reduceToInt, tm_1, tl_1, fF, gF] at c1 c2 c3 c4 c5 c6 ⊢; omega) (by simp only [i3_lt, i3_le, i6_lt, i6_le, i3_eq, i3_l, Int32.reduceToInt, Int64.reduceToInt, tm_1, tl_1, fF, gF] at c1 c2 c3 c4 c5 c6 ⊢; omega)
              obtain ⟨nx21, nx22⟩ := x_nI (x := x2) (n := 9) (by simp only [i3_lt, i3_le, i6_lt, i6_le, i3_eq, i3_l, Int32.reduceToInt, Int64.reduceToInt, tm_1, tl_1, fF, gF] at c1 c2 c3 c4 c5 c6 ⊢; omega) (by simp only [i3_lt, i3_le, i6_lt, i6_le, i3_eq, i3_l, Int32.reduceToInt, Int64.reduceToInt, tm_1, tl_1, fF, gF] at c1 c2 c3 c4 c5 c6 ⊢; omega)
              rw [nx21]
              refine m_pay (L.ext (Xh1_1.tr Xh14_8)) (kq.st eS) W B T (by omega) (fun g mI g2 z s => ?_)
              intro _
              have zz : mch (payA ++ mplA) [39, 72, 77, 78, 108] M _ g2 := (mI.1.mono (by decide) (by decide)).tr (z.mono (by decide) (by decide))
              refine ⟨by rw [nx11]; exact vp_in_nI (by omega) (by decide), ?_⟩
              rw [(s.1 _ (by omega : x1.toNatClampNeg < 20)).1]; exact Kg w_ _ (mpo.qy eS zz (by decide) (by decide) (by decide) (by decide))
def wy_first (S : MS) (x1 x2 x3 : Int32) : Int32 := if (0 ≤ x1.toInt ∧ x1.toInt ≤ ((nF) S : Int) - 1) then (if (0 ≤ x2.toInt ∧ x2.toInt ≤ 9) ∧ (0 ≤ x3.toInt ∧ x3.toInt ≤ 519) then 0 else 5) else 2
theorem c_first {G : ma_G} {d X : Nat} {h : ah_T} {S : MS} {tx : Nat → List Nat × List PD} {Q : Option ma_V → ah_T → Prop} {E : Nat → ah_T → Prop} {x1 x2 x3 : Int32} (L : LY0 h X) (C : CI0 h X S) (T : CIk G h X S tx)  (Kf : wy_first S x1 x2 x3 ≠ 0 → ∀ h1, cpo X h h1 (uI S 0 0 (wy_first S x1 x2 x3)) → Q (some (jv (-1))) h1) (Kg : wy_first S x1 x2 x3 = 0 → ∀ h1, cpo X h h1 (uI S 0 0 0) → Q (some (jv (lN (stBS S tx x3 x2.toNatClampNeg 6 x1.toNatClampNeg)))) h1) : MX G mi_X0_first (d + 54) 0 [some (rv X), some (iv x1), some (iv x2), some (iv x3), none] [] h Q E := by
  have bF := C.iF.2
  have fF : (ah_I h X 14).toInt = (nF S : Int) := by rw [C.iF.1]; exact nI_x (by omega)
  refine v_X0_first (d := d + 52) L ?_
  refine ⟨fun c1 => ?_, fun c1 => ?_⟩
  · skip
    intro h2_1 eh2_1 Xh2_1
    have w_ : wy_first S x1 x2 x3 = (2 : Int32) := by
      unfold wy_first
      simp only [i3_lt, i3_le, i6_lt, i6_le, i3_eq, i3_l, Int32.reduceToInt, Int64.reduceToInt, tm_1, tl_1, fF] at c1
      repeat' split
      all_goals first | rfl | (exfalso; omega)
    subst eh2_1
    exact Kf (by rw [w_]; decide) _ (by rw [w_]; exact cpo.st L C Xh2_1)
  · skip
    refine ⟨fun c2 => ?_, fun c2 => ?_⟩
    · skip
      intro h4_2 eh4_2 Xh4_2
      have w_ : wy_first S x1 x2 x3 = (2 : Int32) := by
        unfold wy_first
        simp only [i3_lt, i3_le, i6_lt, i6_le, i3_eq, i3_l, Int32.reduceToInt, Int64.reduceToInt, tm_1, tl_1, fF] at c1 c2
        repeat' split
        all_goals first | rfl | (exfalso; omega)
      subst eh4_2
      exact Kf (by rw [w_]; decide) _ (by rw [w_]; exact cpo.st L C Xh4_2)
    · skip
      refine ⟨fun c3 => ?_, fun c3 => ?_⟩
      · skip
        intro h6_3 eh6_3 Xh6_3
        have w_ : wy_first S x1 x2 x3 = (5 : Int32) := by
          unfold wy_first
          simp only [i3_lt, i3_le, i6_lt, i6_le, i3_eq, i3_l, Int32.reduceToInt, Int64.reduceToInt, tm_1, tl_1, fF] at c1 c2 c3
          repeat' split
          all_goals first | rfl | (exfalso; omega)
        subst eh6_3
        exact Kf (by rw [w_]; decide) _ (by rw [w_]; exact cpo.st L C Xh6_3)
      · skip
        refine ⟨fun c4 => ?_, fun c4 => ?_⟩
        · skip
          intro h8_4 eh8_4 Xh8_4
          have w_ : wy_first S x1 x2 x3 = (5 : Int32) := by
            unfold wy_first
            simp only [i3_lt, i3_le, i6_lt, i6_le, i3_eq, i3_l, Int32.reduceToInt, Int64.reduceToInt, tm_1, tl_1, fF] at c1 c2 c3 c4
            repeat' split
            all_goals first | rfl | (exfalso; omega)
          subst eh8_4
          exact Kf (by rw [w_]; decide) _ (by rw [w_]; exact cpo.st L C Xh8_4)
        · skip
          refine ⟨fun c5 => ?_, fun c5 => ?_⟩
          · skip
            intro h10_5 eh10_5 Xh10_5
            have w_ : wy_first S x1 x2 x3 = (5 : Int32) := by
              unfold wy_first
              simp only [i3_lt, i3_le, i6_lt, i6_le, i3_eq, i3_l, Int32.reduceToInt, Int64.reduceToInt, tm_1, tl_1, fF] at c1 c2 c3 c4 c5
              repeat' split
              all_goals first | rfl | (exfalso; omega)
            subst eh10_5
            exact Kf (by rw [w_]; decide) _ (by rw [w_]; exact cpo.st L C Xh10_5)
          · skip
            refine ⟨fun c6 => ?_, fun c6 => ?_⟩
            · skip
              intro h12_6 eh12_6 Xh12_6
              have w_ : wy_first S x1 x2 x3 = (5 : Int32) := by
                unfold wy_first
                simp only [i3_lt, i3_le, i6_lt, i6_le, i3_eq, i3_l, Int32.reduceToInt, Int64.reduceToInt, tm_1, tl_1, fF] at c1 c2 c3 c4 c5 c6
                repeat' split
                all_goals first | rfl | (exfalso; omega)
              subst eh12_6
              exact Kf (by rw [w_]; decide) _ (by rw [w_]; exact cpo.st L C Xh12_6)
            · skip
              have w_ : wy_first S x1 x2 x3 = (0 : Int32) := by
                unfold wy_first
                simp only [i3_lt, i3_le, i6_lt, i6_le, i3_eq, i3_l, Int32.reduceToInt, Int64.reduceToInt, tm_1, tl_1, fF] at c1 c2 c3 c4 c5 c6
                repeat' split
                all_goals first | rfl | (exfalso; omega)
              obtain ⟨nx11, nx12⟩ := x_nI (x := x1) (n := 19) (by simp only [i3_lt, i3_le, i6_lt, i6_le, i3_eq, i3_l, Int32.reduceToInt, Int64.reduceToInt, tm_1, tl_1, fF] at c1 c2 c3 c4 c5 c6 ⊢; omega) (by simp only [i3_lt, i3_le, i6_lt, i6_le, i3_eq, i3_l, Int32.reduceToInt, Int64.reduceToInt, tm_1, tl_1, fF] at c1 c2 c3 c4 c5 c6 ⊢; omega)
              obtain ⟨nx21, nx22⟩ := x_nI (x := x2) (n := 9) (by simp only [i3_lt, i3_le, i6_lt, i6_le, i3_eq, i3_l, Int32.reduceToInt, Int64.reduceToInt, tm_1, tl_1, fF] at c1 c2 c3 c4 c5 c6 ⊢; omega) (by simp only [i3_lt, i3_le, i6_lt, i6_le, i3_eq, i3_l, Int32.reduceToInt, Int64.reduceToInt, tm_1, tl_1, fF] at c1 c2 c3 c4 c5 c6 ⊢; omega)
              rw [nx21]
              refine c_settle L C T (by omega) (fun g z s => ?_)
              intro _
              refine ⟨by rw [nx11]; exact vp_in_nI (by omega) (by decide), fun h16 e16 _ => ?_⟩
              rw [(s.1 _ (by omega : x1.toNatClampNeg < 20)).2.1, e16]; exact Kg w_ _ (z.po L C)
theorem m_first {G : ma_G} {d M : Nat} {h : ah_T} {S : MS} {tx : Nat → List Nat × List PD} {Q : Option ma_V → ah_T → Prop} {E : Nat → ah_T → Prop} {x1 x2 x3 : Int32} (L : LY8 h M) (eS : mv h M = S) (W : WF S) (B : WB S) (T : TXm S tx)  (Kf : wy_first S x1 x2 x3 ≠ 0 → ∀ h1, mpo M h h1 (uI S 0 0 (wy_first S x1 x2 x3)) → Q (some (jv (-1))) h1) (Kg : wy_first S x1 x2 x3 = 0 → ∀ h1, mpo M h h1 (uI S 0 0 0) → Q (some (jv (lN (stBS S tx x3 x2.toNatClampNeg 6 x1.toNatClampNeg)))) h1) : MX G mi_X8_first (d + 9) 0 [some (rv M), some (iv x1), some (iv x2), some (iv x3)] [] h Q E := by
  have qF := mk_F eS W
  have bF := mb_F W B
  have fF : (ah_I h M 5).toInt = (nF S : Int) := by rw [qF]; exact nI_x (by omega)
  have gF : (ah_I h M 5 - 1).toInt = (nF S : Int) - 1 := by rw [qF]; exact nI_m1 (by omega)
  refine v_X8_first (d := d + 6) L ?_
  intro h1_1 eh1_1 Xh1_1
  refine ⟨fun c1 => ?_, fun c1 => ?_⟩
  · skip
    intro h3_2 eh3_2 Xh3_2
    have w_ : wy_first S x1 x2 x3 = (2 : Int32) := by
      unfold wy_first
      simp only [i3_lt, i3_le, i6_lt, i6_le, i3_eq, i3_l, Int32.reduceToInt, Int64.reduceToInt, tm_1, tl_1, fF, gF] at c1
      repeat' split
      all_goals first | rfl | (exfalso; omega)
    subst eh1_1
    subst eh3_2
    exact Kf (by rw [w_]; decide) _ (by rw [w_]; exact mpo.s2 eS)
  · skip
    refine ⟨fun c2 => ?_, fun c2 => ?_⟩
    · skip
      intro h5_3 eh5_3 Xh5_3
      have w_ : wy_first S x1 x2 x3 = (2 : Int32) := by
        unfold wy_first
        simp only [i3_lt, i3_le, i6_lt, i6_le, i3_eq, i3_l, Int32.reduceToInt, Int64.reduceToInt, tm_1, tl_1, fF, gF] at c1 c2
        repeat' split
        all_goals first | rfl | (exfalso; omega)
      subst eh1_1
      subst eh5_3
      exact Kf (by rw [w_]; decide) _ (by rw [w_]; exact mpo.s2 eS)
    · skip
      refine ⟨fun c3 => ?_, fun c3 => ?_⟩
      · skip
        intro h7_4 eh7_4 Xh7_4
        have w_ : wy_first S x1 x2 x3 = (5 : Int32) := by
          unfold wy_first
          simp only [i3_lt, i3_le, i6_lt, i6_le, i3_eq, i3_l, Int32.reduceToInt, Int64.reduceToInt, tm_1, tl_1, fF, gF] at c1 c2 c3
          repeat' split
          all_goals first | rfl | (exfalso; omega)
        subst eh1_1
        subst eh7_4
        exact Kf (by rw [w_]; decide) _ (by rw [w_]; exact mpo.s2 eS)
      · skip
        refine ⟨fun c4 => ?_, fun c4 => ?_⟩
        · skip
          intro h9_5 eh9_5 Xh9_5
          have w_ : wy_first S x1 x2 x3 = (5 : Int32) := by
            unfold wy_first
            simp only [i3_lt, i3_le, i6_lt, i6_le, i3_eq, i3_l, Int32.reduceToInt, Int64.reduceToInt, tm_1, tl_1, fF, gF] at c1 c2 c3 c4
            repeat' split
            all_goals first | rfl | (exfalso; omega)
          subst eh1_1
          subst eh9_5
          exact Kf (by rw [w_]; decide) _ (by rw [w_]; exact mpo.s2 eS)
        · skip
          refine ⟨fun c5 => ?_, fun c5 => ?_⟩
          · skip
            intro h11_6 eh11_6 Xh11_6
            have w_ : wy_first S x1 x2 x3 = (5 : Int32) := by
              unfold wy_first
              simp only [i3_lt, i3_le, i6_lt, i6_le, i3_eq, i3_l, Int32.reduceToInt, Int64.reduceToInt, tm_1, tl_1, fF, gF] at c1 c2 c3 c4 c5
              repeat' split
              all_goals first | rfl | (exfalso; omega)
            subst eh1_1
            subst eh11_6
            exact Kf (by rw [w_]; decide) _ (by rw [w_]; exact mpo.s2 eS)
          · skip
            refine ⟨fun c6 => ?_, fun c6 => ?_⟩
            · skip
              intro h13_7 eh13_7 Xh13_7
              have w_ : wy_first S x1 x2 x3 = (5 : Int32) := by
                unfold wy_first
                simp only [i3_lt, i3_le, i6_lt, i6_le, i3_eq, i3_l, Int32.reduceToInt, Int64.reduceToInt, tm_1, tl_1, fF, gF] at c1 c2 c3 c4 c5 c6
                repeat' split
                all_goals first | rfl | (exfalso; omega)
              subst eh1_1
              subst eh13_7
              exact Kf (by rw [w_]; decide) _ (by rw [w_]; exact mpo.s2 eS)
            · skip
              intro h14_8 eh14_8 Xh14_8
              have w_ : wy_first S x1 x2 x3 = (0 : Int32) := by
                unfold wy_first
                simp only [i3_lt, i3_le, i6_lt, i6_le, i3_eq, i3_l, Int32.reduceToInt, Int64.reduceToInt, tm_1, tl_1, fF, gF] at c1 c2 c3 c4 c5 c6
                repeat' split
                all_goals first | rfl | (exfalso; omega)
              subst eh1_1
              subst eh14_8
              obtain ⟨nx11, nx12⟩ := x_nI (x := x1) (n := 19) (by simp only [i3_lt, i3_le, i6_lt, i6_le, i3_eq, i3_l, Int32.reduceToInt, Int64.reduceToInt, tm_1, tl_1, fF, gF] at c1 c2 c3 c4 c5 c6 ⊢; omega) (by simp only [i3_lt, i3_le, i6_lt, i6_le, i3_eq, i3_l, Int32.reduceToInt, Int64.reduceToInt, tm_1, tl_1, fF, gF] at c1 c2 c3 c4 c5 c6 ⊢; omega)
              obtain ⟨nx21, nx22⟩ := x_nI (x := x2) (n := 9) (by simp only [i3_lt, i3_le, i6_lt, i6_le, i3_eq, i3_l, Int32.reduceToInt, Int64.reduceToInt, tm_1, tl_1, fF, gF] at c1 c2 c3 c4 c5 c6 ⊢; omega) (by simp only [i3_lt, i3_le, i6_lt, i6_le, i3_eq, i3_l, Int32.reduceToInt, Int64.reduceToInt, tm_1, tl_1, fF, gF] at c1 c2 c3 c4 c5 c6 ⊢; omega)
              rw [nx21]
              refine m_pay (L.ext (Xh1_1.tr Xh14_8)) (kq.st eS) W B T (by omega) (fun g mI g2 z s => ?_)
              intro _
              have zz : mch (payA ++ mplA) [39, 72, 77, 78, 108] M _ g2 := (mI.1.mono (by decide) (by decide)).tr (z.mono (by decide) (by decide))
              refine ⟨by rw [nx11]; exact vp_in_nI (by omega) (by decide), ?_⟩
              rw [(s.1 _ (by omega : x1.toNatClampNeg < 20)).2.1]; exact Kg w_ _ (mpo.qy eS zz (by decide) (by decide) (by decide) (by decide))
def wy_owed (S : MS) (x1 x2 x3 : Int32) : Int32 := if (0 ≤ x1.toInt ∧ x1.toInt ≤ ((nF) S : Int) - 1) then (if (0 ≤ x2.toInt ∧ x2.toInt ≤ 9) ∧ (0 ≤ x3.toInt ∧ x3.toInt ≤ 519) then 0 else 5) else 2
theorem c_owed {G : ma_G} {d X : Nat} {h : ah_T} {S : MS} {tx : Nat → List Nat × List PD} {Q : Option ma_V → ah_T → Prop} {E : Nat → ah_T → Prop} {x1 x2 x3 : Int32} (L : LY0 h X) (C : CI0 h X S) (T : CIk G h X S tx)  (Kf : wy_owed S x1 x2 x3 ≠ 0 → ∀ h1, cpo X h h1 (uI S 0 0 (wy_owed S x1 x2 x3)) → Q (some (jv (-1))) h1) (Kg : wy_owed S x1 x2 x3 = 0 → ∀ h1, cpo X h h1 (uI S 0 0 0) → Q (some (jv (lN (owS S tx x3 x2.toNatClampNeg x1.toNatClampNeg)))) h1) : MX G mi_X0_owed (d + 54) 0 [some (rv X), some (iv x1), some (iv x2), some (iv x3), none] [] h Q E := by
  have bF := C.iF.2
  have fF : (ah_I h X 14).toInt = (nF S : Int) := by rw [C.iF.1]; exact nI_x (by omega)
  refine v_X0_owed (d := d + 52) L ?_
  refine ⟨fun c1 => ?_, fun c1 => ?_⟩
  · skip
    intro h2_1 eh2_1 Xh2_1
    have w_ : wy_owed S x1 x2 x3 = (2 : Int32) := by
      unfold wy_owed
      simp only [i3_lt, i3_le, i6_lt, i6_le, i3_eq, i3_l, Int32.reduceToInt, Int64.reduceToInt, tm_1, tl_1, fF] at c1
      repeat' split
      all_goals first | rfl | (exfalso; omega)
    subst eh2_1
    exact Kf (by rw [w_]; decide) _ (by rw [w_]; exact cpo.st L C Xh2_1)
  · skip
    refine ⟨fun c2 => ?_, fun c2 => ?_⟩
    · skip
      intro h4_2 eh4_2 Xh4_2
      have w_ : wy_owed S x1 x2 x3 = (2 : Int32) := by
        unfold wy_owed
        simp only [i3_lt, i3_le, i6_lt, i6_le, i3_eq, i3_l, Int32.reduceToInt, Int64.reduceToInt, tm_1, tl_1, fF] at c1 c2
        repeat' split
        all_goals first | rfl | (exfalso; omega)
      subst eh4_2
      exact Kf (by rw [w_]; decide) _ (by rw [w_]; exact cpo.st L C Xh4_2)
    · skip
      refine ⟨fun c3 => ?_, fun c3 => ?_⟩
      · skip
        intro h6_3 eh6_3 Xh6_3
        have w_ : wy_owed S x1 x2 x3 = (5 : Int32) := by
          unfold wy_owed
          simp only [i3_lt, i3_le, i6_lt, i6_le, i3_eq, i3_l, Int32.reduceToInt, Int64.reduceToInt, tm_1, tl_1, fF] at c1 c2 c3
          repeat' split
          all_goals first | rfl | (exfalso; omega)
        subst eh6_3
        exact Kf (by rw [w_]; decide) _ (by rw [w_]; exact cpo.st L C Xh6_3)
      · skip
        refine ⟨fun c4 => ?_, fun c4 => ?_⟩
        · skip
          intro h8_4 eh8_4 Xh8_4
          have w_ : wy_owed S x1 x2 x3 = (5 : Int32) := by
            unfold wy_owed
            simp only [i3_lt, i3_le, i6_lt, i6_le, i3_eq, i3_l, Int32.reduceToInt, Int64.reduceToInt, tm_1, tl_1, fF] at c1 c2 c3 c4
            repeat' split
            all_goals first | rfl | (exfalso; omega)
          subst eh8_4
          exact Kf (by rw [w_]; decide) _ (by rw [w_]; exact cpo.st L C Xh8_4)
        · skip
          refine ⟨fun c5 => ?_, fun c5 => ?_⟩
          · skip
            intro h10_5 eh10_5 Xh10_5
            have w_ : wy_owed S x1 x2 x3 = (5 : Int32) := by
              unfold wy_owed
              simp only [i3_lt, i3_le, i6_lt, i6_le, i3_eq, i3_l, Int32.reduceToInt, Int64.reduceToInt, tm_1, tl_1, fF] at c1 c2 c3 c4 c5
              repeat' split
              all_goals first | rfl | (exfalso; omega)
            subst eh10_5
            exact Kf (by rw [w_]; decide) _ (by rw [w_]; exact cpo.st L C Xh10_5)
          · skip
            refine ⟨fun c6 => ?_, fun c6 => ?_⟩
            · skip
              intro h12_6 eh12_6 Xh12_6
              have w_ : wy_owed S x1 x2 x3 = (5 : Int32) := by
                unfold wy_owed
                simp only [i3_lt, i3_le, i6_lt, i6_le, i3_eq, i3_l, Int32.reduceToInt, Int64.reduceToInt, tm_1, tl_1, fF] at c1 c2 c3 c4 c5 c6
                repeat' split
                all_goals first | rfl | (exfalso; omega)
              subst eh12_6
              exact Kf (by rw [w_]; decide) _ (by rw [w_]; exact cpo.st L C Xh12_6)
            · skip
              have w_ : wy_owed S x1 x2 x3 = (0 : Int32) := by
                unfold wy_owed
                simp only [i3_lt, i3_le, i6_lt, i6_le, i3_eq, i3_l, Int32.reduceToInt, Int64.reduceToInt, tm_1, tl_1, fF] at c1 c2 c3 c4 c5 c6
                repeat' split
                all_goals first | rfl | (exfalso; omega)
              obtain ⟨nx11, nx12⟩ := x_nI (x := x1) (n := 19) (by simp only [i3_lt, i3_le, i6_lt, i6_le, i3_eq, i3_l, Int32.reduceToInt, Int64.reduceToInt, tm_1, tl_1, fF] at c1 c2 c3 c4 c5 c6 ⊢; omega) (by simp only [i3_lt, i3_le, i6_lt, i6_le, i3_eq, i3_l, Int32.reduceToInt, Int64.reduceToInt, tm_1, tl_1, fF] at c1 c2 c3 c4 c5 c6 ⊢; omega)
              obtain ⟨nx21, nx22⟩ := x_nI (x := x2) (n := 9) (by simp only [i3_lt, i3_le, i6_lt, i6_le, i3_eq, i3_l, Int32.reduceToInt, Int64.reduceToInt, tm_1, tl_1, fF] at c1 c2 c3 c4 c5 c6 ⊢; omega) (by simp only [i3_lt, i3_le, i6_lt, i6_le, i3_eq, i3_l, Int32.reduceToInt, Int64.reduceToInt, tm_1, tl_1, fF] at c1 c2 c3 c4 c5 c6 ⊢; omega)
              rw [nx21]
              refine c_settle L C T (by omega) (fun g z s => ?_)
              intro _
              refine ⟨by rw [nx11]; exact vp_in_nI (by omega) (by decide), fun h16 e16 _ => ?_⟩
              rw [(s.1 _ (by omega : x1.toNatClampNeg < 20)).2.2, e16]; exact Kg w_ _ (z.po L C)
theorem m_owed {G : ma_G} {d M : Nat} {h : ah_T} {S : MS} {tx : Nat → List Nat × List PD} {Q : Option ma_V → ah_T → Prop} {E : Nat → ah_T → Prop} {x1 x2 x3 : Int32} (L : LY8 h M) (eS : mv h M = S) (W : WF S) (B : WB S) (T : TXm S tx)  (Kf : wy_owed S x1 x2 x3 ≠ 0 → ∀ h1, mpo M h h1 (uI S 0 0 (wy_owed S x1 x2 x3)) → Q (some (jv (-1))) h1) (Kg : wy_owed S x1 x2 x3 = 0 → ∀ h1, mpo M h h1 (uI S 0 0 0) → Q (some (jv (lN (owS S tx x3 x2.toNatClampNeg x1.toNatClampNeg)))) h1) : MX G mi_X8_owed (d + 9) 0 [some (rv M), some (iv x1), some (iv x2), some (iv x3)] [] h Q E := by
  have qF := mk_F eS W
  have bF := mb_F W B
  have fF : (ah_I h M 5).toInt = (nF S : Int) := by rw [qF]; exact nI_x (by omega)
  have gF : (ah_I h M 5 - 1).toInt = (nF S : Int) - 1 := by rw [qF]; exact nI_m1 (by omega)
  refine v_X8_owed (d := d + 6) L ?_
  intro h1_1 eh1_1 Xh1_1
  refine ⟨fun c1 => ?_, fun c1 => ?_⟩
  · skip
    intro h3_2 eh3_2 Xh3_2
    have w_ : wy_owed S x1 x2 x3 = (2 : Int32) := by
      unfold wy_owed
      simp only [i3_lt, i3_le, i6_lt, i6_le, i3_eq, i3_l, Int32.reduceToInt, Int64.reduceToInt, tm_1, tl_1, fF, gF] at c1
      repeat' split
      all_goals first | rfl | (exfalso; omega)
    subst eh1_1
    subst eh3_2
    exact Kf (by rw [w_]; decide) _ (by rw [w_]; exact mpo.s2 eS)
  · skip
    refine ⟨fun c2 => ?_, fun c2 => ?_⟩
    · skip
      intro h5_3 eh5_3 Xh5_3
      have w_ : wy_owed S x1 x2 x3 = (2 : Int32) := by
        unfold wy_owed
        simp only [i3_lt, i3_le, i6_lt, i6_le, i3_eq, i3_l, Int32.reduceToInt, Int64.reduceToInt, tm_1, tl_1, fF, gF] at c1 c2
        repeat' split
        all_goals first | rfl | (exfalso; omega)
      subst eh1_1
      subst eh5_3
      exact Kf (by rw [w_]; decide) _ (by rw [w_]; exact mpo.s2 eS)
    · skip
      refine ⟨fun c3 => ?_, fun c3 => ?_⟩
      · skip
        intro h7_4 eh7_4 Xh7_4
        have w_ : wy_owed S x1 x2 x3 = (5 : Int32) := by
          unfold wy_owed
          simp only [i3_lt, i3_le, i6_lt, i6_le, i3_eq, i3_l, Int32.reduceToInt, Int64.reduceToInt, tm_1, tl_1, fF, gF] at c1 c2 c3
          repeat' split
          all_goals first | rfl | (exfalso; omega)
        subst eh1_1
        subst eh7_4
        exact Kf (by rw [w_]; decide) _ (by rw [w_]; exact mpo.s2 eS)
      · skip
        refine ⟨fun c4 => ?_, fun c4 => ?_⟩
        · skip
          intro h9_5 eh9_5 Xh9_5
          have w_ : wy_owed S x1 x2 x3 = (5 : Int32) := by
            unfold wy_owed
            simp only [i3_lt, i3_le, i6_lt, i6_le, i3_eq, i3_l, Int32.reduceToInt, Int64.reduceToInt, tm_1, tl_1, fF, gF] at c1 c2 c3 c4
            repeat' split
            all_goals first | rfl | (exfalso; omega)
          subst eh1_1
          subst eh9_5
          exact Kf (by rw [w_]; decide) _ (by rw [w_]; exact mpo.s2 eS)
        · skip
          refine ⟨fun c5 => ?_, fun c5 => ?_⟩
          · skip
            intro h11_6 eh11_6 Xh11_6
            have w_ : wy_owed S x1 x2 x3 = (5 : Int32) := by
              unfold wy_owed
              simp only [i3_lt, i3_le, i6_lt, i6_le, i3_eq, i3_l, Int32.reduceToInt, Int64.reduceToInt, tm_1, tl_1, fF, gF] at c1 c2 c3 c4 c5
              repeat' split
              all_goals first | rfl | (exfalso; omega)
            subst eh1_1
            subst eh11_6
            exact Kf (by rw [w_]; decide) _ (by rw [w_]; exact mpo.s2 eS)
          · skip
            refine ⟨fun c6 => ?_, fun c6 => ?_⟩
            · skip
              intro h13_7 eh13_7 Xh13_7
              have w_ : wy_owed S x1 x2 x3 = (5 : Int32) := by
                unfold wy_owed
                simp only [i3_lt, i3_le, i6_lt, i6_le, i3_eq, i3_l, Int32.reduceToInt, Int64.reduceToInt, tm_1, tl_1, fF, gF] at c1 c2 c3 c4 c5 c6
                repeat' split
                all_goals first | rfl | (exfalso; omega)
              subst eh1_1
              subst eh13_7
              exact Kf (by rw [w_]; decide) _ (by rw [w_]; exact mpo.s2 eS)
            · skip
              intro h14_8 eh14_8 Xh14_8
              have w_ : wy_owed S x1 x2 x3 = (0 : Int32) := by
                unfold wy_owed
                simp only [i3_lt, i3_le, i6_lt, i6_le, i3_eq, i3_l, Int32.reduceToInt, Int64.reduceToInt, tm_1, tl_1, fF, gF] at c1 c2 c3 c4 c5 c6
                repeat' split
                all_goals first | rfl | (exfalso; omega)
              subst eh1_1
              subst eh14_8
              obtain ⟨nx11, nx12⟩ := x_nI (x := x1) (n := 19) (by simp only [i3_lt, i3_le, i6_lt, i6_le, i3_eq, i3_l, Int32.reduceToInt, Int64.reduceToInt, tm_1, tl_1, fF, gF] at c1 c2 c3 c4 c5 c6 ⊢; omega) (by simp only [i3_lt, i3_le, i6_lt, i6_le, i3_eq, i3_l, Int32.reduceToInt, Int64.reduceToInt, tm_1, tl_1, fF, gF] at c1 c2 c3 c4 c5 c6 ⊢; omega)
              obtain ⟨nx21, nx22⟩ := x_nI (x := x2) (n := 9) (by simp only [i3_lt, i3_le, i6_lt, i6_le, i3_eq, i3_l, Int32.reduceToInt, Int64.reduceToInt, tm_1, tl_1, fF, gF] at c1 c2 c3 c4 c5 c6 ⊢; omega) (by simp only [i3_lt, i3_le, i6_lt, i6_le, i3_eq, i3_l, Int32.reduceToInt, Int64.reduceToInt, tm_1, tl_1, fF, gF] at c1 c2 c3 c4 c5 c6 ⊢; omega)
              rw [nx21]
              refine m_pay (L.ext (Xh1_1.tr Xh14_8)) (kq.st eS) W B T (by omega) (fun g mI g2 z s => ?_)
              intro _
              have zz : mch (payA ++ mplA) [39, 72, 77, 78, 108] M _ g2 := (mI.1.mono (by decide) (by decide)).tr (z.mono (by decide) (by decide))
              refine ⟨by rw [nx11]; exact vp_in_nI (by omega) (by decide), ?_⟩
              rw [(s.1 _ (by omega : x1.toNatClampNeg < 20)).2.2]; exact Kg w_ _ (mpo.qy eS zz (by decide) (by decide) (by decide) (by decide))
def wy_below (S : MS) (x1 x2 x3 : Int32) : Int32 := if (0 ≤ x1.toInt ∧ x1.toInt ≤ 9) ∧ (0 ≤ x2.toInt ∧ x2.toInt ≤ 1) ∧ (0 ≤ x3.toInt ∧ x3.toInt ≤ 519) then 0 else 5
theorem c_below {G : ma_G} {d X : Nat} {h : ah_T} {S : MS} {tx : Nat → List Nat × List PD} {Q : Option ma_V → ah_T → Prop} {E : Nat → ah_T → Prop} {x1 x2 x3 : Int32} (L : LY0 h X) (C : CI0 h X S) (T : CIk G h X S tx)  (Kf : wy_below S x1 x2 x3 ≠ 0 → ∀ h1, cpo X h h1 (uI S 0 0 (wy_below S x1 x2 x3)) → Q (some (jv (-1))) h1) (Kg : wy_below S x1 x2 x3 = 0 → ∀ h1, cpo X h h1 (uI S 0 0 0) → Q (some (jv (if x2 = 0 then lN (blS S tx x3 x1.toNatClampNeg) else lN (sdS S tx x3 x1.toNatClampNeg)))) h1) : MX G mi_X0_below (d + 54) 0 [some (rv X), some (iv x1), some (iv x2), some (iv x3)] [] h Q E := by
  refine v_X0_below (d := d + 53) L ?_
  refine ⟨fun c1 => ?_, fun c1 => ?_⟩
  · skip
    intro h2_1 eh2_1 Xh2_1
    have w_ : wy_below S x1 x2 x3 = (5 : Int32) := by
      unfold wy_below
      simp only [i3_lt, i3_le, i6_lt, i6_le, i3_eq, i3_l, Int32.reduceToInt, Int64.reduceToInt, tm_1, tl_1] at c1
      repeat' split
      all_goals first | rfl | (exfalso; omega)
    subst eh2_1
    exact Kf (by rw [w_]; decide) _ (by rw [w_]; exact cpo.st L C Xh2_1)
  · skip
    refine ⟨fun c2 => ?_, fun c2 => ?_⟩
    · skip
      intro h4_2 eh4_2 Xh4_2
      have w_ : wy_below S x1 x2 x3 = (5 : Int32) := by
        unfold wy_below
        simp only [i3_lt, i3_le, i6_lt, i6_le, i3_eq, i3_l, Int32.reduceToInt, Int64.reduceToInt, tm_1, tl_1] at c1 c2
        repeat' split
        all_goals first | rfl | (exfalso; omega)
      subst eh4_2
      exact Kf (by rw [w_]; decide) _ (by rw [w_]; exact cpo.st L C Xh4_2)
    · skip
      refine ⟨fun c3 => ?_, fun c3 => ?_⟩
      · skip
        intro h6_3 eh6_3 Xh6_3
        have w_ : wy_below S x1 x2 x3 = (5 : Int32) := by
          unfold wy_below
          simp only [i3_lt, i3_le, i6_lt, i6_le, i3_eq, i3_l, Int32.reduceToInt, Int64.reduceToInt, tm_1, tl_1] at c1 c2 c3
          repeat' split
          all_goals first | rfl | (exfalso; omega)
        subst eh6_3
        exact Kf (by rw [w_]; decide) _ (by rw [w_]; exact cpo.st L C Xh6_3)
      · skip
        refine ⟨fun c4 => ?_, fun c4 => ?_⟩
        · skip
          intro h8_4 eh8_4 Xh8_4
          have w_ : wy_below S x1 x2 x3 = (5 : Int32) := by
            unfold wy_below
            simp only [i3_lt, i3_le, i6_lt, i6_le, i3_eq, i3_l, Int32.reduceToInt, Int64.reduceToInt, tm_1, tl_1] at c1 c2 c3 c4
            repeat' split
            all_goals first | rfl | (exfalso; omega)
          subst eh8_4
          exact Kf (by rw [w_]; decide) _ (by rw [w_]; exact cpo.st L C Xh8_4)
        · skip
          refine ⟨fun c5 => ?_, fun c5 => ?_⟩
          · skip
            intro h10_5 eh10_5 Xh10_5
            have w_ : wy_below S x1 x2 x3 = (5 : Int32) := by
              unfold wy_below
              simp only [i3_lt, i3_le, i6_lt, i6_le, i3_eq, i3_l, Int32.reduceToInt, Int64.reduceToInt, tm_1, tl_1] at c1 c2 c3 c4 c5
              repeat' split
              all_goals first | rfl | (exfalso; omega)
            subst eh10_5
            exact Kf (by rw [w_]; decide) _ (by rw [w_]; exact cpo.st L C Xh10_5)
          · skip
            refine ⟨fun c6 => ?_, fun c6 => ?_⟩
            · skip
              intro h12_6 eh12_6 Xh12_6
              have w_ : wy_below S x1 x2 x3 = (5 : Int32) := by
                unfold wy_below
                simp only [i3_lt, i3_le, i6_lt, i6_le, i3_eq, i3_l, Int32.reduceToInt, Int64.reduceToInt, tm_1, tl_1] at c1 c2 c3 c4 c5 c6
                repeat' split
                all_goals first | rfl | (exfalso; omega)
              subst eh12_6
              exact Kf (by rw [w_]; decide) _ (by rw [w_]; exact cpo.st L C Xh12_6)
            · skip
              have w_ : wy_below S x1 x2 x3 = (0 : Int32) := by
                unfold wy_below
                simp only [i3_lt, i3_le, i6_lt, i6_le, i3_eq, i3_l, Int32.reduceToInt, Int64.reduceToInt, tm_1, tl_1] at c1 c2 c3 c4 c5 c6
                repeat' split
                all_goals first | rfl | (exfalso; omega)
              obtain ⟨nx11, nx12⟩ := x_nI (x := x1) (n := 9) (by simp only [i3_lt, i3_le, i6_lt, i6_le, i3_eq, i3_l, Int32.reduceToInt, Int64.reduceToInt, tm_1, tl_1] at c1 c2 c3 c4 c5 c6 ⊢; omega) (by simp only [i3_lt, i3_le, i6_lt, i6_le, i3_eq, i3_l, Int32.reduceToInt, Int64.reduceToInt, tm_1, tl_1] at c1 c2 c3 c4 c5 c6 ⊢; omega)
              rw [nx11]
              refine c_settle L C T (by omega) (fun g z s => ?_)
              intro _
              have kk := Kg w_ _ (z.po L C (c := 0))
              refine ⟨fun q h16 e16 _ => ?_, fun q h17 e17 _ => ?_⟩
              · rw [if_neg q] at kk
                rw [s.2.2, e16]; exact kk
              · rw [if_pos q] at kk
                rw [s.2.1, e17]; exact kk
theorem m_below {G : ma_G} {d M : Nat} {h : ah_T} {S : MS} {tx : Nat → List Nat × List PD} {Q : Option ma_V → ah_T → Prop} {E : Nat → ah_T → Prop} {x1 x2 x3 : Int32} (L : LY8 h M) (eS : mv h M = S) (W : WF S) (B : WB S) (T : TXm S tx)  (Kf : wy_below S x1 x2 x3 ≠ 0 → ∀ h1, mpo M h h1 (uI S 0 0 (wy_below S x1 x2 x3)) → Q (some (jv (-1))) h1) (Kg : wy_below S x1 x2 x3 = 0 → ∀ h1, mpo M h h1 (uI S 0 0 0) → Q (some (jv (if x2 = 0 then lN (blS S tx x3 x1.toNatClampNeg) else lN (sdS S tx x3 x1.toNatClampNeg)))) h1) : MX G mi_X8_below (d + 9) 0 [some (rv M), some (iv x1), some (iv x2), some (iv x3)] [] h Q E := by
  refine v_X8_below (d := d + 7) L ?_
  intro h1_1 eh1_1 Xh1_1
  intro h2_2 eh2_2 Xh2_2
  refine ⟨fun c1 => ?_, fun c1 => ?_⟩
  · skip
    intro h4_3 eh4_3 Xh4_3
    have w_ : wy_below S x1 x2 x3 = (5 : Int32) := by
      unfold wy_below
      simp only [i3_lt, i3_le, i6_lt, i6_le, i3_eq, i3_l, Int32.reduceToInt, Int64.reduceToInt, tm_1, tl_1] at c1
      repeat' split
      all_goals first | rfl | (exfalso; omega)
    subst eh1_1
    subst eh2_2
    subst eh4_3
    exact Kf (by rw [w_]; decide) _ (by rw [w_]; exact mpo.st eS)
  · skip
    refine ⟨fun c2 => ?_, fun c2 => ?_⟩
    · skip
      intro h6_4 eh6_4 Xh6_4
      have w_ : wy_below S x1 x2 x3 = (5 : Int32) := by
        unfold wy_below
        simp only [i3_lt, i3_le, i6_lt, i6_le, i3_eq, i3_l, Int32.reduceToInt, Int64.reduceToInt, tm_1, tl_1] at c1 c2
        repeat' split
        all_goals first | rfl | (exfalso; omega)
      subst eh1_1
      subst eh2_2
      subst eh6_4
      exact Kf (by rw [w_]; decide) _ (by rw [w_]; exact mpo.st eS)
    · skip
      refine ⟨fun c3 => ?_, fun c3 => ?_⟩
      · skip
        intro h8_5 eh8_5 Xh8_5
        have w_ : wy_below S x1 x2 x3 = (5 : Int32) := by
          unfold wy_below
          simp only [i3_lt, i3_le, i6_lt, i6_le, i3_eq, i3_l, Int32.reduceToInt, Int64.reduceToInt, tm_1, tl_1] at c1 c2 c3
          repeat' split
          all_goals first | rfl | (exfalso; omega)
        subst eh1_1
        subst eh2_2
        subst eh8_5
        exact Kf (by rw [w_]; decide) _ (by rw [w_]; exact mpo.st eS)
      · skip
        refine ⟨fun c4 => ?_, fun c4 => ?_⟩
        · skip
          intro h10_6 eh10_6 Xh10_6
          have w_ : wy_below S x1 x2 x3 = (5 : Int32) := by
            unfold wy_below
            simp only [i3_lt, i3_le, i6_lt, i6_le, i3_eq, i3_l, Int32.reduceToInt, Int64.reduceToInt, tm_1, tl_1] at c1 c2 c3 c4
            repeat' split
            all_goals first | rfl | (exfalso; omega)
          subst eh1_1
          subst eh2_2
          subst eh10_6
          exact Kf (by rw [w_]; decide) _ (by rw [w_]; exact mpo.st eS)
        · skip
          refine ⟨fun c5 => ?_, fun c5 => ?_⟩
          · skip
            intro h12_7 eh12_7 Xh12_7
            have w_ : wy_below S x1 x2 x3 = (5 : Int32) := by
              unfold wy_below
              simp only [i3_lt, i3_le, i6_lt, i6_le, i3_eq, i3_l, Int32.reduceToInt, Int64.reduceToInt, tm_1, tl_1] at c1 c2 c3 c4 c5
              repeat' split
              all_goals first | rfl | (exfalso; omega)
            subst eh1_1
            subst eh2_2
            subst eh12_7
            exact Kf (by rw [w_]; decide) _ (by rw [w_]; exact mpo.st eS)
          · skip
            refine ⟨fun c6 => ?_, fun c6 => ?_⟩
            · skip
              intro h14_8 eh14_8 Xh14_8
              have w_ : wy_below S x1 x2 x3 = (5 : Int32) := by
                unfold wy_below
                simp only [i3_lt, i3_le, i6_lt, i6_le, i3_eq, i3_l, Int32.reduceToInt, Int64.reduceToInt, tm_1, tl_1] at c1 c2 c3 c4 c5 c6
                repeat' split
                all_goals first | rfl | (exfalso; omega)
              subst eh1_1
              subst eh2_2
              subst eh14_8
              exact Kf (by rw [w_]; decide) _ (by rw [w_]; exact mpo.st eS)
            · skip
              have w_ : wy_below S x1 x2 x3 = (0 : Int32) := by
                unfold wy_below
                simp only [i3_lt, i3_le, i6_lt, i6_le, i3_eq, i3_l, Int32.reduceToInt, Int64.reduceToInt, tm_1, tl_1] at c1 c2 c3 c4 c5 c6
                repeat' split
                all_goals first | rfl | (exfalso; omega)
              subst eh1_1
              subst eh2_2
              obtain ⟨nx11, nx12⟩ := x_nI (x := x1) (n := 9) (by simp only [i3_lt, i3_le, i6_lt, i6_le, i3_eq, i3_l, Int32.reduceToInt, Int64.reduceToInt, tm_1, tl_1] at c1 c2 c3 c4 c5 c6 ⊢; omega) (by simp only [i3_lt, i3_le, i6_lt, i6_le, i3_eq, i3_l, Int32.reduceToInt, Int64.reduceToInt, tm_1, tl_1] at c1 c2 c3 c4 c5 c6 ⊢; omega)
              rw [nx11]
              refine m_pay (L.ext (Xh1_1.tr Xh2_2)) (kq.st eS) W B T (by omega) (fun g mI g2 z s => ?_)
              intro _
              have zz : mch (payA ++ mplA) [39, 72, 77, 78, 108] M _ g2 := (mI.1.mono (by decide) (by decide)).tr (z.mono (by decide) (by decide))
              have kk := Kg w_ _ (mpo.qy eS zz (by decide) (by decide) (by decide) (by decide))
              refine ⟨fun q => ?_, fun q => ?_⟩
              · rw [if_neg q] at kk
                rw [s.2.2]; exact kk
              · rw [if_pos q] at kk
                rw [s.2.1]; exact kk

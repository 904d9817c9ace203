def wy_grade (S : MS) (x1 x2 : Int32) : Int32 := if (0 ≤ x1.toInt ∧ x1.toInt ≤ ((nV) S : Int) - 1) ∧ (S.1 9 x1.toNatClampNeg).toInt = 0 then (if (0 ≤ x2.toInt ∧ x2.toInt ≤ 519) then (if (S.1 18 x1.toNatClampNeg).toInt ≤ x2.toInt then 0 else 8) else 5) else 2
theorem c_grade {G : ma_G} {d X : Nat} {h : ah_T} {S : MS} {tx : Nat → List Nat × List PD} {Q : Option ma_V → ah_T → Prop} {E : Nat → ah_T → Prop} {x1 x2 : Int32} (L : LY0 h X) (C : CI0 h X S) (T : CIk G h X S tx)  (Kf : wy_grade S x1 x2 ≠ 0 → ∀ h1, cpo X h h1 (uI S 0 0 (wy_grade S x1 x2)) → Q (some (iv (-1))) h1) (Kg : wy_grade S x1 x2 = 0 → ∀ h1, cpo X h h1 (uI S 0 0 0) → Q (some (iv (grS S tx x1.toNatClampNeg x2))) h1) : MX G mi_X0_grade (d + 52) 0 [some (rv X), some (iv x1), some (iv x2)] [] h Q E := by
  have bV := C.iV.2
  have fV : (ah_I h X 16).toInt = (nV S : Int) := by rw [C.iV.1]; exact nI_x (by omega)
  refine v_X0_grade (d := d + 51) L ?_
  refine ⟨fun c1 => ?_, fun c1 => ?_⟩
  · skip
    intro h2_1 eh2_1 Xh2_1
    have w_ : wy_grade S x1 x2 = (2 : Int32) := by
      unfold wy_grade
      simp only [i3_lt, i3_le, i6_lt, i6_le, i3_eq, i3_l, Int32.reduceToInt, Int64.reduceToInt, tm_1, tl_1, fV] at c1
      repeat' split
      all_goals first | rfl | (exfalso; omega)
    subst eh2_1
    exact Kf (by rw [w_]; decide) _ (by rw [w_]; exact cpo.st L C Xh2_1)
  · skip
    refine ⟨fun c2 => ?_, fun c2 => ?_⟩
    · skip
      intro h4_2 eh4_2 Xh4_2
      have w_ : wy_grade S x1 x2 = (2 : Int32) := by
        unfold wy_grade
        simp only [i3_lt, i3_le, i6_lt, i6_le, i3_eq, i3_l, Int32.reduceToInt, Int64.reduceToInt, tm_1, tl_1, fV] at c1 c2
        repeat' split
        all_goals first | rfl | (exfalso; omega)
      subst eh4_2
      exact Kf (by rw [w_]; decide) _ (by rw [w_]; exact cpo.st L C Xh4_2)
    · skip
      refine ⟨?_, ?_⟩
      · exact vp_x (by simp only [i3_lt, i3_le, i6_lt, i6_le, i3_eq, i3_l, Int32.reduceToInt, Int64.reduceToInt, tm_1, tl_1, fV] at c1 c2 ⊢; omega) (by simp only [i3_lt, i3_le, i6_lt, i6_le, i3_eq, i3_l, Int32.reduceToInt, Int64.reduceToInt, tm_1, tl_1, fV] at c1 c2 ⊢; omega)
      refine ⟨?_, ?_⟩
      · exact C.2.2.2.1.ks (cl_lt (by simp only [i3_lt, i3_le, i6_lt, i6_le, i3_eq, i3_l, Int32.reduceToInt, Int64.reduceToInt, tm_1, tl_1, fV] at c1 c2; omega) (by simp only [i3_lt, i3_le, i6_lt, i6_le, i3_eq, i3_l, Int32.reduceToInt, Int64.reduceToInt, tm_1, tl_1, fV] at c1 c2; omega))
      refine ⟨fun c3 => ?_, fun c3 => ?_⟩
      · skip
        refine ⟨fun c4 => ?_, fun c4 => ?_⟩
        · skip
          intro h9_3 eh9_3 Xh9_3
          rw [C.2.2.2.1.ld (cl_lt (by simp only [i3_lt, i3_le, i6_lt, i6_le, i3_eq, i3_l, Int32.reduceToInt, Int64.reduceToInt, tm_1, tl_1, fV] at c1 c2; omega) (by simp only [i3_lt, i3_le, i6_lt, i6_le, i3_eq, i3_l, Int32.reduceToInt, Int64.reduceToInt, tm_1, tl_1, fV] at c1 c2; omega))] at c3
          have w_ : wy_grade S x1 x2 = (5 : Int32) := by
            unfold wy_grade
            simp only [i3_lt, i3_le, i6_lt, i6_le, i3_eq, i3_l, Int32.reduceToInt, Int64.reduceToInt, tm_1, tl_1, fV] at c1 c2 c3 c4
            repeat' split
            all_goals first | rfl | (exfalso; omega)
          subst eh9_3
          exact Kf (by rw [w_]; decide) _ (by rw [w_]; exact cpo.st L C Xh9_3)
        · skip
          refine ⟨fun c5 => ?_, fun c5 => ?_⟩
          · skip
            intro h11_4 eh11_4 Xh11_4
            rw [C.2.2.2.1.ld (cl_lt (by simp only [i3_lt, i3_le, i6_lt, i6_le, i3_eq, i3_l, Int32.reduceToInt, Int64.reduceToInt, tm_1, tl_1, fV] at c1 c2; omega) (by simp only [i3_lt, i3_le, i6_lt, i6_le, i3_eq, i3_l, Int32.reduceToInt, Int64.reduceToInt, tm_1, tl_1, fV] at c1 c2; omega))] at c3
            have w_ : wy_grade S x1 x2 = (5 : Int32) := by
              unfold wy_grade
              simp only [i3_lt, i3_le, i6_lt, i6_le, i3_eq, i3_l, Int32.reduceToInt, Int64.reduceToInt, tm_1, tl_1, fV] at c1 c2 c3 c4 c5
              repeat' split
              all_goals first | rfl | (exfalso; omega)
            subst eh11_4
            exact Kf (by rw [w_]; decide) _ (by rw [w_]; exact cpo.st L C Xh11_4)
          · skip
            refine ⟨fun c6 => ?_, fun c6 => ?_⟩
            · skip
              rw [C.2.2.2.1.ld (cl_lt (by simp only [i3_lt, i3_le, i6_lt, i6_le, i3_eq, i3_l, Int32.reduceToInt, Int64.reduceToInt, tm_1, tl_1, fV] at c1 c2; omega) (by simp only [i3_lt, i3_le, i6_lt, i6_le, i3_eq, i3_l, Int32.reduceToInt, Int64.reduceToInt, tm_1, tl_1, fV] at c1 c2; omega))] at c3
              rw [((C.2.2.2.1.2.1 x1.toNatClampNeg (by have hk0 : x1.toNatClampNeg < nV S := cl_lt (by simp only [i3_lt, i3_le, i6_lt, i6_le, i3_eq, i3_l, Int32.reduceToInt, Int64.reduceToInt, tm_1, tl_1, fV] at c1 c2; omega) (by simp only [i3_lt, i3_le, i6_lt, i6_le, i3_eq, i3_l, Int32.reduceToInt, Int64.reduceToInt, tm_1, tl_1, fV] at c1 c2; omega); omega)).1 (cl_lt (by simp only [i3_lt, i3_le, i6_lt, i6_le, i3_eq, i3_l, Int32.reduceToInt, Int64.reduceToInt, tm_1, tl_1, fV] at c1 c2; omega) (by simp only [i3_lt, i3_le, i6_lt, i6_le, i3_eq, i3_l, Int32.reduceToInt, Int64.reduceToInt, tm_1, tl_1, fV] at c1 c2; omega))).2.2.1] at c6
              have w_ : wy_grade S x1 x2 = (0 : Int32) := by
                unfold wy_grade
                simp only [i3_lt, i3_le, i6_lt, i6_le, i3_eq, i3_l, Int32.reduceToInt, Int64.reduceToInt, tm_1, tl_1, fV] at c1 c2 c3 c4 c5 c6
                repeat' split
                all_goals first | rfl | (exfalso; omega)
              have hk : x1.toNatClampNeg < nV S := cl_lt (by simp only [i3_lt, i3_le, i6_lt, i6_le, i3_eq, i3_l, Int32.reduceToInt, Int64.reduceToInt, tm_1, tl_1, fV] at c1 c2; omega) (by simp only [i3_lt, i3_le, i6_lt, i6_le, i3_eq, i3_l, Int32.reduceToInt, Int64.reduceToInt, tm_1, tl_1, fV] at c1 c2; omega)
              obtain ⟨n1, n2⟩ := x_nI (x := x1) (n := 119) (by simp only [i3_lt, i3_le, i6_lt, i6_le, i3_eq, i3_l, Int32.reduceToInt, Int64.reduceToInt, tm_1, tl_1, fV] at c1; omega) (by simp only [i3_lt, i3_le, i6_lt, i6_le, i3_eq, i3_l, Int32.reduceToInt, Int64.reduceToInt, tm_1, tl_1, fV] at c2; omega)
              have h0 : (S.1 9 x1.toNatClampNeg).toInt = 0 := c3
              conv => arg 5; rw [n1]
              refine c_gradeOf L C T hk h0 (fun g z => ?_)
              intro _ h17 e17 _
              rw [e17]; exact Kg w_ _ (z.qf.po L C)
            · skip
              intro h18_5 eh18_5 Xh18_5
              rw [C.2.2.2.1.ld (cl_lt (by simp only [i3_lt, i3_le, i6_lt, i6_le, i3_eq, i3_l, Int32.reduceToInt, Int64.reduceToInt, tm_1, tl_1, fV] at c1 c2; omega) (by simp only [i3_lt, i3_le, i6_lt, i6_le, i3_eq, i3_l, Int32.reduceToInt, Int64.reduceToInt, tm_1, tl_1, fV] at c1 c2; omega))] at c3
              rw [((C.2.2.2.1.2.1 x1.toNatClampNeg (by have hk0 : x1.toNatClampNeg < nV S := cl_lt (by simp only [i3_lt, i3_le, i6_lt, i6_le, i3_eq, i3_l, Int32.reduceToInt, Int64.reduceToInt, tm_1, tl_1, fV] at c1 c2; omega) (by simp only [i3_lt, i3_le, i6_lt, i6_le, i3_eq, i3_l, Int32.reduceToInt, Int64.reduceToInt, tm_1, tl_1, fV] at c1 c2; omega); omega)).1 (cl_lt (by simp only [i3_lt, i3_le, i6_lt, i6_le, i3_eq, i3_l, Int32.reduceToInt, Int64.reduceToInt, tm_1, tl_1, fV] at c1 c2; omega) (by simp only [i3_lt, i3_le, i6_lt, i6_le, i3_eq, i3_l, Int32.reduceToInt, Int64.reduceToInt, tm_1, tl_1, fV] at c1 c2; omega))).2.2.1] at c6
              have w_ : wy_grade S x1 x2 = (8 : Int32) := by
                unfold wy_grade
                simp only [i3_lt, i3_le, i6_lt, i6_le, i3_eq, i3_l, Int32.reduceToInt, Int64.reduceToInt, tm_1, tl_1, fV] at c1 c2 c3 c4 c5 c6
                repeat' split
                all_goals first | rfl | (exfalso; omega)
              subst eh18_5
              exact Kf (by rw [w_]; decide) _ (by rw [w_]; exact cpo.st L C Xh18_5)
      · skip
        intro h19_6 eh19_6 Xh19_6
        rw [C.2.2.2.1.ld (cl_lt (by simp only [i3_lt, i3_le, i6_lt, i6_le, i3_eq, i3_l, Int32.reduceToInt, Int64.reduceToInt, tm_1, tl_1, fV] at c1 c2; omega) (by simp only [i3_lt, i3_le, i6_lt, i6_le, i3_eq, i3_l, Int32.reduceToInt, Int64.reduceToInt, tm_1, tl_1, fV] at c1 c2; omega))] at c3
        have w_ : wy_grade S x1 x2 = (2 : Int32) := by
          unfold wy_grade
          simp only [i3_lt, i3_le, i6_lt, i6_le, i3_eq, i3_l, Int32.reduceToInt, Int64.reduceToInt, tm_1, tl_1, fV] at c1 c2 c3
          repeat' split
          all_goals first | rfl | (exfalso; omega)
        subst eh19_6
        exact Kf (by rw [w_]; decide) _ (by rw [w_]; exact cpo.st L C Xh19_6)
theorem m_grade {G : ma_G} {d M : Nat} {h : ah_T} {S : MS} {tx : Nat → List Nat × List PD} {Q : Option ma_V → ah_T → Prop} {E : Nat → ah_T → Prop} {x1 x2 : Int32} (L : LY8 h M) (eS : mv h M = S) (W : WF S) (B : WB S) (T : TXm S tx)  (Kf : wy_grade S x1 x2 ≠ 0 → ∀ h1, mpo M h h1 (uI S 0 0 (wy_grade S x1 x2)) → Q (some (iv (-1))) h1) (Kg : wy_grade S x1 x2 = 0 → ∀ h1, mpo M h h1 (uI S 0 0 0) → Q (some (iv (grS S tx x1.toNatClampNeg x2))) h1) : MX G mi_X8_grade (d + 7) 0 [some (rv M), some (iv x1), some (iv x2)] [] h Q E := by
  have qV := mk_V eS W
  have bV := mb_V W B
  have fV : (ah_I h M 7).toInt = (nV S : Int) := by rw [qV]; exact nI_x (by omega)
  have gV : (ah_I h M 7 - 1).toInt = (nV S : Int) - 1 := by rw [qV]; exact nI_m1 (by omega)
  refine v_X8_grade (d := d + 5) L ?_
  intro h1_1 eh1_1 Xh1_1
  intro h2_2 eh2_2 Xh2_2
  refine ⟨fun c1 => ?_, fun c1 => ?_⟩
  · skip
    intro h4_3 eh4_3 Xh4_3
    have w_ : wy_grade S x1 x2 = (2 : Int32) := by
      unfold wy_grade
      simp only [i3_lt, i3_le, i6_lt, i6_le, i3_eq, i3_l, Int32.reduceToInt, Int64.reduceToInt, tm_1, tl_1, fV, gV] at c1
      repeat' split
      all_goals first | rfl | (exfalso; omega)
    subst eh1_1
    subst eh2_2
    subst eh4_3
    exact Kf (by rw [w_]; decide) _ (by rw [w_]; exact mpo.st eS)
  · skip
    refine ⟨fun c2 => ?_, fun c2 => ?_⟩
    · skip
      intro h6_4 eh6_4 Xh6_4
      have w_ : wy_grade S x1 x2 = (2 : Int32) := by
        unfold wy_grade
        simp only [i3_lt, i3_le, i6_lt, i6_le, i3_eq, i3_l, Int32.reduceToInt, Int64.reduceToInt, tm_1, tl_1, fV, gV] at c1 c2
        repeat' split
        all_goals first | rfl | (exfalso; omega)
      subst eh1_1
      subst eh2_2
      subst eh6_4
      exact Kf (by rw [w_]; decide) _ (by rw [w_]; exact mpo.st eS)
    · skip
      refine ⟨?_, ?_⟩
      · exact vp_x (by simp only [i3_lt, i3_le, i6_lt, i6_le, i3_eq, i3_l, Int32.reduceToInt, Int64.reduceToInt, tm_1, tl_1, fV, gV] at c1 c2 ⊢; omega) (by simp only [i3_lt, i3_le, i6_lt, i6_le, i3_eq, i3_l, Int32.reduceToInt, Int64.reduceToInt, tm_1, tl_1, fV, gV] at c1 c2 ⊢; omega)
      refine ⟨fun c3 => ?_, fun c3 => ?_⟩
      · skip
        intro h9_5 eh9_5 Xh9_5
        rw [mk_r eS] at c3
        have w_ : wy_grade S x1 x2 = (2 : Int32) := by
          unfold wy_grade
          simp only [i3_lt, i3_le, i6_lt, i6_le, i3_eq, i3_l, Int32.reduceToInt, Int64.reduceToInt, tm_1, tl_1, fV, gV] at c1 c2 c3
          repeat' split
          all_goals first | rfl | (exfalso; omega)
        subst eh1_1
        subst eh2_2
        subst eh9_5
        exact Kf (by rw [w_]; decide) _ (by rw [w_]; exact mpo.st eS)
      · skip
        refine ⟨fun c4 => ?_, fun c4 => ?_⟩
        · skip
          intro h11_6 eh11_6 Xh11_6
          rw [mk_r eS] at c3
          have w_ : wy_grade S x1 x2 = (5 : Int32) := by
            unfold wy_grade
            simp only [i3_lt, i3_le, i6_lt, i6_le, i3_eq, i3_l, Int32.reduceToInt, Int64.reduceToInt, tm_1, tl_1, fV, gV] at c1 c2 c3 c4
            repeat' split
            all_goals first | rfl | (exfalso; omega)
          subst eh1_1
          subst eh2_2
          subst eh11_6
          exact Kf (by rw [w_]; decide) _ (by rw [w_]; exact mpo.st eS)
        · skip
          refine ⟨fun c5 => ?_, fun c5 => ?_⟩
          · skip
            intro h13_7 eh13_7 Xh13_7
            rw [mk_r eS] at c3
            have w_ : wy_grade S x1 x2 = (5 : Int32) := by
              unfold wy_grade
              simp only [i3_lt, i3_le, i6_lt, i6_le, i3_eq, i3_l, Int32.reduceToInt, Int64.reduceToInt, tm_1, tl_1, fV, gV] at c1 c2 c3 c4 c5
              repeat' split
              all_goals first | rfl | (exfalso; omega)
            subst eh1_1
            subst eh2_2
            subst eh13_7
            exact Kf (by rw [w_]; decide) _ (by rw [w_]; exact mpo.st eS)
          · skip
            refine ⟨fun c6 => ?_, fun c6 => ?_⟩
            · skip
              rw [mk_r eS] at c3
              rw [mk_r eS] at c6
              have w_ : wy_grade S x1 x2 = (0 : Int32) := by
                unfold wy_grade
                simp only [i3_lt, i3_le, i6_lt, i6_le, i3_eq, i3_l, Int32.reduceToInt, Int64.reduceToInt, tm_1, tl_1, fV, gV] at c1 c2 c3 c4 c5 c6
                repeat' split
                all_goals first | rfl | (exfalso; omega)
              subst eh1_1
              subst eh2_2
              have hk : x1.toNatClampNeg < nV S := cl_lt (by simp only [i3_lt, i3_le, i6_lt, i6_le, i3_eq, i3_l, Int32.reduceToInt, Int64.reduceToInt, tm_1, tl_1, fV, gV] at c1 c2; omega) (by simp only [i3_lt, i3_le, i6_lt, i6_le, i3_eq, i3_l, Int32.reduceToInt, Int64.reduceToInt, tm_1, tl_1, fV, gV] at c1 c2; omega)
              obtain ⟨n1, n2⟩ := x_nI (x := x1) (n := 119) (by simp only [i3_lt, i3_le, i6_lt, i6_le, i3_eq, i3_l, Int32.reduceToInt, Int64.reduceToInt, tm_1, tl_1, fV, gV] at c1; omega) (by simp only [i3_lt, i3_le, i6_lt, i6_le, i3_eq, i3_l, Int32.reduceToInt, Int64.reduceToInt, tm_1, tl_1, fV, gV] at c2; omega)
              have h0 : (S.1 9 x1.toNatClampNeg).toInt = 0 := by rw [c3]; rfl
              conv => arg 5; rw [n1]
              refine m_gradeOf (L.ext (Xh1_1.tr Xh2_2)) (kq.st eS) W B T hk h0 (fun g z => ?_)
              intro _
              exact Kg w_ _ (mpo.qy eS z (by decide) (by decide) (by decide) (by decide))
            · skip
              intro h17_8 eh17_8 Xh17_8
              rw [mk_r eS] at c3
              rw [mk_r eS] at c6
              have w_ : wy_grade S x1 x2 = (8 : Int32) := by
                unfold wy_grade
                simp only [i3_lt, i3_le, i6_lt, i6_le, i3_eq, i3_l, Int32.reduceToInt, Int64.reduceToInt, tm_1, tl_1, fV, gV] at c1 c2 c3 c4 c5 c6
                repeat' split
                all_goals first | rfl | (exfalso; omega)
              subst eh1_1
              subst eh2_2
              subst eh17_8
              exact Kf (by rw [w_]; decide) _ (by rw [w_]; exact mpo.st eS)

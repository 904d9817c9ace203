def wy_alone (S : MS) (x1 x2 x3 : Int32) : Int32 := if (0 ≤ x1.toInt ∧ x1.toInt ≤ ((nF) S : Int) - 1) then (if (0 ≤ x2.toInt ∧ x2.toInt ≤ 9) ∧ (0 ≤ x3.toInt ∧ x3.toInt ≤ 519) then 0 else 5) else 2
theorem c_alone {G : ma_G} {d X : Nat} {h : ah_T} {S : MS} {tx : Nat → List Nat × List PD} {Q : Option ma_V → ah_T → Prop} {E : Nat → ah_T → Prop} {x1 x2 x3 : Int32} (L : LY0 h X) (C : CI0 h X S) (T : CIk G h X S tx)  (Kf : wy_alone S x1 x2 x3 ≠ 0 → ∀ h1, cpo X h h1 (uI S 0 0 (wy_alone S x1 x2 x3)) → Q (some (jv (-1))) h1) (Kg : wy_alone S x1 x2 x3 = 0 → ∀ h1, cpo X h h1 (uI S 0 0 0) → Q (some (jv (alS S tx x3 x1 x2 (nV S)))) h1) : MX G mi_X0_alone (d + 53) 0 [some (rv X), some (iv x1), some (iv x2), some (iv x3), none] [] h Q E := by
  have bF := C.iF.2
  have fF : (ah_I h X 14).toInt = (nF S : Int) := by rw [C.iF.1]; exact nI_x (by omega)
  refine v_X0_alone (d := d + 51) L ?_
  refine ⟨fun c1 => ?_, fun c1 => ?_⟩
  · skip
    intro h2_1 eh2_1 Xh2_1
    have w_ : wy_alone S x1 x2 x3 = (2 : Int32) := by
      unfold wy_alone
      simp only [i3_lt, i3_le, i6_lt, i6_le, i3_eq, i3_l, Int32.reduceToInt, Int64.reduceToInt, tm_1, tl_1, fF] at c1
      repeat' split
      all_goals first | rfl | (exfalso; omega)
    subst eh2_1
    exact Kf (by rw [w_]; decide) _ (by rw [w_]; exact cpo.st L C Xh2_1)
  · skip
    refine ⟨fun c2 => ?_, fun c2 => ?_⟩
    · skip
      intro h4_2 eh4_2 Xh4_2
      have w_ : wy_alone S x1 x2 x3 = (2 : Int32) := by
        unfold wy_alone
        simp only [i3_lt, i3_le, i6_lt, i6_le, i3_eq, i3_l, Int32.reduceToInt, Int64.reduceToInt, tm_1, tl_1, fF] at c1 c2
        repeat' split
        all_goals first | rfl | (exfalso; omega)
      subst eh4_2
      exact Kf (by rw [w_]; decide) _ (by rw [w_]; exact cpo.st L C Xh4_2)
    · skip
      refine ⟨fun c3 => ?_, fun c3 => ?_⟩
      · skip
        intro h6_3 eh6_3 Xh6_3
        have w_ : wy_alone S x1 x2 x3 = (5 : Int32) := by
          unfold wy_alone
          simp only [i3_lt, i3_le, i6_lt, i6_le, i3_eq, i3_l, Int32.reduceToInt, Int64.reduceToInt, tm_1, tl_1, fF] at c1 c2 c3
          repeat' split
          all_goals first | rfl | (exfalso; omega)
        subst eh6_3
        exact Kf (by rw [w_]; decide) _ (by rw [w_]; exact cpo.st L C Xh6_3)
      · skip
        refine ⟨fun c4 => ?_, fun c4 => ?_⟩
        · skip
          intro h8_4 eh8_4 Xh8_4
          have w_ : wy_alone S x1 x2 x3 = (5 : Int32) := by
            unfold wy_alone
            simp only [i3_lt, i3_le, i6_lt, i6_le, i3_eq, i3_l, Int32.reduceToInt, Int64.reduceToInt, tm_1, tl_1, fF] at c1 c2 c3 c4
            repeat' split
            all_goals first | rfl | (exfalso; omega)
          subst eh8_4
          exact Kf (by rw [w_]; decide) _ (by rw [w_]; exact cpo.st L C Xh8_4)
        · skip
          refine ⟨fun c5 => ?_, fun c5 => ?_⟩
          · skip
            intro h10_5 eh10_5 Xh10_5
            have w_ : wy_alone S x1 x2 x3 = (5 : Int32) := by
              unfold wy_alone
              simp only [i3_lt, i3_le, i6_lt, i6_le, i3_eq, i3_l, Int32.reduceToInt, Int64.reduceToInt, tm_1, tl_1, fF] at c1 c2 c3 c4 c5
              repeat' split
              all_goals first | rfl | (exfalso; omega)
            subst eh10_5
            exact Kf (by rw [w_]; decide) _ (by rw [w_]; exact cpo.st L C Xh10_5)
          · skip
            refine ⟨fun c6 => ?_, fun c6 => ?_⟩
            · skip
              intro h12_6 eh12_6 Xh12_6
              have w_ : wy_alone S x1 x2 x3 = (5 : Int32) := by
                unfold wy_alone
                simp only [i3_lt, i3_le, i6_lt, i6_le, i3_eq, i3_l, Int32.reduceToInt, Int64.reduceToInt, tm_1, tl_1, fF] at c1 c2 c3 c4 c5 c6
                repeat' split
                all_goals first | rfl | (exfalso; omega)
              subst eh12_6
              exact Kf (by rw [w_]; decide) _ (by rw [w_]; exact cpo.st L C Xh12_6)
            · skip
              have w_ : wy_alone S x1 x2 x3 = (0 : Int32) := by
                unfold wy_alone
                simp only [i3_lt, i3_le, i6_lt, i6_le, i3_eq, i3_l, Int32.reduceToInt, Int64.reduceToInt, tm_1, tl_1, fF] at c1 c2 c3 c4 c5 c6
                repeat' split
                all_goals first | rfl | (exfalso; omega)
              refine c_playsL L C T (fun g I tb _ => ?_)
              intro _
              have Cg := C.qf L I.1
              refine c_aloneOf (tx := tx) (kn := x3) (I.1.ly L) Cg (fun j hj a b => by rw [I.1.2.1 _ _ (by omega)]; exact I.2.2 j hj a b) tb ?_
              intro _ h17 e17 _
              rw [e17]; exact Kg w_ _ (I.1.po L C)
theorem m_alone {G : ma_G} {d M : Nat} {h : ah_T} {S : MS} {tx : Nat → List Nat × List PD} {Q : Option ma_V → ah_T → Prop} {E : Nat → ah_T → Prop} {x1 x2 x3 : Int32} (L : LY8 h M) (eS : mv h M = S) (W : WF S) (B : WB S) (T : TXm S tx)  (Kf : wy_alone S x1 x2 x3 ≠ 0 → ∀ h1, mpo M h h1 (uI S 0 0 (wy_alone S x1 x2 x3)) → Q (some (jv (-1))) h1) (Kg : wy_alone S x1 x2 x3 = 0 → ∀ h1, mpo M h h1 (uI S 0 0 0) → Q (some (jv (alS S tx x3 x1 x2 (nV S)))) h1) : MX G mi_X8_alone (d + 8) 0 [some (rv M), some (iv x1), some (iv x2), some (iv x3)] [] h Q E := by
  have qF := mk_F eS W
  have bF := mb_F W B
  have fF : (ah_I h M 5).toInt = (nF S : Int) := by rw [qF]; exact nI_x (by omega)
  have gF : (ah_I h M 5 - 1).toInt = (nF S : Int) - 1 := by rw [qF]; exact nI_m1 (by omega)
  refine v_X8_alone (d := d + 5) L ?_
  intro h1_1 eh1_1 Xh1_1
  refine ⟨fun c1 => ?_, fun c1 => ?_⟩
  · skip
    intro h3_2 eh3_2 Xh3_2
    have w_ : wy_alone S x1 x2 x3 = (2 : Int32) := by
      unfold wy_alone
      simp only [i3_lt, i3_le, i6_lt, i6_le, i3_eq, i3_l, Int32.reduceToInt, Int64.reduceToInt, tm_1, tl_1, fF, gF] at c1
      repeat' split
      all_goals first | rfl | (exfalso; omega)
    subst eh1_1
    subst eh3_2
    exact Kf (by rw [w_]; decide) _ (by rw [w_]; exact mpo.s2 eS)
  · skip
    refine ⟨fun c2 => ?_, fun c2 => ?_⟩
    · skip
      intro h5_3 eh5_3 Xh5_3
      have w_ : wy_alone S x1 x2 x3 = (2 : Int32) := by
        unfold wy_alone
        simp only [i3_lt, i3_le, i6_lt, i6_le, i3_eq, i3_l, Int32.reduceToInt, Int64.reduceToInt, tm_1, tl_1, fF, gF] at c1 c2
        repeat' split
        all_goals first | rfl | (exfalso; omega)
      subst eh1_1
      subst eh5_3
      exact Kf (by rw [w_]; decide) _ (by rw [w_]; exact mpo.s2 eS)
    · skip
      refine ⟨fun c3 => ?_, fun c3 => ?_⟩
      · skip
        intro h7_4 eh7_4 Xh7_4
        have w_ : wy_alone S x1 x2 x3 = (5 : Int32) := by
          unfold wy_alone
          simp only [i3_lt, i3_le, i6_lt, i6_le, i3_eq, i3_l, Int32.reduceToInt, Int64.reduceToInt, tm_1, tl_1, fF, gF] at c1 c2 c3
          repeat' split
          all_goals first | rfl | (exfalso; omega)
        subst eh1_1
        subst eh7_4
        exact Kf (by rw [w_]; decide) _ (by rw [w_]; exact mpo.s2 eS)
      · skip
        refine ⟨fun c4 => ?_, fun c4 => ?_⟩
        · skip
          intro h9_5 eh9_5 Xh9_5
          have w_ : wy_alone S x1 x2 x3 = (5 : Int32) := by
            unfold wy_alone
            simp only [i3_lt, i3_le, i6_lt, i6_le, i3_eq, i3_l, Int32.reduceToInt, Int64.reduceToInt, tm_1, tl_1, fF, gF] at c1 c2 c3 c4
            repeat' split
            all_goals first | rfl | (exfalso; omega)
          subst eh1_1
          subst eh9_5
          exact Kf (by rw [w_]; decide) _ (by rw [w_]; exact mpo.s2 eS)
        · skip
          refine ⟨fun c5 => ?_, fun c5 => ?_⟩
          · skip
            intro h11_6 eh11_6 Xh11_6
            have w_ : wy_alone S x1 x2 x3 = (5 : Int32) := by
              unfold wy_alone
              simp only [i3_lt, i3_le, i6_lt, i6_le, i3_eq, i3_l, Int32.reduceToInt, Int64.reduceToInt, tm_1, tl_1, fF, gF] at c1 c2 c3 c4 c5
              repeat' split
              all_goals first | rfl | (exfalso; omega)
            subst eh1_1
            subst eh11_6
            exact Kf (by rw [w_]; decide) _ (by rw [w_]; exact mpo.s2 eS)
          · skip
            refine ⟨fun c6 => ?_, fun c6 => ?_⟩
            · skip
              intro h13_7 eh13_7 Xh13_7
              have w_ : wy_alone S x1 x2 x3 = (5 : Int32) := by
                unfold wy_alone
                simp only [i3_lt, i3_le, i6_lt, i6_le, i3_eq, i3_l, Int32.reduceToInt, Int64.reduceToInt, tm_1, tl_1, fF, gF] at c1 c2 c3 c4 c5 c6
                repeat' split
                all_goals first | rfl | (exfalso; omega)
              subst eh1_1
              subst eh13_7
              exact Kf (by rw [w_]; decide) _ (by rw [w_]; exact mpo.s2 eS)
            · skip
              intro h14_8 eh14_8 Xh14_8
              have w_ : wy_alone S x1 x2 x3 = (0 : Int32) := by
                unfold wy_alone
                simp only [i3_lt, i3_le, i6_lt, i6_le, i3_eq, i3_l, Int32.reduceToInt, Int64.reduceToInt, tm_1, tl_1, fF, gF] at c1 c2 c3 c4 c5 c6
                repeat' split
                all_goals first | rfl | (exfalso; omega)
              subst eh1_1
              subst eh14_8
              have L2 := L.ext (Xh1_1.tr Xh14_8)
              have k0 : kq S (mv (ah_wI (ah_wI h M 1 0) M 0 0) M) := kq.st eS
              refine m_play L2 k0 W B T (fun g z => ?_)
              intro _
              refine m_aloneOf (tx := tx) (kn := x3) (z.1.ly L2) (k0.mc z.1 (by decide) (by decide) (by decide)) W B z.2.2 ?_
              intro _
              exact Kg w_ _ (mpo.qy eS z.1 (by decide) (by decide) (by decide) (by decide))
def wy_more (S : MS) (x1 x2 : Int32) : Int32 := if (0 ≤ x1.toInt ∧ x1.toInt ≤ 9) ∧ (0 ≤ x2.toInt ∧ x2.toInt ≤ 519) then 0 else 5
theorem c_more {G : ma_G} {d X : Nat} {h : ah_T} {S : MS} {tx : Nat → List Nat × List PD} {Q : Option ma_V → ah_T → Prop} {E : Nat → ah_T → Prop} {x1 x2 : Int32} (L : LY0 h X) (C : CI0 h X S) (T : CIk G h X S tx)  (Kf : wy_more S x1 x2 ≠ 0 → ∀ h1, cpo X h h1 (uI S 0 0 (wy_more S x1 x2)) → Q (some (iv (-1))) h1) (Kg : wy_more S x1 x2 = 0 → ∀ h1, cpo X h h1 (uI S 0 0 0) → Q (some (iv (nI (moS S tx x2 x1.toNatClampNeg (nF S))))) h1) : MX G mi_X0_more (d + 54) 0 [some (rv X), some (iv x1), some (iv x2), none, none, none, none] [] h Q E := by
  refine v_X0_more (d := d + 53) L ?_
  refine ⟨fun c1 => ?_, fun c1 => ?_⟩
  · skip
    intro h2_1 eh2_1 Xh2_1
    have w_ : wy_more S x1 x2 = (5 : Int32) := by
      unfold wy_more
      simp only [i3_lt, i3_le, i6_lt, i6_le, i3_eq, i3_l, Int32.reduceToInt, Int64.reduceToInt, tm_1, tl_1] at c1
      repeat' split
      all_goals first | rfl | (exfalso; omega)
    subst eh2_1
    exact Kf (by rw [w_]; decide) _ (by rw [w_]; exact cpo.st L C Xh2_1)
  · skip
    refine ⟨fun c2 => ?_, fun c2 => ?_⟩
    · skip
      intro h4_2 eh4_2 Xh4_2
      have w_ : wy_more S x1 x2 = (5 : Int32) := by
        unfold wy_more
        simp only [i3_lt, i3_le, i6_lt, i6_le, i3_eq, i3_l, Int32.reduceToInt, Int64.reduceToInt, tm_1, tl_1] at c1 c2
        repeat' split
        all_goals first | rfl | (exfalso; omega)
      subst eh4_2
      exact Kf (by rw [w_]; decide) _ (by rw [w_]; exact cpo.st L C Xh4_2)
    · skip
      refine ⟨fun c3 => ?_, fun c3 => ?_⟩
      · skip
        intro h6_3 eh6_3 Xh6_3
        have w_ : wy_more S x1 x2 = (5 : Int32) := by
          unfold wy_more
          simp only [i3_lt, i3_le, i6_lt, i6_le, i3_eq, i3_l, Int32.reduceToInt, Int64.reduceToInt, tm_1, tl_1] at c1 c2 c3
          repeat' split
          all_goals first | rfl | (exfalso; omega)
        subst eh6_3
        exact Kf (by rw [w_]; decide) _ (by rw [w_]; exact cpo.st L C Xh6_3)
      · skip
        refine ⟨fun c4 => ?_, fun c4 => ?_⟩
        · skip
          intro h8_4 eh8_4 Xh8_4
          have w_ : wy_more S x1 x2 = (5 : Int32) := by
            unfold wy_more
            simp only [i3_lt, i3_le, i6_lt, i6_le, i3_eq, i3_l, Int32.reduceToInt, Int64.reduceToInt, tm_1, tl_1] at c1 c2 c3 c4
            repeat' split
            all_goals first | rfl | (exfalso; omega)
          subst eh8_4
          exact Kf (by rw [w_]; decide) _ (by rw [w_]; exact cpo.st L C Xh8_4)
        · skip
          have w_ : wy_more S x1 x2 = (0 : Int32) := by
            unfold wy_more
            simp only [i3_lt, i3_le, i6_lt, i6_le, i3_eq, i3_l, Int32.reduceToInt, Int64.reduceToInt, tm_1, tl_1] at c1 c2 c3 c4
            repeat' split
            all_goals first | rfl | (exfalso; omega)
          obtain ⟨nx11, nx12⟩ := x_nI (x := x1) (n := 9) (by simp only [i3_lt, i3_le, i6_lt, i6_le, i3_eq, i3_l, Int32.reduceToInt, Int64.reduceToInt, tm_1, tl_1] at c1 c2 c3 c4 ⊢; omega) (by simp only [i3_lt, i3_le, i6_lt, i6_le, i3_eq, i3_l, Int32.reduceToInt, Int64.reduceToInt, tm_1, tl_1] at c1 c2 c3 c4 ⊢; omega)
          rw [nx11]
          refine c_settle L C T (by omega) (fun g1 q1 s1 => ?_)
          intro _
          refine c_playsL (q1.ly L) (C.qf L q1) (T.qf L q1) (fun g I tb j3 => ?_)
          intro _
          have q2 := q1.tr I.1
          exact c_more36 (q2.ly L) (C.qf L q2) (by omega) I.2.1 (fun j hj a b => by rw [I.1.2.1 _ _ (by omega)]; exact I.2.2 j hj a b) tb (fun f hf => by rw [j3 _ _ (by omega) (by omega), j3 _ _ (by omega) (by omega)]; exact ⟨(s1.1 f hf).1, (s1.1 f hf).2.1⟩) (fun h2 e2 => by rw [e2]; exact Kg w_ _ (q2.po L C))
theorem m_more {G : ma_G} {d M : Nat} {h : ah_T} {S : MS} {tx : Nat → List Nat × List PD} {Q : Option ma_V → ah_T → Prop} {E : Nat → ah_T → Prop} {x1 x2 : Int32} (L : LY8 h M) (eS : mv h M = S) (W : WF S) (B : WB S) (T : TXm S tx)  (Kf : wy_more S x1 x2 ≠ 0 → ∀ h1, mpo M h h1 (uI S 0 0 (wy_more S x1 x2)) → Q (some (iv (-1))) h1) (Kg : wy_more S x1 x2 = 0 → ∀ h1, mpo M h h1 (uI S 0 0 0) → Q (some (iv (nI (moS S tx x2 x1.toNatClampNeg (nF S))))) h1) : MX G mi_X8_more (d + 9) 0 [some (rv M), some (iv x1), some (iv x2), none, none, none, none, none] [] h Q E := by
  refine v_X8_more (d := d + 7) L ?_
  intro h1_1 eh1_1 Xh1_1
  intro h2_2 eh2_2 Xh2_2
  refine ⟨fun c1 => ?_, fun c1 => ?_⟩
  · skip
    intro h4_3 eh4_3 Xh4_3
    have w_ : wy_more S x1 x2 = (5 : Int32) := by
      unfold wy_more
      simp only [i3_lt, i3_le, i6_lt, i6_le, i3_eq, i3_l, Int32.reduceToInt, Int64.reduceToInt, tm_1, tl_1] at c1
      repeat' split
      all_goals first | rfl | (exfalso; omega)
    subst eh1_1
    subst eh2_2
    subst eh4_3
    exact Kf (by rw [w_]; decide) _ (by rw [w_]; exact mpo.st eS)
  · skip
    refine ⟨fun c2 => ?_, fun c2 => ?_⟩
    · skip
      intro h6_4 eh6_4 Xh6_4
      have w_ : wy_more S x1 x2 = (5 : Int32) := by
        unfold wy_more
        simp only [i3_lt, i3_le, i6_lt, i6_le, i3_eq, i3_l, Int32.reduceToInt, Int64.reduceToInt, tm_1, tl_1] at c1 c2
        repeat' split
        all_goals first | rfl | (exfalso; omega)
      subst eh1_1
      subst eh2_2
      subst eh6_4
      exact Kf (by rw [w_]; decide) _ (by rw [w_]; exact mpo.st eS)
    · skip
      refine ⟨fun c3 => ?_, fun c3 => ?_⟩
      · skip
        intro h8_5 eh8_5 Xh8_5
        have w_ : wy_more S x1 x2 = (5 : Int32) := by
          unfold wy_more
          simp only [i3_lt, i3_le, i6_lt, i6_le, i3_eq, i3_l, Int32.reduceToInt, Int64.reduceToInt, tm_1, tl_1] at c1 c2 c3
          repeat' split
          all_goals first | rfl | (exfalso; omega)
        subst eh1_1
        subst eh2_2
        subst eh8_5
        exact Kf (by rw [w_]; decide) _ (by rw [w_]; exact mpo.st eS)
      · skip
        refine ⟨fun c4 => ?_, fun c4 => ?_⟩
        · skip
          intro h10_6 eh10_6 Xh10_6
          have w_ : wy_more S x1 x2 = (5 : Int32) := by
            unfold wy_more
            simp only [i3_lt, i3_le, i6_lt, i6_le, i3_eq, i3_l, Int32.reduceToInt, Int64.reduceToInt, tm_1, tl_1] at c1 c2 c3 c4
            repeat' split
            all_goals first | rfl | (exfalso; omega)
          subst eh1_1
          subst eh2_2
          subst eh10_6
          exact Kf (by rw [w_]; decide) _ (by rw [w_]; exact mpo.st eS)
        · skip
          have w_ : wy_more S x1 x2 = (0 : Int32) := by
            unfold wy_more
            simp only [i3_lt, i3_le, i6_lt, i6_le, i3_eq, i3_l, Int32.reduceToInt, Int64.reduceToInt, tm_1, tl_1] at c1 c2 c3 c4
            repeat' split
            all_goals first | rfl | (exfalso; omega)
          subst eh1_1
          subst eh2_2
          obtain ⟨nx11, nx12⟩ := x_nI (x := x1) (n := 9) (by simp only [i3_lt, i3_le, i6_lt, i6_le, i3_eq, i3_l, Int32.reduceToInt, Int64.reduceToInt, tm_1, tl_1] at c1 c2 c3 c4 ⊢; omega) (by simp only [i3_lt, i3_le, i6_lt, i6_le, i3_eq, i3_l, Int32.reduceToInt, Int64.reduceToInt, tm_1, tl_1] at c1 c2 c3 c4 ⊢; omega)
          have L2 := L.ext (Xh1_1.tr Xh2_2)
          have k0 : kq S (mv (ah_wI (ah_wI h M 1 0) M 0 0) M) := kq.st eS
          rw [nx11]
          refine m_pay L2 k0 W B T (by omega) (fun g mI g2 z s => ?_)
          intro _
          have zz : mch (payA ++ mplA) [39, 72, 77, 78, 108] M (ah_wI (ah_wI h M 1 0) M 0 0) g2 := (mI.1.mono (by decide) (by decide)).tr (z.mono (by decide) (by decide))
          have F : mpF S tx x2 M g := mI.2.2
          exact m_more41 (zz.ly L2) (k0.mc zz (by decide) (by decide) (by decide)) W B (by omega) (F.mc z (by decide) (by decide) (by decide)) (fun f hf => ⟨(s.1 f hf).1, (s.1 f hf).2.1⟩) (Kg w_ _ (mpo.qy eS zz (by decide) (by decide) (by decide) (by decide)))

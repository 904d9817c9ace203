def wy_turns (S : MS) (x1 x2 x3 : Int32) : Int32 := if (0 ≤ x3.toInt ∧ x3.toInt ≤ ((nE) S : Int) - 1) then (if (0 ≤ x1.toInt ∧ x1.toInt ≤ 519) ∧ (1 ≤ x2.toInt ∧ x2.toInt ≤ 20) then 0 else 5) else 2
theorem c_turns {G : ma_G} {d X : Nat} {h : ah_T} {S : MS} {tx : Nat → List Nat × List PD} {Q : Option ma_V → ah_T → Prop} {E : Nat → ah_T → Prop} {x1 x2 x3 : Int32} (L : LY0 h X) (C : CI0 h X S) (T : CIk G h X S tx)  (Kf : wy_turns S x1 x2 x3 ≠ 0 → ∀ h1, cpo X h h1 (uI S 0 0 (wy_turns S x1 x2 x3)) → Q (some (iv (-1))) h1) (Kg : wy_turns S x1 x2 x3 = 0 → ∀ h1, cpo X h h1 (uI S 0 0 0) → Q (some (iv (nI (tuC S tx x1 (inA (PLS S tx x1 (nV S))) x2.toNatClampNeg x3.toNatClampNeg)))) h1) : MX G mi_X0_turns (d + 53) 0 [some (rv X), some (iv x1), some (iv x2), some (iv x3), none, none, none, none, none, none, none, none] [] h Q E := by
  have bE := C.iE.2
  have fE : (ah_I h X 15).toInt = (nE S : Int) := by rw [C.iE.1]; exact nI_x (by omega)
  refine v_X0_turns (d := d + 52) L ?_
  refine ⟨fun c1 => ?_, fun c1 => ?_⟩
  · skip
    intro h2_1 eh2_1 Xh2_1
    have w_ : wy_turns S x1 x2 x3 = (2 : Int32) := by
      unfold wy_turns
      simp only [i3_lt, i3_le, i6_lt, i6_le, i3_eq, i3_l, Int32.reduceToInt, Int64.reduceToInt, tm_1, tl_1, fE] at c1
      repeat' split
      all_goals first | rfl | (exfalso; omega)
    subst eh2_1
    exact Kf (by rw [w_]; decide) _ (by rw [w_]; exact cpo.st L C Xh2_1)
  · skip
    refine ⟨fun c2 => ?_, fun c2 => ?_⟩
    · skip
      intro h4_2 eh4_2 Xh4_2
      have w_ : wy_turns S x1 x2 x3 = (2 : Int32) := by
        unfold wy_turns
        simp only [i3_lt, i3_le, i6_lt, i6_le, i3_eq, i3_l, Int32.reduceToInt, Int64.reduceToInt, tm_1, tl_1, fE] at c1 c2
        repeat' split
        all_goals first | rfl | (exfalso; omega)
      subst eh4_2
      exact Kf (by rw [w_]; decide) _ (by rw [w_]; exact cpo.st L C Xh4_2)
    · skip
      refine ⟨fun c3 => ?_, fun c3 => ?_⟩
      · skip
        intro h6_3 eh6_3 Xh6_3
        have w_ : wy_turns S x1 x2 x3 = (5 : Int32) := by
          unfold wy_turns
          simp only [i3_lt, i3_le, i6_lt, i6_le, i3_eq, i3_l, Int32.reduceToInt, Int64.reduceToInt, tm_1, tl_1, fE] at c1 c2 c3
          repeat' split
          all_goals first | rfl | (exfalso; omega)
        subst eh6_3
        exact Kf (by rw [w_]; decide) _ (by rw [w_]; exact cpo.st L C Xh6_3)
      · skip
        refine ⟨fun c4 => ?_, fun c4 => ?_⟩
        · skip
          intro h8_4 eh8_4 Xh8_4
          have w_ : wy_turns S x1 x2 x3 = (5 : Int32) := by
            unfold wy_turns
            simp only [i3_lt, i3_le, i6_lt, i6_le, i3_eq, i3_l, Int32.reduceToInt, Int64.reduceToInt, tm_1, tl_1, fE] at c1 c2 c3 c4
            repeat' split
            all_goals first | rfl | (exfalso; omega)
          subst eh8_4
          exact Kf (by rw [w_]; decide) _ (by rw [w_]; exact cpo.st L C Xh8_4)
        · skip
          refine ⟨fun c5 => ?_, fun c5 => ?_⟩
          · skip
            intro h10_5 eh10_5 Xh10_5
            have w_ : wy_turns S x1 x2 x3 = (5 : Int32) := by
              unfold wy_turns
              simp only [i3_lt, i3_le, i6_lt, i6_le, i3_eq, i3_l, Int32.reduceToInt, Int64.reduceToInt, tm_1, tl_1, fE] at c1 c2 c3 c4 c5
              repeat' split
              all_goals first | rfl | (exfalso; omega)
            subst eh10_5
            exact Kf (by rw [w_]; decide) _ (by rw [w_]; exact cpo.st L C Xh10_5)
          · skip
            refine ⟨fun c6 => ?_, fun c6 => ?_⟩
            · skip
              have w_ : wy_turns S x1 x2 x3 = (0 : Int32) := by
                unfold wy_turns
                simp only [i3_lt, i3_le, i6_lt, i6_le, i3_eq, i3_l, Int32.reduceToInt, Int64.reduceToInt, tm_1, tl_1, fE] at c1 c2 c3 c4 c5 c6
                repeat' split
                all_goals first | rfl | (exfalso; omega)
              obtain ⟨nx21, nx22⟩ := x_nI (x := x2) (n := 20) (by simp only [i3_lt, i3_le, i6_lt, i6_le, i3_eq, i3_l, Int32.reduceToInt, Int64.reduceToInt, tm_1, tl_1, fE] at c1 c2 c3 c4 c5 c6 ⊢; omega) (by simp only [i3_lt, i3_le, i6_lt, i6_le, i3_eq, i3_l, Int32.reduceToInt, Int64.reduceToInt, tm_1, tl_1, fE] at c1 c2 c3 c4 c5 c6 ⊢; omega)
              obtain ⟨nx31, nx32⟩ := x_nI (x := x3) (n := 7) (by simp only [i3_lt, i3_le, i6_lt, i6_le, i3_eq, i3_l, Int32.reduceToInt, Int64.reduceToInt, tm_1, tl_1, fE] at c1 c2 c3 c4 c5 c6 ⊢; omega) (by simp only [i3_lt, i3_le, i6_lt, i6_le, i3_eq, i3_l, Int32.reduceToInt, Int64.reduceToInt, tm_1, tl_1, fE] at c1 c2 c3 c4 c5 c6 ⊢; omega)
              have e8 := C.iE.2
              have ba : ∀ e, e < nE S → inA (PLS S tx x1 (nV S)) e ≤ 1000000 := fun e he => by
                have a := (PLS_i (tx := tx) (kn := x1) C.2.2.2.2.2 ⟨C.iF.2, C.iE.2, C.iV.2⟩ (Nat.le_refl (nV S))).1 e (by omega)
                have b := (roS_b C.2.2.2.2.2 he).2
                omega
              refine c_plays L C T (fun g I _ => ?_)
              intro _
              have Lg := I.1.ly L
              have Cg := C.qf L I.1
              have Tg := T.qf L I.1
              refine c_force Lg Cg Tg (fun v g6 e6 r6 _ => ?_)
              intro _ h16 e16 _
              rw [← e6] at e16
              subst e16
              have q6 : qfr X h h16 := by rw [e6]; exact I.1.wR
              have cp : CPl h16 (X + 9) (PLS S tx x1 (nV S)) := I.2.1.cg (fun _ _ _ _ => by rw [e6]; rfl) (fun _ _ _ _ => by rw [e6]; rfl)
              exact c_turns55 (q6.ly L) (C.qf L q6) (T.qf L q6) cp r6 nx21 nx22 (by omega) nx31 ba (fun g2 z2 h2 e2 => by rw [e2]; exact Kg w_ _ ((q6.tr z2).po L C))
            · skip
              intro h17_6 eh17_6 Xh17_6
              have w_ : wy_turns S x1 x2 x3 = (5 : Int32) := by
                unfold wy_turns
                simp only [i3_lt, i3_le, i6_lt, i6_le, i3_eq, i3_l, Int32.reduceToInt, Int64.reduceToInt, tm_1, tl_1, fE] at c1 c2 c3 c4 c5 c6
                repeat' split
                all_goals first | rfl | (exfalso; omega)
              subst eh17_6
              exact Kf (by rw [w_]; decide) _ (by rw [w_]; exact cpo.st L C Xh17_6)
theorem m_turns {G : ma_G} {d M : Nat} {h : ah_T} {S : MS} {tx : Nat → List Nat × List PD} {Q : Option ma_V → ah_T → Prop} {E : Nat → ah_T → Prop} {x1 x2 x3 : Int32} (L : LY8 h M) (eS : mv h M = S) (W : WF S) (B : WB S) (T : TXm S tx)  (Kf : wy_turns S x1 x2 x3 ≠ 0 → ∀ h1, mpo M h h1 (uI S 0 0 (wy_turns S x1 x2 x3)) → Q (some (iv (-1))) h1) (Kg : wy_turns S x1 x2 x3 = 0 → ∀ h1, mpo M h h1 (uI S 0 0 0) → Q (some (iv (nI (tuC S tx x1 (inA (PLS S tx x1 (nV S))) x2.toNatClampNeg x3.toNatClampNeg)))) h1) : MX G mi_X8_turns (d + 8) 0 [some (rv M), some (iv x1), some (iv x2), some (iv x3), none, none, none, none, none, none, none, none] [] h Q E := by
  have qE := mk_E eS W
  have bE := mb_E W B
  have fE : (ah_I h M 6).toInt = (nE S : Int) := by rw [qE]; exact nI_x (by omega)
  have gE : (ah_I h M 6 - 1).toInt = (nE S : Int) - 1 := by rw [qE]; exact nI_m1 (by omega)
  refine v_X8_turns (d := d + 6) L ?_
  intro h1_1 eh1_1 Xh1_1
  intro h2_2 eh2_2 Xh2_2
  refine ⟨fun c1 => ?_, fun c1 => ?_⟩
  · skip
    intro h4_3 eh4_3 Xh4_3
    have w_ : wy_turns S x1 x2 x3 = (2 : Int32) := by
      unfold wy_turns
      simp only [i3_lt, i3_le, i6_lt, i6_le, i3_eq, i3_l, Int32.reduceToInt, Int64.reduceToInt, tm_1, tl_1, fE, gE] at c1
      repeat' split
      all_goals first | rfl | (exfalso; omega)
    subst eh1_1
    subst eh2_2
    subst eh4_3
    exact Kf (by rw [w_]; decide) _ (by rw [w_]; exact mpo.st eS)
  · skip
    refine ⟨fun c2 => ?_, fun c2 => ?_⟩
    · skip
      intro h6_4 eh6_4 Xh6_4
      have w_ : wy_turns S x1 x2 x3 = (2 : Int32) := by
        unfold wy_turns
        simp only [i3_lt, i3_le, i6_lt, i6_le, i3_eq, i3_l, Int32.reduceToInt, Int64.reduceToInt, tm_1, tl_1, fE, gE] at c1 c2
        repeat' split
        all_goals first | rfl | (exfalso; omega)
      subst eh1_1
      subst eh2_2
      subst eh6_4
      exact Kf (by rw [w_]; decide) _ (by rw [w_]; exact mpo.st eS)
    · skip
      refine ⟨fun c3 => ?_, fun c3 => ?_⟩
      · skip
        intro h8_5 eh8_5 Xh8_5
        have w_ : wy_turns S x1 x2 x3 = (5 : Int32) := by
          unfold wy_turns
          simp only [i3_lt, i3_le, i6_lt, i6_le, i3_eq, i3_l, Int32.reduceToInt, Int64.reduceToInt, tm_1, tl_1, fE, gE] at c1 c2 c3
          repeat' split
          all_goals first | rfl | (exfalso; omega)
        subst eh1_1
        subst eh2_2
        subst eh8_5
        exact Kf (by rw [w_]; decide) _ (by rw [w_]; exact mpo.st eS)
      · skip
        refine ⟨fun c4 => ?_, fun c4 => ?_⟩
        · skip
          intro h10_6 eh10_6 Xh10_6
          have w_ : wy_turns S x1 x2 x3 = (5 : Int32) := by
            unfold wy_turns
            simp only [i3_lt, i3_le, i6_lt, i6_le, i3_eq, i3_l, Int32.reduceToInt, Int64.reduceToInt, tm_1, tl_1, fE, gE] at c1 c2 c3 c4
            repeat' split
            all_goals first | rfl | (exfalso; omega)
          subst eh1_1
          subst eh2_2
          subst eh10_6
          exact Kf (by rw [w_]; decide) _ (by rw [w_]; exact mpo.st eS)
        · skip
          refine ⟨fun c5 => ?_, fun c5 => ?_⟩
          · skip
            intro h12_7 eh12_7 Xh12_7
            have w_ : wy_turns S x1 x2 x3 = (5 : Int32) := by
              unfold wy_turns
              simp only [i3_lt, i3_le, i6_lt, i6_le, i3_eq, i3_l, Int32.reduceToInt, Int64.reduceToInt, tm_1, tl_1, fE, gE] at c1 c2 c3 c4 c5
              repeat' split
              all_goals first | rfl | (exfalso; omega)
            subst eh1_1
            subst eh2_2
            subst eh12_7
            exact Kf (by rw [w_]; decide) _ (by rw [w_]; exact mpo.st eS)
          · skip
            refine ⟨fun c6 => ?_, fun c6 => ?_⟩
            · skip
              intro h14_8 eh14_8 Xh14_8
              have w_ : wy_turns S x1 x2 x3 = (5 : Int32) := by
                unfold wy_turns
                simp only [i3_lt, i3_le, i6_lt, i6_le, i3_eq, i3_l, Int32.reduceToInt, Int64.reduceToInt, tm_1, tl_1, fE, gE] at c1 c2 c3 c4 c5 c6
                repeat' split
                all_goals first | rfl | (exfalso; omega)
              subst eh1_1
              subst eh2_2
              subst eh14_8
              exact Kf (by rw [w_]; decide) _ (by rw [w_]; exact mpo.st eS)
            · skip
              have w_ : wy_turns S x1 x2 x3 = (0 : Int32) := by
                unfold wy_turns
                simp only [i3_lt, i3_le, i6_lt, i6_le, i3_eq, i3_l, Int32.reduceToInt, Int64.reduceToInt, tm_1, tl_1, fE, gE] at c1 c2 c3 c4 c5 c6
                repeat' split
                all_goals first | rfl | (exfalso; omega)
              subst eh1_1
              subst eh2_2
              obtain ⟨nx21, nx22⟩ := x_nI (x := x2) (n := 20) (by simp only [i3_lt, i3_le, i6_lt, i6_le, i3_eq, i3_l, Int32.reduceToInt, Int64.reduceToInt, tm_1, tl_1, fE, gE] at c1 c2 c3 c4 c5 c6 ⊢; omega) (by simp only [i3_lt, i3_le, i6_lt, i6_le, i3_eq, i3_l, Int32.reduceToInt, Int64.reduceToInt, tm_1, tl_1, fE, gE] at c1 c2 c3 c4 c5 c6 ⊢; omega)
              obtain ⟨nx31, nx32⟩ := x_nI (x := x3) (n := 7) (by simp only [i3_lt, i3_le, i6_lt, i6_le, i3_eq, i3_l, Int32.reduceToInt, Int64.reduceToInt, tm_1, tl_1, fE, gE] at c1 c2 c3 c4 c5 c6 ⊢; omega) (by simp only [i3_lt, i3_le, i6_lt, i6_le, i3_eq, i3_l, Int32.reduceToInt, Int64.reduceToInt, tm_1, tl_1, fE, gE] at c1 c2 c3 c4 c5 c6 ⊢; omega)
              have e8 := B.2.1
              have ba : ∀ e, e < nE S → inA (PLS S tx x1 (nV S)) e ≤ 1000000 := fun e he => by
                have a := (PLS_i (tx := tx) (kn := x1) W B (Nat.le_refl (nV S))).1 e (by omega)
                have b := (roS_b W he).2
                omega
              refine m_play (L.ext (Xh1_1.tr Xh2_2)) (kq.st eS) W B T (fun g z => ?_)
              intro _
              refine m_turns57 (z.1.ly (L.ext (Xh1_1.tr Xh2_2))) ((kq.st eS).mc z.1 (by decide) (by decide) (by decide)) W B T z.2.1 ba nx21 nx22 (by omega) nx31 (fun g2 z2 => ?_)
              have zz : mch (77 :: mplA) [39, 72, 108] M _ g2 := (z.1.mono (by decide) (by decide)).tr (z2.mono (by decide) (by decide))
              exact Kg w_ _ (mpo.qy eS zz (by decide) (by decide) (by decide) (by decide))

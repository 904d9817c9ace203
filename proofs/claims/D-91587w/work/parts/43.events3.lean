def wy_load (S : MS) (x1 x2 x3 x4 x5 x6 : Int32) : Int32 := if (0 ≤ x1.toInt ∧ x1.toInt ≤ ((nF) S : Int) - 1) ∧ (0 ≤ x2.toInt ∧ x2.toInt ≤ ((nE) S : Int) - 1) then wyE S (decide ((1 ≤ x3.toInt ∧ x3.toInt ≤ 10000) ∧ (0 ≤ x4.toInt ∧ x4.toInt ≤ 1000))) x5 x6 else 2
def sg_load (S : MS) (x1 x2 x3 x4 x5 x6 : Int32) : MS := sgE (uI S 0 0 0) (nV S) (S.1 0 7 + 1) 0 x1 x2 (-1) (-1) (x5 / 52) x3 x4 x5 x6
theorem c_load_53 {G : ma_G} {d X : Nat} {h : ah_T} {S : MS} {Q : Option ma_V → ah_T → Prop} {E : Nat → ah_T → Prop} {x1 x2 x3 x4 x5 x6 : Int32} (L : LY0 h X) (C : CI0 h X S) (RM : X + 1576 ≤ ah_sz h ∧ 4000 ≤ ah_rc h ∧ 40000 ≤ ah_rs h) (hp : inR x1 0 ((nF S : Int) - 1) ∧ inR x2 0 ((nE S : Int) - 1)) (hg : inR x3 1 10000 ∧ inR x4 0 1000) (Kf : wyE S true x5 x6 ≠ 0 → ∀ h1, cpo X h h1 (uI S 0 0 (wyE S true x5 x6)) → Q (some (iv (-1))) h1) (Kg : wyE S true x5 x6 = 0 → ∀ h1, cpo X h h1 (sg_load S x1 x2 x3 x4 x5 x6) → Q (some (iv (S.1 0 7 + 1 - 1))) h1) : MX G mi_X0_load (d + 6) 53 [some (rv X), some (iv x1), some (iv x2), some (iv x3), some (iv x4), some (iv x5), some (iv x6), none] [iv 1, rv X] h Q E := by
  have r1 : 4000 ≤ h.1.2.1 := RM.2.1
  have r2 : 40000 ≤ h.1.2.2 := RM.2.2
  refine v_X0_load_53 (d := d + 5) L (c_wrongEvent1 (S := S) L C ?_)
  intro _
  have wr : wyE S true x5 x6 = 0 ∨ (wyE S true x5 x6 ≠ 0 ∧ ¬ wyE S true x5 x6 ≤ 0) := by
    unfold wyE
    (repeat' split) <;> first | exact Or.inl rfl | exact Or.inr (by decide)
  refine ⟨fun c => ?_, fun c => ?_⟩
  rotate_left
  · intro h14 e14 X14
    subst e14
    rcases wr with w0 | w0
    · exact absurd (by rw [w0]; decide) c
    · exact Kf w0.1 _ (cpo.st L C X14)
  rcases wr with w0 | w0
  rotate_left
  · exact absurd c w0.2
  have hv : nV S < 120 ∧ (inR x5 0 519 ∧ inR x6 x5.toInt 519) := by
    have bV := C.iV.2
    have w1 := w0
    unfold wyE at w1
    repeat' split at w1
    all_goals first | exact absurd w1 (by decide) | skip
    rename_i q1 q2 q3
    exact ⟨by omega, q1.2⟩
  refine ⟨⟨by show 1 ≤ h.1.2.1; omega, by show 7 ≤ h.1.2.2; omega⟩, ?_⟩
  intro h5 e5 X5 lv5
  subst e5
  have hf := cl_lt hp.1.1 hp.1.2
  have bF := C.iF.2
  refine ⟨vp_x hp.1.1 (by have := hp.1.2; omega), ?_⟩
  refine c_X12_init (d := d + 3) (by rw [rn_k, if_pos rfl]) (by rw [rn_R, if_pos rfl]) ?_
  intro g f1 f2 f3 v0 v1 v2 v3 v4 v5 xg
  have fr : fre [ah_sz h] h g := (fre.nw fre.rf List.mem_cons_self).tr f1
  refine c_adds (d := d + 4) (c0 := 7) L C lv5 RM.1 (X5.tr xg) fr f2 (by decide) hv.1 v0 v1 v2 ?_ (show WFw (nF S) (nE S) 0 x1 x2 (-1) (-1) (x5 / 52) x3 x4 x5 x6 from ⟨hv.2.1, hv.2.2, Or.inl ⟨rfl, hp.1, hp.2, hg.1, hg.2, rfl⟩⟩) (fun h1 p1 _ => Kg w0 h1 p1)
  refine Or.inl ⟨rfl, f3, ?_, v4, v5⟩
  rw [v3, rn_R, if_neg (by have := RM.1; omega), fr.R (by simp only [List.mem_cons, List.not_mem_nil, or_false]; have := RM.1; omega)]
theorem c_load {G : ma_G} {d X : Nat} {h : ah_T} {S : MS} {Q : Option ma_V → ah_T → Prop} {E : Nat → ah_T → Prop} {x1 x2 x3 x4 x5 x6 : Int32} (L : LY0 h X) (C : CI0 h X S) (RM : X + 1576 ≤ ah_sz h ∧ 4000 ≤ ah_rc h ∧ 40000 ≤ ah_rs h) (Kf : wy_load S x1 x2 x3 x4 x5 x6 ≠ 0 → ∀ h1, cpo X h h1 (uI S 0 0 (wy_load S x1 x2 x3 x4 x5 x6)) → Q (some (iv (-1))) h1) (Kg : wy_load S x1 x2 x3 x4 x5 x6 = 0 → ∀ h1, cpo X h h1 (sg_load S x1 x2 x3 x4 x5 x6) → Q (some (iv (S.1 0 7 + 1 - 1))) h1) : MX G mi_X0_load (d + 6) 0 [some (rv X), some (iv x1), some (iv x2), some (iv x3), some (iv x4), some (iv x5), some (iv x6), none] [] h Q E := by
  have bF := C.iF.2
  have fF : (ah_I h X 14).toInt = (nF S : Int) := by rw [C.iF.1]; exact nI_x (by omega)
  have bE := C.iE.2
  have fE : (ah_I h X 15).toInt = (nE S : Int) := by rw [C.iE.1]; exact nI_x (by omega)
  refine v_X0_load (d := d + 5) L ?_
  refine ⟨fun c1 => ?_, fun c1 => ?_⟩
  · skip
    intro h2 eh2 Xh2
    have w_ : wy_load S x1 x2 x3 x4 x5 x6 = (2 : Int32) := by
      simp only [i3_lt, i3_le, i6_lt, i6_le, i3_eq, i3_l, Int32.reduceToInt, Int64.reduceToInt, tm_1, tl_1, fF, fE] at c1
      unfold wy_load
      rw [if_neg (by omega)]
    subst eh2
    exact Kf (by rw [w_]; decide) _ (by rw [w_]; exact cpo.st L C Xh2)
  · skip
    refine ⟨fun c2 => ?_, fun c2 => ?_⟩
    · skip
      intro h4 eh4 Xh4
      have w_ : wy_load S x1 x2 x3 x4 x5 x6 = (2 : Int32) := by
        simp only [i3_lt, i3_le, i6_lt, i6_le, i3_eq, i3_l, Int32.reduceToInt, Int64.reduceToInt, tm_1, tl_1, fF, fE] at c1 c2
        unfold wy_load
        rw [if_neg (by omega)]
      subst eh4
      exact Kf (by rw [w_]; decide) _ (by rw [w_]; exact cpo.st L C Xh4)
    · skip
      refine ⟨fun c3 => ?_, fun c3 => ?_⟩
      · skip
        intro h6 eh6 Xh6
        have w_ : wy_load S x1 x2 x3 x4 x5 x6 = (2 : Int32) := by
          simp only [i3_lt, i3_le, i6_lt, i6_le, i3_eq, i3_l, Int32.reduceToInt, Int64.reduceToInt, tm_1, tl_1, fF, fE] at c1 c2 c3
          unfold wy_load
          rw [if_neg (by omega)]
        subst eh6
        exact Kf (by rw [w_]; decide) _ (by rw [w_]; exact cpo.st L C Xh6)
      · skip
        refine ⟨fun c4 => ?_, fun c4 => ?_⟩
        · skip
          intro h8 eh8 Xh8
          have w_ : wy_load S x1 x2 x3 x4 x5 x6 = (2 : Int32) := by
            simp only [i3_lt, i3_le, i6_lt, i6_le, i3_eq, i3_l, Int32.reduceToInt, Int64.reduceToInt, tm_1, tl_1, fF, fE] at c1 c2 c3 c4
            unfold wy_load
            rw [if_neg (by omega)]
          subst eh8
          exact Kf (by rw [w_]; decide) _ (by rw [w_]; exact cpo.st L C Xh8)
        · skip
          refine ⟨fun c5 => ?_, fun c5 => ?_⟩
          · skip
            have w_ : wy_load S x1 x2 x3 x4 x5 x6 = (5 : Int32) := by
              simp only [i3_lt, i3_le, i6_lt, i6_le, i3_eq, i3_l, Int32.reduceToInt, Int64.reduceToInt, tm_1, tl_1, fF, fE] at c1 c2 c3 c4 c5
              unfold wy_load wyE
              rw [if_pos (by omega), decide_eq_false (by omega)]
              rfl
            refine v_X0_load_53 (d := d + 5) L (c_wrongEvent0 L ?_)
            intro _
            refine ⟨fun c => absurd c (by decide), fun _ => ?_⟩
            intro h14 e14 X14
            subst e14
            exact Kf (by rw [w_]; decide) _ (by rw [w_]; exact cpo.st L C X14)
          · skip
            refine ⟨fun c6 => ?_, fun c6 => ?_⟩
            · skip
              have w_ : wy_load S x1 x2 x3 x4 x5 x6 = (5 : Int32) := by
                simp only [i3_lt, i3_le, i6_lt, i6_le, i3_eq, i3_l, Int32.reduceToInt, Int64.reduceToInt, tm_1, tl_1, fF, fE] at c1 c2 c3 c4 c5 c6
                unfold wy_load wyE
                rw [if_pos (by omega), decide_eq_false (by omega)]
                rfl
              refine v_X0_load_53 (d := d + 5) L (c_wrongEvent0 L ?_)
              intro _
              refine ⟨fun c => absurd c (by decide), fun _ => ?_⟩
              intro h14 e14 X14
              subst e14
              exact Kf (by rw [w_]; decide) _ (by rw [w_]; exact cpo.st L C X14)
            · skip
              refine ⟨fun c7 => ?_, fun c7 => ?_⟩
              · skip
                have w_ : wy_load S x1 x2 x3 x4 x5 x6 = (5 : Int32) := by
                  simp only [i3_lt, i3_le, i6_lt, i6_le, i3_eq, i3_l, Int32.reduceToInt, Int64.reduceToInt, tm_1, tl_1, fF, fE] at c1 c2 c3 c4 c5 c6 c7
                  unfold wy_load wyE
                  rw [if_pos (by omega), decide_eq_false (by omega)]
                  rfl
                refine v_X0_load_53 (d := d + 5) L (c_wrongEvent0 L ?_)
                intro _
                refine ⟨fun c => absurd c (by decide), fun _ => ?_⟩
                intro h14 e14 X14
                subst e14
                exact Kf (by rw [w_]; decide) _ (by rw [w_]; exact cpo.st L C X14)
              · skip
                refine ⟨fun c8 => ?_, fun c8 => ?_⟩
                · skip
                  have w_ : wy_load S x1 x2 x3 x4 x5 x6 = (5 : Int32) := by
                    simp only [i3_lt, i3_le, i6_lt, i6_le, i3_eq, i3_l, Int32.reduceToInt, Int64.reduceToInt, tm_1, tl_1, fF, fE] at c1 c2 c3 c4 c5 c6 c7 c8
                    unfold wy_load wyE
                    rw [if_pos (by omega), decide_eq_false (by omega)]
                    rfl
                  refine v_X0_load_53 (d := d + 5) L (c_wrongEvent0 L ?_)
                  intro _
                  refine ⟨fun c => absurd c (by decide), fun _ => ?_⟩
                  intro h14 e14 X14
                  subst e14
                  exact Kf (by rw [w_]; decide) _ (by rw [w_]; exact cpo.st L C X14)
                · skip
                  have hp : inR x1 0 ((nF S : Int) - 1) ∧ inR x2 0 ((nE S : Int) - 1) := by
                    simp only [i3_lt, i3_le, i6_lt, i6_le, i3_eq, i3_l, Int32.reduceToInt, Int64.reduceToInt, tm_1, tl_1, fF, fE] at c1 c2 c3 c4 c5 c6 c7 c8
                    unfold inR; omega
                  have hg : inR x3 1 10000 ∧ inR x4 0 1000 := by
                    simp only [i3_lt, i3_le, i6_lt, i6_le, i3_eq, i3_l, Int32.reduceToInt, Int64.reduceToInt, tm_1, tl_1, fF, fE] at c1 c2 c3 c4 c5 c6 c7 c8
                    unfold inR; omega
                  have w_ : wy_load S x1 x2 x3 x4 x5 x6 = wyE S true x5 x6 := by
                    unfold wy_load
                    rw [if_pos (show (0 ≤ x1.toInt ∧ x1.toInt ≤ ((nF) S : Int) - 1) ∧ (0 ≤ x2.toInt ∧ x2.toInt ≤ ((nE) S : Int) - 1) from hp), decide_eq_true (show (1 ≤ x3.toInt ∧ x3.toInt ≤ 10000) ∧ (0 ≤ x4.toInt ∧ x4.toInt ≤ 1000) from hg)]
                  exact c_load_53 L C RM hp hg (fun k1 => by rw [← w_] at k1 ⊢; exact Kf k1) (fun k1 => Kg (w_.trans k1))
theorem m_load {G : ma_G} {d M : Nat} {h : ah_T} {S : MS} {Q : Option ma_V → ah_T → Prop} {E : Nat → ah_T → Prop} {x1 x2 x3 x4 x5 x6 : Int32} (L : LY8 h M) (eS : mv h M = S) (W : WF S) (B : WB S) (Kf : wy_load S x1 x2 x3 x4 x5 x6 ≠ 0 → ∀ h1, mpo M h h1 (uI S 0 0 (wy_load S x1 x2 x3 x4 x5 x6)) → Q (some (iv (-1))) h1) (Kg : wy_load S x1 x2 x3 x4 x5 x6 = 0 → ∀ h1, mpo M h h1 (sg_load S x1 x2 x3 x4 x5 x6) → Q (some (iv (S.1 0 7 + 1 - 1))) h1) : MX G mi_X8_load (d + 4) 0 [some (rv M), some (iv x1), some (iv x2), some (iv x3), some (iv x4), some (iv x5), some (iv x6)] [] h Q E := by
  have qF := mk_F eS W
  have bF := mb_F W B
  have gF : (ah_I h M 5 - 1).toInt = (nF S : Int) - 1 := by rw [qF]; exact nI_m1 (by omega)
  have qE := mk_E eS W
  have bE := mb_E W B
  have gE : (ah_I h M 6 - 1).toInt = (nE S : Int) - 1 := by rw [qE]; exact nI_m1 (by omega)
  refine v_X8_load (d := d + 2) L ?_
  intro h1 eh1 Xh1
  intro h2 eh2 Xh2
  refine ⟨fun c1 => ?_, fun c1 => ?_⟩
  · skip
    intro h4 eh4 Xh4
    have w_ : wy_load S x1 x2 x3 x4 x5 x6 = (2 : Int32) := by
      simp only [i3_lt, i3_le, i6_lt, i6_le, i3_eq, i3_l, Int32.reduceToInt, Int64.reduceToInt, tm_1, tl_1, gF, gE] at c1
      unfold wy_load
      rw [if_neg (by omega)]
    subst eh1
    subst eh2
    subst eh4
    exact Kf (by rw [w_]; decide) _ (by rw [w_]; exact mpo.st eS)
  · skip
    refine ⟨fun c2 => ?_, fun c2 => ?_⟩
    · skip
      intro h6 eh6 Xh6
      have w_ : wy_load S x1 x2 x3 x4 x5 x6 = (2 : Int32) := by
        simp only [i3_lt, i3_le, i6_lt, i6_le, i3_eq, i3_l, Int32.reduceToInt, Int64.reduceToInt, tm_1, tl_1, gF, gE] at c1 c2
        unfold wy_load
        rw [if_neg (by omega)]
      subst eh1
      subst eh2
      subst eh6
      exact Kf (by rw [w_]; decide) _ (by rw [w_]; exact mpo.st eS)
    · skip
      refine ⟨fun c3 => ?_, fun c3 => ?_⟩
      · skip
        intro h8 eh8 Xh8
        have w_ : wy_load S x1 x2 x3 x4 x5 x6 = (2 : Int32) := by
          simp only [i3_lt, i3_le, i6_lt, i6_le, i3_eq, i3_l, Int32.reduceToInt, Int64.reduceToInt, tm_1, tl_1, gF, gE] at c1 c2 c3
          unfold wy_load
          rw [if_neg (by omega)]
        subst eh1
        subst eh2
        subst eh8
        exact Kf (by rw [w_]; decide) _ (by rw [w_]; exact mpo.st eS)
      · skip
        refine ⟨fun c4 => ?_, fun c4 => ?_⟩
        · skip
          intro h10 eh10 Xh10
          have w_ : wy_load S x1 x2 x3 x4 x5 x6 = (2 : Int32) := by
            simp only [i3_lt, i3_le, i6_lt, i6_le, i3_eq, i3_l, Int32.reduceToInt, Int64.reduceToInt, tm_1, tl_1, gF, gE] at c1 c2 c3 c4
            unfold wy_load
            rw [if_neg (by omega)]
          subst eh1
          subst eh2
          subst eh10
          exact Kf (by rw [w_]; decide) _ (by rw [w_]; exact mpo.st eS)
        · skip
          refine ⟨fun c5 => ?_, fun c5 => ?_⟩
          · skip
            intro h12 eh12 Xh12
            have w_ : wy_load S x1 x2 x3 x4 x5 x6 = (5 : Int32) := by
              simp only [i3_lt, i3_le, i6_lt, i6_le, i3_eq, i3_l, Int32.reduceToInt, Int64.reduceToInt, tm_1, tl_1, gF, gE] at c1 c2 c3 c4 c5
              unfold wy_load wyE
              rw [if_pos (by omega), decide_eq_false (by omega)]
              rfl
            subst eh1
            subst eh2
            subst eh12
            exact Kf (by rw [w_]; decide) _ (by rw [w_]; exact mpo.st eS)
          · skip
            refine ⟨fun c6 => ?_, fun c6 => ?_⟩
            · skip
              intro h14 eh14 Xh14
              have w_ : wy_load S x1 x2 x3 x4 x5 x6 = (5 : Int32) := by
                simp only [i3_lt, i3_le, i6_lt, i6_le, i3_eq, i3_l, Int32.reduceToInt, Int64.reduceToInt, tm_1, tl_1, gF, gE] at c1 c2 c3 c4 c5 c6
                unfold wy_load wyE
                rw [if_pos (by omega), decide_eq_false (by omega)]
                rfl
              subst eh1
              subst eh2
              subst eh14
              exact Kf (by rw [w_]; decide) _ (by rw [w_]; exact mpo.st eS)
            · skip
              refine ⟨fun c7 => ?_, fun c7 => ?_⟩
              · skip
                intro h16 eh16 Xh16
                have w_ : wy_load S x1 x2 x3 x4 x5 x6 = (5 : Int32) := by
                  simp only [i3_lt, i3_le, i6_lt, i6_le, i3_eq, i3_l, Int32.reduceToInt, Int64.reduceToInt, tm_1, tl_1, gF, gE] at c1 c2 c3 c4 c5 c6 c7
                  unfold wy_load wyE
                  rw [if_pos (by omega), decide_eq_false (by omega)]
                  rfl
                subst eh1
                subst eh2
                subst eh16
                exact Kf (by rw [w_]; decide) _ (by rw [w_]; exact mpo.st eS)
              · skip
                refine ⟨fun c8 => ?_, fun c8 => ?_⟩
                · skip
                  intro h18 eh18 Xh18
                  have w_ : wy_load S x1 x2 x3 x4 x5 x6 = (5 : Int32) := by
                    simp only [i3_lt, i3_le, i6_lt, i6_le, i3_eq, i3_l, Int32.reduceToInt, Int64.reduceToInt, tm_1, tl_1, gF, gE] at c1 c2 c3 c4 c5 c6 c7 c8
                    unfold wy_load wyE
                    rw [if_pos (by omega), decide_eq_false (by omega)]
                    rfl
                  subst eh1
                  subst eh2
                  subst eh18
                  exact Kf (by rw [w_]; decide) _ (by rw [w_]; exact mpo.st eS)
                · skip
                  have hp : inR x1 0 ((nF S : Int) - 1) ∧ inR x2 0 ((nE S : Int) - 1) := by
                    simp only [i3_lt, i3_le, i6_lt, i6_le, i3_eq, i3_l, Int32.reduceToInt, Int64.reduceToInt, tm_1, tl_1, gF, gE] at c1 c2 c3 c4 c5 c6 c7 c8
                    unfold inR; omega
                  have hg : inR x3 1 10000 ∧ inR x4 0 1000 := by
                    simp only [i3_lt, i3_le, i6_lt, i6_le, i3_eq, i3_l, Int32.reduceToInt, Int64.reduceToInt, tm_1, tl_1, gF, gE] at c1 c2 c3 c4 c5 c6 c7 c8
                    unfold inR; omega
                  have w_ : wy_load S x1 x2 x3 x4 x5 x6 = wyE S true x5 x6 := by
                    unfold wy_load
                    rw [if_pos (show (0 ≤ x1.toInt ∧ x1.toInt ≤ ((nF) S : Int) - 1) ∧ (0 ≤ x2.toInt ∧ x2.toInt ≤ ((nE) S : Int) - 1) from hp), decide_eq_true (show (1 ≤ x3.toInt ∧ x3.toInt ≤ 10000) ∧ (0 ≤ x4.toInt ∧ x4.toInt ≤ 1000) from hg)]
                  subst eh1
                  subst eh2
                  have e2 : mv (ah_wI (ah_wI h M 1 0) M 0 0) M = uI (uI S 0 1 0) 0 0 0 := by rw [mv_zI, mv_zI, eS]
                  have m0 : mch [] [0, 1] M h (ah_wI (ah_wI h M 1 0) M 0 0) := (mch.rf.zI (by decide)).zI (by decide)
                  have k0 : kept (uI S 0 0 0) (uI (uI S 0 1 0) 0 0 0) := (kept.rf.sI (by decide) (by decide)).cI
                  refine m_event (d := d + 1) (m0.ly L) e2 W B (fun k1 h1 p1 _ => ?_) (fun k1 h1 p1 _ => ?_)
                  · refine Kf (by rw [w_]; exact k1) h1 ?_
                    rw [w_]
                    exact mpo.tr m0 (by decide) p1 (by rw [uI_uI]; exact (kept.rf.sI (by decide) (by decide)).cI)
                  · exact Kg (w_.trans k1) h1 (mpo.tr m0 (by decide) p1 (sgE_k k0))
def wy_car (S : MS) (x1 x2 x3 x4 x5 x6 x7 : Int32) : Int32 := if (0 ≤ x1.toInt ∧ x1.toInt ≤ ((nE) S : Int) - 1) ∧ (0 ≤ x2.toInt ∧ x2.toInt ≤ 1) ∧ (0 ≤ x3.toInt ∧ x3.toInt ≤ 5) then wyE S (decide ((0 ≤ x4.toInt ∧ x4.toInt ≤ 9) ∧ (1 ≤ x5.toInt ∧ x5.toInt ≤ 100000))) x6 x7 else 2
def sg_car (S : MS) (x1 x2 x3 x4 x5 x6 x7 : Int32) : MS := sgE (uI S 0 0 0) (nV S) (S.1 0 7 + 1) 1 (-1) x1 x2 x3 x4 x5 0 x6 x7
theorem c_car_55 {G : ma_G} {d X : Nat} {h : ah_T} {S : MS} {Q : Option ma_V → ah_T → Prop} {E : Nat → ah_T → Prop} {x1 x2 x3 x4 x5 x6 x7 : Int32} (L : LY0 h X) (C : CI0 h X S) (RM : X + 1576 ≤ ah_sz h ∧ 4000 ≤ ah_rc h ∧ 40000 ≤ ah_rs h) (hp : inR x1 0 ((nE S : Int) - 1) ∧ inR x2 0 1 ∧ inR x3 0 5) (hg : inR x4 0 9 ∧ inR x5 1 100000) (Kf : wyE S true x6 x7 ≠ 0 → ∀ h1, cpo X h h1 (uI S 0 0 (wyE S true x6 x7)) → Q (some (iv (-1))) h1) (Kg : wyE S true x6 x7 = 0 → ∀ h1, cpo X h h1 (sg_car S x1 x2 x3 x4 x5 x6 x7) → Q (some (iv (S.1 0 7 + 1 - 1))) h1) : MX G mi_X0_car (d + 6) 55 [some (rv X), some (iv x1), some (iv x2), some (iv x3), some (iv x4), some (iv x5), some (iv x6), some (iv x7), none] [iv 1, rv X] h Q E := by
  have r1 : 4000 ≤ h.1.2.1 := RM.2.1
  have r2 : 40000 ≤ h.1.2.2 := RM.2.2
  refine v_X0_car_55 (d := d + 5) L (c_wrongEvent1 (S := S) L C ?_)
  intro _
  have wr : wyE S true x6 x7 = 0 ∨ (wyE S true x6 x7 ≠ 0 ∧ ¬ wyE S true x6 x7 ≤ 0) := by
    unfold wyE
    (repeat' split) <;> first | exact Or.inl rfl | exact Or.inr (by decide)
  refine ⟨fun c => ?_, fun c => ?_⟩
  rotate_left
  · intro h14 e14 X14
    subst e14
    rcases wr with w0 | w0
    · exact absurd (by rw [w0]; decide) c
    · exact Kf w0.1 _ (cpo.st L C X14)
  rcases wr with w0 | w0
  rotate_left
  · exact absurd c w0.2
  have hv : nV S < 120 ∧ (inR x6 0 519 ∧ inR x7 x6.toInt 519) := by
    have bV := C.iV.2
    have w1 := w0
    unfold wyE at w1
    repeat' split at w1
    all_goals first | exact absurd w1 (by decide) | skip
    rename_i q1 q2 q3
    exact ⟨by omega, q1.2⟩
  refine ⟨⟨by show 1 ≤ h.1.2.1; omega, by show 7 ≤ h.1.2.2; omega⟩, ?_⟩
  intro h5 e5 X5 lv5
  subst e5
  refine c_X15_init (d := d + 1) (by rw [rn_k, if_pos rfl]) ?_
  intro g f1 f2 f3 v0 v1 v2 v3 v4 v5 v6 xg
  have fr : fre [ah_sz h] h g := (fre.nw fre.rf List.mem_cons_self).tr f1
  refine c_adds (d := d + 4) (c0 := 7) L C lv5 RM.1 (X5.tr xg) fr f2 (by decide) hv.1 v0 v1 v2 ?_ (show WFw (nF S) (nE S) 1 (-1) x1 x2 x3 x4 x5 0 x6 x7 from ⟨hv.2.1, hv.2.2, Or.inr (Or.inl ⟨rfl, hp.1, hp.2.1, hp.2.2, hg.1, hg.2⟩)⟩) (fun h1 p1 _ => Kg w0 h1 p1)
  exact Or.inr (Or.inl ⟨rfl, f3, v3, v4, v5, v6⟩)
theorem c_car {G : ma_G} {d X : Nat} {h : ah_T} {S : MS} {Q : Option ma_V → ah_T → Prop} {E : Nat → ah_T → Prop} {x1 x2 x3 x4 x5 x6 x7 : Int32} (L : LY0 h X) (C : CI0 h X S) (RM : X + 1576 ≤ ah_sz h ∧ 4000 ≤ ah_rc h ∧ 40000 ≤ ah_rs h) (Kf : wy_car S x1 x2 x3 x4 x5 x6 x7 ≠ 0 → ∀ h1, cpo X h h1 (uI S 0 0 (wy_car S x1 x2 x3 x4 x5 x6 x7)) → Q (some (iv (-1))) h1) (Kg : wy_car S x1 x2 x3 x4 x5 x6 x7 = 0 → ∀ h1, cpo X h h1 (sg_car S x1 x2 x3 x4 x5 x6 x7) → Q (some (iv (S.1 0 7 + 1 - 1))) h1) : MX G mi_X0_car (d + 6) 0 [some (rv X), some (iv x1), some (iv x2), some (iv x3), some (iv x4), some (iv x5), some (iv x6), some (iv x7), none] [] h Q E := by
  have bE := C.iE.2
  have fE : (ah_I h X 15).toInt = (nE S : Int) := by rw [C.iE.1]; exact nI_x (by omega)
  refine v_X0_car (d := d + 5) L ?_
  refine ⟨fun c1 => ?_, fun c1 => ?_⟩
  · skip
    intro h2 eh2 Xh2
    have w_ : wy_car S x1 x2 x3 x4 x5 x6 x7 = (2 : Int32) := by
      simp only [i3_lt, i3_le, i6_lt, i6_le, i3_eq, i3_l, Int32.reduceToInt, Int64.reduceToInt, tm_1, tl_1, fE] at c1
      unfold wy_car
      rw [if_neg (by omega)]
    subst eh2
    exact Kf (by rw [w_]; decide) _ (by rw [w_]; exact cpo.st L C Xh2)
  · skip
    refine ⟨fun c2 => ?_, fun c2 => ?_⟩
    · skip
      intro h4 eh4 Xh4
      have w_ : wy_car S x1 x2 x3 x4 x5 x6 x7 = (2 : Int32) := by
        simp only [i3_lt, i3_le, i6_lt, i6_le, i3_eq, i3_l, Int32.reduceToInt, Int64.reduceToInt, tm_1, tl_1, fE] at c1 c2
        unfold wy_car
        rw [if_neg (by omega)]
      subst eh4
      exact Kf (by rw [w_]; decide) _ (by rw [w_]; exact cpo.st L C Xh4)
    · skip
      refine ⟨fun c3 => ?_, fun c3 => ?_⟩
      · skip
        intro h6 eh6 Xh6
        have w_ : wy_car S x1 x2 x3 x4 x5 x6 x7 = (2 : Int32) := by
          simp only [i3_lt, i3_le, i6_lt, i6_le, i3_eq, i3_l, Int32.reduceToInt, Int64.reduceToInt, tm_1, tl_1, fE] at c1 c2 c3
          unfold wy_car
          rw [if_neg (by omega)]
        subst eh6
        exact Kf (by rw [w_]; decide) _ (by rw [w_]; exact cpo.st L C Xh6)
      · skip
        refine ⟨fun c4 => ?_, fun c4 => ?_⟩
        · skip
          intro h8 eh8 Xh8
          have w_ : wy_car S x1 x2 x3 x4 x5 x6 x7 = (2 : Int32) := by
            simp only [i3_lt, i3_le, i6_lt, i6_le, i3_eq, i3_l, Int32.reduceToInt, Int64.reduceToInt, tm_1, tl_1, fE] at c1 c2 c3 c4
            unfold wy_car
            rw [if_neg (by omega)]
          subst eh8
          exact Kf (by rw [w_]; decide) _ (by rw [w_]; exact cpo.st L C Xh8)
        · skip
          refine ⟨fun c5 => ?_, fun c5 => ?_⟩
          · skip
            intro h10 eh10 Xh10
            have w_ : wy_car S x1 x2 x3 x4 x5 x6 x7 = (2 : Int32) := by
              simp only [i3_lt, i3_le, i6_lt, i6_le, i3_eq, i3_l, Int32.reduceToInt, Int64.reduceToInt, tm_1, tl_1, fE] at c1 c2 c3 c4 c5
              unfold wy_car
              rw [if_neg (by omega)]
            subst eh10
            exact Kf (by rw [w_]; decide) _ (by rw [w_]; exact cpo.st L C Xh10)
          · skip
            refine ⟨fun c6 => ?_, fun c6 => ?_⟩
            · skip
              intro h12 eh12 Xh12
              have w_ : wy_car S x1 x2 x3 x4 x5 x6 x7 = (2 : Int32) := by
                simp only [i3_lt, i3_le, i6_lt, i6_le, i3_eq, i3_l, Int32.reduceToInt, Int64.reduceToInt, tm_1, tl_1, fE] at c1 c2 c3 c4 c5 c6
                unfold wy_car
                rw [if_neg (by omega)]
              subst eh12
              exact Kf (by rw [w_]; decide) _ (by rw [w_]; exact cpo.st L C Xh12)
            · skip
              refine ⟨fun c7 => ?_, fun c7 => ?_⟩
              · skip
                have w_ : wy_car S x1 x2 x3 x4 x5 x6 x7 = (5 : Int32) := by
                  simp only [i3_lt, i3_le, i6_lt, i6_le, i3_eq, i3_l, Int32.reduceToInt, Int64.reduceToInt, tm_1, tl_1, fE] at c1 c2 c3 c4 c5 c6 c7
                  unfold wy_car wyE
                  rw [if_pos (by omega), decide_eq_false (by omega)]
                  rfl
                refine v_X0_car_55 (d := d + 5) L (c_wrongEvent0 L ?_)
                intro _
                refine ⟨fun c => absurd c (by decide), fun _ => ?_⟩
                intro h14 e14 X14
                subst e14
                exact Kf (by rw [w_]; decide) _ (by rw [w_]; exact cpo.st L C X14)
              · skip
                refine ⟨fun c8 => ?_, fun c8 => ?_⟩
                · skip
                  have w_ : wy_car S x1 x2 x3 x4 x5 x6 x7 = (5 : Int32) := by
                    simp only [i3_lt, i3_le, i6_lt, i6_le, i3_eq, i3_l, Int32.reduceToInt, Int64.reduceToInt, tm_1, tl_1, fE] at c1 c2 c3 c4 c5 c6 c7 c8
                    unfold wy_car wyE
                    rw [if_pos (by omega), decide_eq_false (by omega)]
                    rfl
                  refine v_X0_car_55 (d := d + 5) L (c_wrongEvent0 L ?_)
                  intro _
                  refine ⟨fun c => absurd c (by decide), fun _ => ?_⟩
                  intro h14 e14 X14
                  subst e14
                  exact Kf (by rw [w_]; decide) _ (by rw [w_]; exact cpo.st L C X14)
                · skip
                  refine ⟨fun c9 => ?_, fun c9 => ?_⟩
                  · skip
                    have w_ : wy_car S x1 x2 x3 x4 x5 x6 x7 = (5 : Int32) := by
                      simp only [i3_lt, i3_le, i6_lt, i6_le, i3_eq, i3_l, Int32.reduceToInt, Int64.reduceToInt, tm_1, tl_1, fE] at c1 c2 c3 c4 c5 c6 c7 c8 c9
                      unfold wy_car wyE
                      rw [if_pos (by omega), decide_eq_false (by omega)]
                      rfl
                    refine v_X0_car_55 (d := d + 5) L (c_wrongEvent0 L ?_)
                    intro _
                    refine ⟨fun c => absurd c (by decide), fun _ => ?_⟩
                    intro h14 e14 X14
                    subst e14
                    exact Kf (by rw [w_]; decide) _ (by rw [w_]; exact cpo.st L C X14)
                  · skip
                    refine ⟨fun c10 => ?_, fun c10 => ?_⟩
                    · skip
                      have w_ : wy_car S x1 x2 x3 x4 x5 x6 x7 = (5 : Int32) := by
                        simp only [i3_lt, i3_le, i6_lt, i6_le, i3_eq, i3_l, Int32.reduceToInt, Int64.reduceToInt, tm_1, tl_1, fE] at c1 c2 c3 c4 c5 c6 c7 c8 c9 c10
                        unfold wy_car wyE
                        rw [if_pos (by omega), decide_eq_false (by omega)]
                        rfl
                      refine v_X0_car_55 (d := d + 5) L (c_wrongEvent0 L ?_)
                      intro _
                      refine ⟨fun c => absurd c (by decide), fun _ => ?_⟩
                      intro h14 e14 X14
                      subst e14
                      exact Kf (by rw [w_]; decide) _ (by rw [w_]; exact cpo.st L C X14)
                    · skip
                      have hp : inR x1 0 ((nE S : Int) - 1) ∧ inR x2 0 1 ∧ inR x3 0 5 := by
                        simp only [i3_lt, i3_le, i6_lt, i6_le, i3_eq, i3_l, Int32.reduceToInt, Int64.reduceToInt, tm_1, tl_1, fE] at c1 c2 c3 c4 c5 c6 c7 c8 c9 c10
                        unfold inR; omega
                      have hg : inR x4 0 9 ∧ inR x5 1 100000 := by
                        simp only [i3_lt, i3_le, i6_lt, i6_le, i3_eq, i3_l, Int32.reduceToInt, Int64.reduceToInt, tm_1, tl_1, fE] at c1 c2 c3 c4 c5 c6 c7 c8 c9 c10
                        unfold inR; omega
                      have w_ : wy_car S x1 x2 x3 x4 x5 x6 x7 = wyE S true x6 x7 := by
                        unfold wy_car
                        rw [if_pos (show (0 ≤ x1.toInt ∧ x1.toInt ≤ ((nE) S : Int) - 1) ∧ (0 ≤ x2.toInt ∧ x2.toInt ≤ 1) ∧ (0 ≤ x3.toInt ∧ x3.toInt ≤ 5) from hp), decide_eq_true (show (0 ≤ x4.toInt ∧ x4.toInt ≤ 9) ∧ (1 ≤ x5.toInt ∧ x5.toInt ≤ 100000) from hg)]
                      exact c_car_55 L C RM hp hg (fun k1 => by rw [← w_] at k1 ⊢; exact Kf k1) (fun k1 => Kg (w_.trans k1))
theorem m_car {G : ma_G} {d M : Nat} {h : ah_T} {S : MS} {Q : Option ma_V → ah_T → Prop} {E : Nat → ah_T → Prop} {x1 x2 x3 x4 x5 x6 x7 : Int32} (L : LY8 h M) (eS : mv h M = S) (W : WF S) (B : WB S) (Kf : wy_car S x1 x2 x3 x4 x5 x6 x7 ≠ 0 → ∀ h1, mpo M h h1 (uI S 0 0 (wy_car S x1 x2 x3 x4 x5 x6 x7)) → Q (some (iv (-1))) h1) (Kg : wy_car S x1 x2 x3 x4 x5 x6 x7 = 0 → ∀ h1, mpo M h h1 (sg_car S x1 x2 x3 x4 x5 x6 x7) → Q (some (iv (S.1 0 7 + 1 - 1))) h1) : MX G mi_X8_car (d + 4) 0 [some (rv M), some (iv x1), some (iv x2), some (iv x3), some (iv x4), some (iv x5), some (iv x6), some (iv x7)] [] h Q E := by
  have qE := mk_E eS W
  have bE := mb_E W B
  have gE : (ah_I h M 6 - 1).toInt = (nE S : Int) - 1 := by rw [qE]; exact nI_m1 (by omega)
  refine v_X8_car (d := d + 2) L ?_
  intro h1 eh1 Xh1
  intro h2 eh2 Xh2
  refine ⟨fun c1 => ?_, fun c1 => ?_⟩
  · skip
    intro h4 eh4 Xh4
    have w_ : wy_car S x1 x2 x3 x4 x5 x6 x7 = (2 : Int32) := by
      simp only [i3_lt, i3_le, i6_lt, i6_le, i3_eq, i3_l, Int32.reduceToInt, Int64.reduceToInt, tm_1, tl_1, gE] at c1
      unfold wy_car
      rw [if_neg (by omega)]
    subst eh1
    subst eh2
    subst eh4
    exact Kf (by rw [w_]; decide) _ (by rw [w_]; exact mpo.st eS)
  · skip
    refine ⟨fun c2 => ?_, fun c2 => ?_⟩
    · skip
      intro h6 eh6 Xh6
      have w_ : wy_car S x1 x2 x3 x4 x5 x6 x7 = (2 : Int32) := by
        simp only [i3_lt, i3_le, i6_lt, i6_le, i3_eq, i3_l, Int32.reduceToInt, Int64.reduceToInt, tm_1, tl_1, gE] at c1 c2
        unfold wy_car
        rw [if_neg (by omega)]
      subst eh1
      subst eh2
      subst eh6
      exact Kf (by rw [w_]; decide) _ (by rw [w_]; exact mpo.st eS)
    · skip
      refine ⟨fun c3 => ?_, fun c3 => ?_⟩
      · skip
        intro h8 eh8 Xh8
        have w_ : wy_car S x1 x2 x3 x4 x5 x6 x7 = (2 : Int32) := by
          simp only [i3_lt, i3_le, i6_lt, i6_le, i3_eq, i3_l, Int32.reduceToInt, Int64.reduceToInt, tm_1, tl_1, gE] at c1 c2 c3
          unfold wy_car
          rw [if_neg (by omega)]
        subst eh1
        subst eh2
        subst eh8
        exact Kf (by rw [w_]; decide) _ (by rw [w_]; exact mpo.st eS)
      · skip
        refine ⟨fun c4 => ?_, fun c4 => ?_⟩
        · skip
          intro h10 eh10 Xh10
          have w_ : wy_car S x1 x2 x3 x4 x5 x6 x7 = (2 : Int32) := by
            simp only [i3_lt, i3_le, i6_lt, i6_le, i3_eq, i3_l, Int32.reduceToInt, Int64.reduceToInt, tm_1, tl_1, gE] at c1 c2 c3 c4
            unfold wy_car
            rw [if_neg (by omega)]
          subst eh1
          subst eh2
          subst eh10
          exact Kf (by rw [w_]; decide) _ (by rw [w_]; exact mpo.st eS)
        · skip
          refine ⟨fun c5 => ?_, fun c5 => ?_⟩
          · skip
            intro h12 eh12 Xh12
            have w_ : wy_car S x1 x2 x3 x4 x5 x6 x7 = (2 : Int32) := by
              simp only [i3_lt, i3_le, i6_lt, i6_le, i3_eq, i3_l, Int32.reduceToInt, Int64.reduceToInt, tm_1, tl_1, gE] at c1 c2 c3 c4 c5
              unfold wy_car
              rw [if_neg (by omega)]
            subst eh1
            subst eh2
            subst eh12
            exact Kf (by rw [w_]; decide) _ (by rw [w_]; exact mpo.st eS)
          · skip
            refine ⟨fun c6 => ?_, fun c6 => ?_⟩
            · skip
              intro h14 eh14 Xh14
              have w_ : wy_car S x1 x2 x3 x4 x5 x6 x7 = (2 : Int32) := by
                simp only [i3_lt, i3_le, i6_lt, i6_le, i3_eq, i3_l, Int32.reduceToInt, Int64.reduceToInt, tm_1, tl_1, gE] at c1 c2 c3 c4 c5 c6
                unfold wy_car
                rw [if_neg (by omega)]
              subst eh1
              subst eh2
              subst eh14
              exact Kf (by rw [w_]; decide) _ (by rw [w_]; exact mpo.st eS)
            · skip
              refine ⟨fun c7 => ?_, fun c7 => ?_⟩
              · skip
                intro h16 eh16 Xh16
                have w_ : wy_car S x1 x2 x3 x4 x5 x6 x7 = (5 : Int32) := by
                  simp only [i3_lt, i3_le, i6_lt, i6_le, i3_eq, i3_l, Int32.reduceToInt, Int64.reduceToInt, tm_1, tl_1, gE] at c1 c2 c3 c4 c5 c6 c7
                  unfold wy_car wyE
                  rw [if_pos (by omega), decide_eq_false (by omega)]
                  rfl
                subst eh1
                subst eh2
                subst eh16
                exact Kf (by rw [w_]; decide) _ (by rw [w_]; exact mpo.st eS)
              · skip
                refine ⟨fun c8 => ?_, fun c8 => ?_⟩
                · skip
                  intro h18 eh18 Xh18
                  have w_ : wy_car S x1 x2 x3 x4 x5 x6 x7 = (5 : Int32) := by
                    simp only [i3_lt, i3_le, i6_lt, i6_le, i3_eq, i3_l, Int32.reduceToInt, Int64.reduceToInt, tm_1, tl_1, gE] at c1 c2 c3 c4 c5 c6 c7 c8
                    unfold wy_car wyE
                    rw [if_pos (by omega), decide_eq_false (by omega)]
                    rfl
                  subst eh1
                  subst eh2
                  subst eh18
                  exact Kf (by rw [w_]; decide) _ (by rw [w_]; exact mpo.st eS)
                · skip
                  refine ⟨fun c9 => ?_, fun c9 => ?_⟩
                  · skip
                    intro h20 eh20 Xh20
                    have w_ : wy_car S x1 x2 x3 x4 x5 x6 x7 = (5 : Int32) := by
                      simp only [i3_lt, i3_le, i6_lt, i6_le, i3_eq, i3_l, Int32.reduceToInt, Int64.reduceToInt, tm_1, tl_1, gE] at c1 c2 c3 c4 c5 c6 c7 c8 c9
                      unfold wy_car wyE
                      rw [if_pos (by omega), decide_eq_false (by omega)]
                      rfl
                    subst eh1
                    subst eh2
                    subst eh20
                    exact Kf (by rw [w_]; decide) _ (by rw [w_]; exact mpo.st eS)
                  · skip
                    refine ⟨fun c10 => ?_, fun c10 => ?_⟩
                    · skip
                      intro h22 eh22 Xh22
                      have w_ : wy_car S x1 x2 x3 x4 x5 x6 x7 = (5 : Int32) := by
                        simp only [i3_lt, i3_le, i6_lt, i6_le, i3_eq, i3_l, Int32.reduceToInt, Int64.reduceToInt, tm_1, tl_1, gE] at c1 c2 c3 c4 c5 c6 c7 c8 c9 c10
                        unfold wy_car wyE
                        rw [if_pos (by omega), decide_eq_false (by omega)]
                        rfl
                      subst eh1
                      subst eh2
                      subst eh22
                      exact Kf (by rw [w_]; decide) _ (by rw [w_]; exact mpo.st eS)
                    · skip
                      have hp : inR x1 0 ((nE S : Int) - 1) ∧ inR x2 0 1 ∧ inR x3 0 5 := by
                        simp only [i3_lt, i3_le, i6_lt, i6_le, i3_eq, i3_l, Int32.reduceToInt, Int64.reduceToInt, tm_1, tl_1, gE] at c1 c2 c3 c4 c5 c6 c7 c8 c9 c10
                        unfold inR; omega
                      have hg : inR x4 0 9 ∧ inR x5 1 100000 := by
                        simp only [i3_lt, i3_le, i6_lt, i6_le, i3_eq, i3_l, Int32.reduceToInt, Int64.reduceToInt, tm_1, tl_1, gE] at c1 c2 c3 c4 c5 c6 c7 c8 c9 c10
                        unfold inR; omega
                      have w_ : wy_car S x1 x2 x3 x4 x5 x6 x7 = wyE S true x6 x7 := by
                        unfold wy_car
                        rw [if_pos (show (0 ≤ x1.toInt ∧ x1.toInt ≤ ((nE) S : Int) - 1) ∧ (0 ≤ x2.toInt ∧ x2.toInt ≤ 1) ∧ (0 ≤ x3.toInt ∧ x3.toInt ≤ 5) from hp), decide_eq_true (show (0 ≤ x4.toInt ∧ x4.toInt ≤ 9) ∧ (1 ≤ x5.toInt ∧ x5.toInt ≤ 100000) from hg)]
                      subst eh1
                      subst eh2
                      have e2 : mv (ah_wI (ah_wI h M 1 0) M 0 0) M = uI (uI S 0 1 0) 0 0 0 := by rw [mv_zI, mv_zI, eS]
                      have m0 : mch [] [0, 1] M h (ah_wI (ah_wI h M 1 0) M 0 0) := (mch.rf.zI (by decide)).zI (by decide)
                      have k0 : kept (uI S 0 0 0) (uI (uI S 0 1 0) 0 0 0) := (kept.rf.sI (by decide) (by decide)).cI
                      refine m_event (d := d + 1) (m0.ly L) e2 W B (fun k1 h1 p1 _ => ?_) (fun k1 h1 p1 _ => ?_)
                      · refine Kf (by rw [w_]; exact k1) h1 ?_
                        rw [w_]
                        exact mpo.tr m0 (by decide) p1 (by rw [uI_uI]; exact (kept.rf.sI (by decide) (by decide)).cI)
                      · exact Kg (w_.trans k1) h1 (mpo.tr m0 (by decide) p1 (sgE_k k0))
def wy_sale (S : MS) (x1 x2 x3 x4 x5 x6 x7 : Int32) : Int32 := if (0 ≤ x1.toInt ∧ x1.toInt ≤ 1) ∧ (0 ≤ x2.toInt ∧ x2.toInt ≤ 5) then wyE S (decide ((0 ≤ x3.toInt ∧ x3.toInt ≤ 9) ∧ (1 ≤ x4.toInt ∧ x4.toInt ≤ 100000) ∧ (0 ≤ x5.toInt ∧ x5.toInt ≤ 1000))) x6 x7 else 2
def sg_sale (S : MS) (x1 x2 x3 x4 x5 x6 x7 : Int32) : MS := sgE (uI S 0 0 0) (nV S) (S.1 0 7 + 1) 2 (-1) x1 (-1) x2 x3 x4 x5 x6 x7
theorem c_sale_59 {G : ma_G} {d X : Nat} {h : ah_T} {S : MS} {Q : Option ma_V → ah_T → Prop} {E : Nat → ah_T → Prop} {x1 x2 x3 x4 x5 x6 x7 : Int32} (L : LY0 h X) (C : CI0 h X S) (RM : X + 1576 ≤ ah_sz h ∧ 4000 ≤ ah_rc h ∧ 40000 ≤ ah_rs h) (hp : inR x1 0 1 ∧ inR x2 0 5) (hg : inR x3 0 9 ∧ inR x4 1 100000 ∧ inR x5 0 1000) (Kf : wyE S true x6 x7 ≠ 0 → ∀ h1, cpo X h h1 (uI S 0 0 (wyE S true x6 x7)) → Q (some (iv (-1))) h1) (Kg : wyE S true x6 x7 = 0 → ∀ h1, cpo X h h1 (sg_sale S x1 x2 x3 x4 x5 x6 x7) → Q (some (iv (S.1 0 7 + 1 - 1))) h1) : MX G mi_X0_sale (d + 6) 59 [some (rv X), some (iv x1), some (iv x2), some (iv x3), some (iv x4), some (iv x5), some (iv x6), some (iv x7), none] [iv 1, rv X] h Q E := by
  have r1 : 4000 ≤ h.1.2.1 := RM.2.1
  have r2 : 40000 ≤ h.1.2.2 := RM.2.2
  refine v_X0_sale_59 (d := d + 5) L (c_wrongEvent1 (S := S) L C ?_)
  intro _
  have wr : wyE S true x6 x7 = 0 ∨ (wyE S true x6 x7 ≠ 0 ∧ ¬ wyE S true x6 x7 ≤ 0) := by
    unfold wyE
    (repeat' split) <;> first | exact Or.inl rfl | exact Or.inr (by decide)
  refine ⟨fun c => ?_, fun c => ?_⟩
  rotate_left
  · intro h14 e14 X14
    subst e14
    rcases wr with w0 | w0
    · exact absurd (by rw [w0]; decide) c
    · exact Kf w0.1 _ (cpo.st L C X14)
  rcases wr with w0 | w0
  rotate_left
  · exact absurd c w0.2
  have hv : nV S < 120 ∧ (inR x6 0 519 ∧ inR x7 x6.toInt 519) := by
    have bV := C.iV.2
    have w1 := w0
    unfold wyE at w1
    repeat' split at w1
    all_goals first | exact absurd w1 (by decide) | skip
    rename_i q1 q2 q3
    exact ⟨by omega, q1.2⟩
  refine ⟨⟨by show 1 ≤ h.1.2.1; omega, by show 7 ≤ h.1.2.2; omega⟩, ?_⟩
  intro h5 e5 X5 lv5
  subst e5
  refine c_X16_init (d := d + 2) (by rw [rn_k, if_pos rfl]) ?_
  intro g f1 f2 f3 v0 v1 v2 v3 v4 v5 v6 xg
  have fr : fre [ah_sz h] h g := (fre.nw fre.rf List.mem_cons_self).tr f1
  refine c_adds (d := d + 4) (c0 := 7) L C lv5 RM.1 (X5.tr xg) fr f2 (by decide) hv.1 v0 v1 v2 ?_ (show WFw (nF S) (nE S) 2 (-1) x1 (-1) x2 x3 x4 x5 x6 x7 from ⟨hv.2.1, hv.2.2, Or.inr (Or.inr (Or.inl ⟨rfl, hp.1, hp.2, hg.1, hg.2.1, hg.2.2⟩))⟩) (fun h1 p1 _ => Kg w0 h1 p1)
  exact Or.inr (Or.inr (Or.inl ⟨rfl, f3, v3, v4, v5, v6⟩))
theorem c_sale {G : ma_G} {d X : Nat} {h : ah_T} {S : MS} {Q : Option ma_V → ah_T → Prop} {E : Nat → ah_T → Prop} {x1 x2 x3 x4 x5 x6 x7 : Int32} (L : LY0 h X) (C : CI0 h X S) (RM : X + 1576 ≤ ah_sz h ∧ 4000 ≤ ah_rc h ∧ 40000 ≤ ah_rs h) (Kf : wy_sale S x1 x2 x3 x4 x5 x6 x7 ≠ 0 → ∀ h1, cpo X h h1 (uI S 0 0 (wy_sale S x1 x2 x3 x4 x5 x6 x7)) → Q (some (iv (-1))) h1) (Kg : wy_sale S x1 x2 x3 x4 x5 x6 x7 = 0 → ∀ h1, cpo X h h1 (sg_sale S x1 x2 x3 x4 x5 x6 x7) → Q (some (iv (S.1 0 7 + 1 - 1))) h1) : MX G mi_X0_sale (d + 6) 0 [some (rv X), some (iv x1), some (iv x2), some (iv x3), some (iv x4), some (iv x5), some (iv x6), some (iv x7), none] [] h Q E := by
  refine v_X0_sale (d := d + 5) L ?_
  refine ⟨fun c1 => ?_, fun c1 => ?_⟩
  · skip
    intro h2 eh2 Xh2
    have w_ : wy_sale S x1 x2 x3 x4 x5 x6 x7 = (2 : Int32) := by
      simp only [i3_lt, i3_le, i6_lt, i6_le, i3_eq, i3_l, Int32.reduceToInt, Int64.reduceToInt, tm_1, tl_1] at c1
      unfold wy_sale
      rw [if_neg (by omega)]
    subst eh2
    exact Kf (by rw [w_]; decide) _ (by rw [w_]; exact cpo.st L C Xh2)
  · skip
    refine ⟨fun c2 => ?_, fun c2 => ?_⟩
    · skip
      intro h4 eh4 Xh4
      have w_ : wy_sale S x1 x2 x3 x4 x5 x6 x7 = (2 : Int32) := by
        simp only [i3_lt, i3_le, i6_lt, i6_le, i3_eq, i3_l, Int32.reduceToInt, Int64.reduceToInt, tm_1, tl_1] at c1 c2
        unfold wy_sale
        rw [if_neg (by omega)]
      subst eh4
      exact Kf (by rw [w_]; decide) _ (by rw [w_]; exact cpo.st L C Xh4)
    · skip
      refine ⟨fun c3 => ?_, fun c3 => ?_⟩
      · skip
        intro h6 eh6 Xh6
        have w_ : wy_sale S x1 x2 x3 x4 x5 x6 x7 = (2 : Int32) := by
          simp only [i3_lt, i3_le, i6_lt, i6_le, i3_eq, i3_l, Int32.reduceToInt, Int64.reduceToInt, tm_1, tl_1] at c1 c2 c3
          unfold wy_sale
          rw [if_neg (by omega)]
        subst eh6
        exact Kf (by rw [w_]; decide) _ (by rw [w_]; exact cpo.st L C Xh6)
      · skip
        refine ⟨fun c4 => ?_, fun c4 => ?_⟩
        · skip
          intro h8 eh8 Xh8
          have w_ : wy_sale S x1 x2 x3 x4 x5 x6 x7 = (2 : Int32) := by
            simp only [i3_lt, i3_le, i6_lt, i6_le, i3_eq, i3_l, Int32.reduceToInt, Int64.reduceToInt, tm_1, tl_1] at c1 c2 c3 c4
            unfold wy_sale
            rw [if_neg (by omega)]
          subst eh8
          exact Kf (by rw [w_]; decide) _ (by rw [w_]; exact cpo.st L C Xh8)
        · skip
          refine ⟨fun c5 => ?_, fun c5 => ?_⟩
          · skip
            have w_ : wy_sale S x1 x2 x3 x4 x5 x6 x7 = (5 : Int32) := by
              simp only [i3_lt, i3_le, i6_lt, i6_le, i3_eq, i3_l, Int32.reduceToInt, Int64.reduceToInt, tm_1, tl_1] at c1 c2 c3 c4 c5
              unfold wy_sale wyE
              rw [if_pos (by omega), decide_eq_false (by omega)]
              rfl
            refine v_X0_sale_59 (d := d + 5) L (c_wrongEvent0 L ?_)
            intro _
            refine ⟨fun c => absurd c (by decide), fun _ => ?_⟩
            intro h14 e14 X14
            subst e14
            exact Kf (by rw [w_]; decide) _ (by rw [w_]; exact cpo.st L C X14)
          · skip
            refine ⟨fun c6 => ?_, fun c6 => ?_⟩
            · skip
              have w_ : wy_sale S x1 x2 x3 x4 x5 x6 x7 = (5 : Int32) := by
                simp only [i3_lt, i3_le, i6_lt, i6_le, i3_eq, i3_l, Int32.reduceToInt, Int64.reduceToInt, tm_1, tl_1] at c1 c2 c3 c4 c5 c6
                unfold wy_sale wyE
                rw [if_pos (by omega), decide_eq_false (by omega)]
                rfl
              refine v_X0_sale_59 (d := d + 5) L (c_wrongEvent0 L ?_)
              intro _
              refine ⟨fun c => absurd c (by decide), fun _ => ?_⟩
              intro h14 e14 X14
              subst e14
              exact Kf (by rw [w_]; decide) _ (by rw [w_]; exact cpo.st L C X14)
            · skip
              refine ⟨fun c7 => ?_, fun c7 => ?_⟩
              · skip
                have w_ : wy_sale S x1 x2 x3 x4 x5 x6 x7 = (5 : Int32) := by
                  simp only [i3_lt, i3_le, i6_lt, i6_le, i3_eq, i3_l, Int32.reduceToInt, Int64.reduceToInt, tm_1, tl_1] at c1 c2 c3 c4 c5 c6 c7
                  unfold wy_sale wyE
                  rw [if_pos (by omega), decide_eq_false (by omega)]
                  rfl
                refine v_X0_sale_59 (d := d + 5) L (c_wrongEvent0 L ?_)
                intro _
                refine ⟨fun c => absurd c (by decide), fun _ => ?_⟩
                intro h14 e14 X14
                subst e14
                exact Kf (by rw [w_]; decide) _ (by rw [w_]; exact cpo.st L C X14)
              · skip
                refine ⟨fun c8 => ?_, fun c8 => ?_⟩
                · skip
                  have w_ : wy_sale S x1 x2 x3 x4 x5 x6 x7 = (5 : Int32) := by
                    simp only [i3_lt, i3_le, i6_lt, i6_le, i3_eq, i3_l, Int32.reduceToInt, Int64.reduceToInt, tm_1, tl_1] at c1 c2 c3 c4 c5 c6 c7 c8
                    unfold wy_sale wyE
                    rw [if_pos (by omega), decide_eq_false (by omega)]
                    rfl
                  refine v_X0_sale_59 (d := d + 5) L (c_wrongEvent0 L ?_)
                  intro _
                  refine ⟨fun c => absurd c (by decide), fun _ => ?_⟩
                  intro h14 e14 X14
                  subst e14
                  exact Kf (by rw [w_]; decide) _ (by rw [w_]; exact cpo.st L C X14)
                · skip
                  refine ⟨fun c9 => ?_, fun c9 => ?_⟩
                  · skip
                    have w_ : wy_sale S x1 x2 x3 x4 x5 x6 x7 = (5 : Int32) := by
                      simp only [i3_lt, i3_le, i6_lt, i6_le, i3_eq, i3_l, Int32.reduceToInt, Int64.reduceToInt, tm_1, tl_1] at c1 c2 c3 c4 c5 c6 c7 c8 c9
                      unfold wy_sale wyE
                      rw [if_pos (by omega), decide_eq_false (by omega)]
                      rfl
                    refine v_X0_sale_59 (d := d + 5) L (c_wrongEvent0 L ?_)
                    intro _
                    refine ⟨fun c => absurd c (by decide), fun _ => ?_⟩
                    intro h14 e14 X14
                    subst e14
                    exact Kf (by rw [w_]; decide) _ (by rw [w_]; exact cpo.st L C X14)
                  · skip
                    refine ⟨fun c10 => ?_, fun c10 => ?_⟩
                    · skip
                      have w_ : wy_sale S x1 x2 x3 x4 x5 x6 x7 = (5 : Int32) := by
                        simp only [i3_lt, i3_le, i6_lt, i6_le, i3_eq, i3_l, Int32.reduceToInt, Int64.reduceToInt, tm_1, tl_1] at c1 c2 c3 c4 c5 c6 c7 c8 c9 c10
                        unfold wy_sale wyE
                        rw [if_pos (by omega), decide_eq_false (by omega)]
                        rfl
                      refine v_X0_sale_59 (d := d + 5) L (c_wrongEvent0 L ?_)
                      intro _
                      refine ⟨fun c => absurd c (by decide), fun _ => ?_⟩
                      intro h14 e14 X14
                      subst e14
                      exact Kf (by rw [w_]; decide) _ (by rw [w_]; exact cpo.st L C X14)
                    · skip
                      have hp : inR x1 0 1 ∧ inR x2 0 5 := by
                        simp only [i3_lt, i3_le, i6_lt, i6_le, i3_eq, i3_l, Int32.reduceToInt, Int64.reduceToInt, tm_1, tl_1] at c1 c2 c3 c4 c5 c6 c7 c8 c9 c10
                        unfold inR; omega
                      have hg : inR x3 0 9 ∧ inR x4 1 100000 ∧ inR x5 0 1000 := by
                        simp only [i3_lt, i3_le, i6_lt, i6_le, i3_eq, i3_l, Int32.reduceToInt, Int64.reduceToInt, tm_1, tl_1] at c1 c2 c3 c4 c5 c6 c7 c8 c9 c10
                        unfold inR; omega
                      have w_ : wy_sale S x1 x2 x3 x4 x5 x6 x7 = wyE S true x6 x7 := by
                        unfold wy_sale
                        rw [if_pos (show (0 ≤ x1.toInt ∧ x1.toInt ≤ 1) ∧ (0 ≤ x2.toInt ∧ x2.toInt ≤ 5) from hp), decide_eq_true (show (0 ≤ x3.toInt ∧ x3.toInt ≤ 9) ∧ (1 ≤ x4.toInt ∧ x4.toInt ≤ 100000) ∧ (0 ≤ x5.toInt ∧ x5.toInt ≤ 1000) from hg)]
                      exact c_sale_59 L C RM hp hg (fun k1 => by rw [← w_] at k1 ⊢; exact Kf k1) (fun k1 => Kg (w_.trans k1))
theorem m_sale {G : ma_G} {d M : Nat} {h : ah_T} {S : MS} {Q : Option ma_V → ah_T → Prop} {E : Nat → ah_T → Prop} {x1 x2 x3 x4 x5 x6 x7 : Int32} (L : LY8 h M) (eS : mv h M = S) (W : WF S) (B : WB S) (Kf : wy_sale S x1 x2 x3 x4 x5 x6 x7 ≠ 0 → ∀ h1, mpo M h h1 (uI S 0 0 (wy_sale S x1 x2 x3 x4 x5 x6 x7)) → Q (some (iv (-1))) h1) (Kg : wy_sale S x1 x2 x3 x4 x5 x6 x7 = 0 → ∀ h1, mpo M h h1 (sg_sale S x1 x2 x3 x4 x5 x6 x7) → Q (some (iv (S.1 0 7 + 1 - 1))) h1) : MX G mi_X8_sale (d + 4) 0 [some (rv M), some (iv x1), some (iv x2), some (iv x3), some (iv x4), some (iv x5), some (iv x6), some (iv x7)] [] h Q E := by
  refine v_X8_sale (d := d + 2) L ?_
  intro h1 eh1 Xh1
  intro h2 eh2 Xh2
  refine ⟨fun c1 => ?_, fun c1 => ?_⟩
  · skip
    intro h4 eh4 Xh4
    have w_ : wy_sale S x1 x2 x3 x4 x5 x6 x7 = (2 : Int32) := by
      simp only [i3_lt, i3_le, i6_lt, i6_le, i3_eq, i3_l, Int32.reduceToInt, Int64.reduceToInt, tm_1, tl_1] at c1
      unfold wy_sale
      rw [if_neg (by omega)]
    subst eh1
    subst eh2
    subst eh4
    exact Kf (by rw [w_]; decide) _ (by rw [w_]; exact mpo.st eS)
  · skip
    refine ⟨fun c2 => ?_, fun c2 => ?_⟩
    · skip
      intro h6 eh6 Xh6
      have w_ : wy_sale S x1 x2 x3 x4 x5 x6 x7 = (2 : Int32) := by
        simp only [i3_lt, i3_le, i6_lt, i6_le, i3_eq, i3_l, Int32.reduceToInt, Int64.reduceToInt, tm_1, tl_1] at c1 c2
        unfold wy_sale
        rw [if_neg (by omega)]
      subst eh1
      subst eh2
      subst eh6
      exact Kf (by rw [w_]; decide) _ (by rw [w_]; exact mpo.st eS)
    · skip
      refine ⟨fun c3 => ?_, fun c3 => ?_⟩
      · skip
        intro h8 eh8 Xh8
        have w_ : wy_sale S x1 x2 x3 x4 x5 x6 x7 = (2 : Int32) := by
          simp only [i3_lt, i3_le, i6_lt, i6_le, i3_eq, i3_l, Int32.reduceToInt, Int64.reduceToInt, tm_1, tl_1] at c1 c2 c3
          unfold wy_sale
          rw [if_neg (by omega)]
        subst eh1
        subst eh2
        subst eh8
        exact Kf (by rw [w_]; decide) _ (by rw [w_]; exact mpo.st eS)
      · skip
        refine ⟨fun c4 => ?_, fun c4 => ?_⟩
        · skip
          intro h10 eh10 Xh10
          have w_ : wy_sale S x1 x2 x3 x4 x5 x6 x7 = (2 : Int32) := by
            simp only [i3_lt, i3_le, i6_lt, i6_le, i3_eq, i3_l, Int32.reduceToInt, Int64.reduceToInt, tm_1, tl_1] at c1 c2 c3 c4
            unfold wy_sale
            rw [if_neg (by omega)]
          subst eh1
          subst eh2
          subst eh10
          exact Kf (by rw [w_]; decide) _ (by rw [w_]; exact mpo.st eS)
        · skip
          refine ⟨fun c5 => ?_, fun c5 => ?_⟩
          · skip
            intro h12 eh12 Xh12
            have w_ : wy_sale S x1 x2 x3 x4 x5 x6 x7 = (5 : Int32) := by
              simp only [i3_lt, i3_le, i6_lt, i6_le, i3_eq, i3_l, Int32.reduceToInt, Int64.reduceToInt, tm_1, tl_1] at c1 c2 c3 c4 c5
              unfold wy_sale wyE
              rw [if_pos (by omega), decide_eq_false (by omega)]
              rfl
            subst eh1
            subst eh2
            subst eh12
            exact Kf (by rw [w_]; decide) _ (by rw [w_]; exact mpo.st eS)
          · skip
            refine ⟨fun c6 => ?_, fun c6 => ?_⟩
            · skip
              intro h14 eh14 Xh14
              have w_ : wy_sale S x1 x2 x3 x4 x5 x6 x7 = (5 : Int32) := by
                simp only [i3_lt, i3_le, i6_lt, i6_le, i3_eq, i3_l, Int32.reduceToInt, Int64.reduceToInt, tm_1, tl_1] at c1 c2 c3 c4 c5 c6
                unfold wy_sale wyE
                rw [if_pos (by omega), decide_eq_false (by omega)]
                rfl
              subst eh1
              subst eh2
              subst eh14
              exact Kf (by rw [w_]; decide) _ (by rw [w_]; exact mpo.st eS)
            · skip
              refine ⟨fun c7 => ?_, fun c7 => ?_⟩
              · skip
                intro h16 eh16 Xh16
                have w_ : wy_sale S x1 x2 x3 x4 x5 x6 x7 = (5 : Int32) := by
                  simp only [i3_lt, i3_le, i6_lt, i6_le, i3_eq, i3_l, Int32.reduceToInt, Int64.reduceToInt, tm_1, tl_1] at c1 c2 c3 c4 c5 c6 c7
                  unfold wy_sale wyE
                  rw [if_pos (by omega), decide_eq_false (by omega)]
                  rfl
                subst eh1
                subst eh2
                subst eh16
                exact Kf (by rw [w_]; decide) _ (by rw [w_]; exact mpo.st eS)
              · skip
                refine ⟨fun c8 => ?_, fun c8 => ?_⟩
                · skip
                  intro h18 eh18 Xh18
                  have w_ : wy_sale S x1 x2 x3 x4 x5 x6 x7 = (5 : Int32) := by
                    simp only [i3_lt, i3_le, i6_lt, i6_le, i3_eq, i3_l, Int32.reduceToInt, Int64.reduceToInt, tm_1, tl_1] at c1 c2 c3 c4 c5 c6 c7 c8
                    unfold wy_sale wyE
                    rw [if_pos (by omega), decide_eq_false (by omega)]
                    rfl
                  subst eh1
                  subst eh2
                  subst eh18
                  exact Kf (by rw [w_]; decide) _ (by rw [w_]; exact mpo.st eS)
                · skip
                  refine ⟨fun c9 => ?_, fun c9 => ?_⟩
                  · skip
                    intro h20 eh20 Xh20
                    have w_ : wy_sale S x1 x2 x3 x4 x5 x6 x7 = (5 : Int32) := by
                      simp only [i3_lt, i3_le, i6_lt, i6_le, i3_eq, i3_l, Int32.reduceToInt, Int64.reduceToInt, tm_1, tl_1] at c1 c2 c3 c4 c5 c6 c7 c8 c9
                      unfold wy_sale wyE
                      rw [if_pos (by omega), decide_eq_false (by omega)]
                      rfl
                    subst eh1
                    subst eh2
                    subst eh20
                    exact Kf (by rw [w_]; decide) _ (by rw [w_]; exact mpo.st eS)
                  · skip
                    refine ⟨fun c10 => ?_, fun c10 => ?_⟩
                    · skip
                      intro h22 eh22 Xh22
                      have w_ : wy_sale S x1 x2 x3 x4 x5 x6 x7 = (5 : Int32) := by
                        simp only [i3_lt, i3_le, i6_lt, i6_le, i3_eq, i3_l, Int32.reduceToInt, Int64.reduceToInt, tm_1, tl_1] at c1 c2 c3 c4 c5 c6 c7 c8 c9 c10
                        unfold wy_sale wyE
                        rw [if_pos (by omega), decide_eq_false (by omega)]
                        rfl
                      subst eh1
                      subst eh2
                      subst eh22
                      exact Kf (by rw [w_]; decide) _ (by rw [w_]; exact mpo.st eS)
                    · skip
                      have hp : inR x1 0 1 ∧ inR x2 0 5 := by
                        simp only [i3_lt, i3_le, i6_lt, i6_le, i3_eq, i3_l, Int32.reduceToInt, Int64.reduceToInt, tm_1, tl_1] at c1 c2 c3 c4 c5 c6 c7 c8 c9 c10
                        unfold inR; omega
                      have hg : inR x3 0 9 ∧ inR x4 1 100000 ∧ inR x5 0 1000 := by
                        simp only [i3_lt, i3_le, i6_lt, i6_le, i3_eq, i3_l, Int32.reduceToInt, Int64.reduceToInt, tm_1, tl_1] at c1 c2 c3 c4 c5 c6 c7 c8 c9 c10
                        unfold inR; omega
                      have w_ : wy_sale S x1 x2 x3 x4 x5 x6 x7 = wyE S true x6 x7 := by
                        unfold wy_sale
                        rw [if_pos (show (0 ≤ x1.toInt ∧ x1.toInt ≤ 1) ∧ (0 ≤ x2.toInt ∧ x2.toInt ≤ 5) from hp), decide_eq_true (show (0 ≤ x3.toInt ∧ x3.toInt ≤ 9) ∧ (1 ≤ x4.toInt ∧ x4.toInt ≤ 100000) ∧ (0 ≤ x5.toInt ∧ x5.toInt ≤ 1000) from hg)]
                      subst eh1
                      subst eh2
                      have e2 : mv (ah_wI (ah_wI h M 1 0) M 0 0) M = uI (uI S 0 1 0) 0 0 0 := by rw [mv_zI, mv_zI, eS]
                      have m0 : mch [] [0, 1] M h (ah_wI (ah_wI h M 1 0) M 0 0) := (mch.rf.zI (by decide)).zI (by decide)
                      have k0 : kept (uI S 0 0 0) (uI (uI S 0 1 0) 0 0 0) := (kept.rf.sI (by decide) (by decide)).cI
                      refine m_event (d := d + 1) (m0.ly L) e2 W B (fun k1 h1 p1 _ => ?_) (fun k1 h1 p1 _ => ?_)
                      · refine Kf (by rw [w_]; exact k1) h1 ?_
                        rw [w_]
                        exact mpo.tr m0 (by decide) p1 (by rw [uI_uI]; exact (kept.rf.sI (by decide) (by decide)).cI)
                      · exact Kg (w_.trans k1) h1 (mpo.tr m0 (by decide) p1 (sgE_k k0))
def wy_spoil (S : MS) (x1 x2 x3 x4 x5 x6 : Int32) : Int32 := if (0 ≤ x1.toInt ∧ x1.toInt ≤ ((nE) S : Int) - 1) ∧ (0 ≤ x2.toInt ∧ x2.toInt ≤ 5) then wyE S (decide ((0 ≤ x3.toInt ∧ x3.toInt ≤ 9) ∧ (1 ≤ x4.toInt ∧ x4.toInt ≤ 100000))) x5 x6 else 2
def sg_spoil (S : MS) (x1 x2 x3 x4 x5 x6 : Int32) : MS := sgE (uI S 0 0 0) (nV S) (S.1 0 7 + 1) 3 (-1) x1 (-1) x2 x3 x4 0 x5 x6
theorem c_spoil_47 {G : ma_G} {d X : Nat} {h : ah_T} {S : MS} {Q : Option ma_V → ah_T → Prop} {E : Nat → ah_T → Prop} {x1 x2 x3 x4 x5 x6 : Int32} (L : LY0 h X) (C : CI0 h X S) (RM : X + 1576 ≤ ah_sz h ∧ 4000 ≤ ah_rc h ∧ 40000 ≤ ah_rs h) (hp : inR x1 0 ((nE S : Int) - 1) ∧ inR x2 0 5) (hg : inR x3 0 9 ∧ inR x4 1 100000) (Kf : wyE S true x5 x6 ≠ 0 → ∀ h1, cpo X h h1 (uI S 0 0 (wyE S true x5 x6)) → Q (some (iv (-1))) h1) (Kg : wyE S true x5 x6 = 0 → ∀ h1, cpo X h h1 (sg_spoil S x1 x2 x3 x4 x5 x6) → Q (some (iv (S.1 0 7 + 1 - 1))) h1) : MX G mi_X0_spoil (d + 6) 47 [some (rv X), some (iv x1), some (iv x2), some (iv x3), some (iv x4), some (iv x5), some (iv x6), none] [iv 1, rv X] h Q E := by
  have r1 : 4000 ≤ h.1.2.1 := RM.2.1
  have r2 : 40000 ≤ h.1.2.2 := RM.2.2
  refine v_X0_spoil_47 (d := d + 5) L (c_wrongEvent1 (S := S) L C ?_)
  intro _
  have wr : wyE S true x5 x6 = 0 ∨ (wyE S true x5 x6 ≠ 0 ∧ ¬ wyE S true x5 x6 ≤ 0) := by
    unfold wyE
    (repeat' split) <;> first | exact Or.inl rfl | exact Or.inr (by decide)
  refine ⟨fun c => ?_, fun c => ?_⟩
  rotate_left
  · intro h14 e14 X14
    subst e14
    rcases wr with w0 | w0
    · exact absurd (by rw [w0]; decide) c
    · exact Kf w0.1 _ (cpo.st L C X14)
  rcases wr with w0 | w0
  rotate_left
  · exact absurd c w0.2
  have hv : nV S < 120 ∧ (inR x5 0 519 ∧ inR x6 x5.toInt 519) := by
    have bV := C.iV.2
    have w1 := w0
    unfold wyE at w1
    repeat' split at w1
    all_goals first | exact absurd w1 (by decide) | skip
    rename_i q1 q2 q3
    exact ⟨by omega, q1.2⟩
  refine ⟨⟨by show 1 ≤ h.1.2.1; omega, by show 6 ≤ h.1.2.2; omega⟩, ?_⟩
  intro h5 e5 X5 lv5
  subst e5
  refine c_X14_init (d := d + 2) (ma_ks_of (ci := 12) (by rw [rn_k, if_pos rfl]) (by decide)) ?_
  intro g f1 f2 f3 v0 v1 v2 v3 v4 v5 xg
  rw [rn_k, if_pos rfl] at f3
  have fr : fre [ah_sz h] h g := (fre.nw fre.rf List.mem_cons_self).tr f1
  refine c_adds (d := d + 4) (c0 := 6) L C lv5 RM.1 (X5.tr xg) fr f2 (by decide) hv.1 v0 v1 v2 ?_ (show WFw (nF S) (nE S) 3 (-1) x1 (-1) x2 x3 x4 0 x5 x6 from ⟨hv.2.1, hv.2.2, Or.inr (Or.inr (Or.inr ⟨rfl, hp.1, hp.2, hg.1, hg.2⟩))⟩) (fun h1 p1 _ => Kg w0 h1 p1)
  exact Or.inr (Or.inr (Or.inr ⟨rfl, f3, v3, v4, v5⟩))
theorem c_spoil {G : ma_G} {d X : Nat} {h : ah_T} {S : MS} {Q : Option ma_V → ah_T → Prop} {E : Nat → ah_T → Prop} {x1 x2 x3 x4 x5 x6 : Int32} (L : LY0 h X) (C : CI0 h X S) (RM : X + 1576 ≤ ah_sz h ∧ 4000 ≤ ah_rc h ∧ 40000 ≤ ah_rs h) (Kf : wy_spoil S x1 x2 x3 x4 x5 x6 ≠ 0 → ∀ h1, cpo X h h1 (uI S 0 0 (wy_spoil S x1 x2 x3 x4 x5 x6)) → Q (some (iv (-1))) h1) (Kg : wy_spoil S x1 x2 x3 x4 x5 x6 = 0 → ∀ h1, cpo X h h1 (sg_spoil S x1 x2 x3 x4 x5 x6) → Q (some (iv (S.1 0 7 + 1 - 1))) h1) : MX G mi_X0_spoil (d + 6) 0 [some (rv X), some (iv x1), some (iv x2), some (iv x3), some (iv x4), some (iv x5), some (iv x6), none] [] h Q E := by
  have bE := C.iE.2
  have fE : (ah_I h X 15).toInt = (nE S : Int) := by rw [C.iE.1]; exact nI_x (by omega)
  refine v_X0_spoil (d := d + 5) L ?_
  refine ⟨fun c1 => ?_, fun c1 => ?_⟩
  · skip
    intro h2 eh2 Xh2
    have w_ : wy_spoil S x1 x2 x3 x4 x5 x6 = (2 : Int32) := by
      simp only [i3_lt, i3_le, i6_lt, i6_le, i3_eq, i3_l, Int32.reduceToInt, Int64.reduceToInt, tm_1, tl_1, fE] at c1
      unfold wy_spoil
      rw [if_neg (by omega)]
    subst eh2
    exact Kf (by rw [w_]; decide) _ (by rw [w_]; exact cpo.st L C Xh2)
  · skip
    refine ⟨fun c2 => ?_, fun c2 => ?_⟩
    · skip
      intro h4 eh4 Xh4
      have w_ : wy_spoil S x1 x2 x3 x4 x5 x6 = (2 : Int32) := by
        simp only [i3_lt, i3_le, i6_lt, i6_le, i3_eq, i3_l, Int32.reduceToInt, Int64.reduceToInt, tm_1, tl_1, fE] at c1 c2
        unfold wy_spoil
        rw [if_neg (by omega)]
      subst eh4
      exact Kf (by rw [w_]; decide) _ (by rw [w_]; exact cpo.st L C Xh4)
    · skip
      refine ⟨fun c3 => ?_, fun c3 => ?_⟩
      · skip
        intro h6 eh6 Xh6
        have w_ : wy_spoil S x1 x2 x3 x4 x5 x6 = (2 : Int32) := by
          simp only [i3_lt, i3_le, i6_lt, i6_le, i3_eq, i3_l, Int32.reduceToInt, Int64.reduceToInt, tm_1, tl_1, fE] at c1 c2 c3
          unfold wy_spoil
          rw [if_neg (by omega)]
        subst eh6
        exact Kf (by rw [w_]; decide) _ (by rw [w_]; exact cpo.st L C Xh6)
      · skip
        refine ⟨fun c4 => ?_, fun c4 => ?_⟩
        · skip
          intro h8 eh8 Xh8
          have w_ : wy_spoil S x1 x2 x3 x4 x5 x6 = (2 : Int32) := by
            simp only [i3_lt, i3_le, i6_lt, i6_le, i3_eq, i3_l, Int32.reduceToInt, Int64.reduceToInt, tm_1, tl_1, fE] at c1 c2 c3 c4
            unfold wy_spoil
            rw [if_neg (by omega)]
          subst eh8
          exact Kf (by rw [w_]; decide) _ (by rw [w_]; exact cpo.st L C Xh8)
        · skip
          refine ⟨fun c5 => ?_, fun c5 => ?_⟩
          · skip
            have w_ : wy_spoil S x1 x2 x3 x4 x5 x6 = (5 : Int32) := by
              simp only [i3_lt, i3_le, i6_lt, i6_le, i3_eq, i3_l, Int32.reduceToInt, Int64.reduceToInt, tm_1, tl_1, fE] at c1 c2 c3 c4 c5
              unfold wy_spoil wyE
              rw [if_pos (by omega), decide_eq_false (by omega)]
              rfl
            refine v_X0_spoil_47 (d := d + 5) L (c_wrongEvent0 L ?_)
            intro _
            refine ⟨fun c => absurd c (by decide), fun _ => ?_⟩
            intro h14 e14 X14
            subst e14
            exact Kf (by rw [w_]; decide) _ (by rw [w_]; exact cpo.st L C X14)
          · skip
            refine ⟨fun c6 => ?_, fun c6 => ?_⟩
            · skip
              have w_ : wy_spoil S x1 x2 x3 x4 x5 x6 = (5 : Int32) := by
                simp only [i3_lt, i3_le, i6_lt, i6_le, i3_eq, i3_l, Int32.reduceToInt, Int64.reduceToInt, tm_1, tl_1, fE] at c1 c2 c3 c4 c5 c6
                unfold wy_spoil wyE
                rw [if_pos (by omega), decide_eq_false (by omega)]
                rfl
              refine v_X0_spoil_47 (d := d + 5) L (c_wrongEvent0 L ?_)
              intro _
              refine ⟨fun c => absurd c (by decide), fun _ => ?_⟩
              intro h14 e14 X14
              subst e14
              exact Kf (by rw [w_]; decide) _ (by rw [w_]; exact cpo.st L C X14)
            · skip
              refine ⟨fun c7 => ?_, fun c7 => ?_⟩
              · skip
                have w_ : wy_spoil S x1 x2 x3 x4 x5 x6 = (5 : Int32) := by
                  simp only [i3_lt, i3_le, i6_lt, i6_le, i3_eq, i3_l, Int32.reduceToInt, Int64.reduceToInt, tm_1, tl_1, fE] at c1 c2 c3 c4 c5 c6 c7
                  unfold wy_spoil wyE
                  rw [if_pos (by omega), decide_eq_false (by omega)]
                  rfl
                refine v_X0_spoil_47 (d := d + 5) L (c_wrongEvent0 L ?_)
                intro _
                refine ⟨fun c => absurd c (by decide), fun _ => ?_⟩
                intro h14 e14 X14
                subst e14
                exact Kf (by rw [w_]; decide) _ (by rw [w_]; exact cpo.st L C X14)
              · skip
                refine ⟨fun c8 => ?_, fun c8 => ?_⟩
                · skip
                  have w_ : wy_spoil S x1 x2 x3 x4 x5 x6 = (5 : Int32) := by
                    simp only [i3_lt, i3_le, i6_lt, i6_le, i3_eq, i3_l, Int32.reduceToInt, Int64.reduceToInt, tm_1, tl_1, fE] at c1 c2 c3 c4 c5 c6 c7 c8
                    unfold wy_spoil wyE
                    rw [if_pos (by omega), decide_eq_false (by omega)]
                    rfl
                  refine v_X0_spoil_47 (d := d + 5) L (c_wrongEvent0 L ?_)
                  intro _
                  refine ⟨fun c => absurd c (by decide), fun _ => ?_⟩
                  intro h14 e14 X14
                  subst e14
                  exact Kf (by rw [w_]; decide) _ (by rw [w_]; exact cpo.st L C X14)
                · skip
                  have hp : inR x1 0 ((nE S : Int) - 1) ∧ inR x2 0 5 := by
                    simp only [i3_lt, i3_le, i6_lt, i6_le, i3_eq, i3_l, Int32.reduceToInt, Int64.reduceToInt, tm_1, tl_1, fE] at c1 c2 c3 c4 c5 c6 c7 c8
                    unfold inR; omega
                  have hg : inR x3 0 9 ∧ inR x4 1 100000 := by
                    simp only [i3_lt, i3_le, i6_lt, i6_le, i3_eq, i3_l, Int32.reduceToInt, Int64.reduceToInt, tm_1, tl_1, fE] at c1 c2 c3 c4 c5 c6 c7 c8
                    unfold inR; omega
                  have w_ : wy_spoil S x1 x2 x3 x4 x5 x6 = wyE S true x5 x6 := by
                    unfold wy_spoil
                    rw [if_pos (show (0 ≤ x1.toInt ∧ x1.toInt ≤ ((nE) S : Int) - 1) ∧ (0 ≤ x2.toInt ∧ x2.toInt ≤ 5) from hp), decide_eq_true (show (0 ≤ x3.toInt ∧ x3.toInt ≤ 9) ∧ (1 ≤ x4.toInt ∧ x4.toInt ≤ 100000) from hg)]
                  exact c_spoil_47 L C RM hp hg (fun k1 => by rw [← w_] at k1 ⊢; exact Kf k1) (fun k1 => Kg (w_.trans k1))
theorem m_spoil {G : ma_G} {d M : Nat} {h : ah_T} {S : MS} {Q : Option ma_V → ah_T → Prop} {E : Nat → ah_T → Prop} {x1 x2 x3 x4 x5 x6 : Int32} (L : LY8 h M) (eS : mv h M = S) (W : WF S) (B : WB S) (Kf : wy_spoil S x1 x2 x3 x4 x5 x6 ≠ 0 → ∀ h1, mpo M h h1 (uI S 0 0 (wy_spoil S x1 x2 x3 x4 x5 x6)) → Q (some (iv (-1))) h1) (Kg : wy_spoil S x1 x2 x3 x4 x5 x6 = 0 → ∀ h1, mpo M h h1 (sg_spoil S x1 x2 x3 x4 x5 x6) → Q (some (iv (S.1 0 7 + 1 - 1))) h1) : MX G mi_X8_spoil (d + 4) 0 [some (rv M), some (iv x1), some (iv x2), some (iv x3), some (iv x4), some (iv x5), some (iv x6)] [] h Q E := by
  have qE := mk_E eS W
  have bE := mb_E W B
  have gE : (ah_I h M 6 - 1).toInt = (nE S : Int) - 1 := by rw [qE]; exact nI_m1 (by omega)
  refine v_X8_spoil (d := d + 2) L ?_
  intro h1 eh1 Xh1
  intro h2 eh2 Xh2
  refine ⟨fun c1 => ?_, fun c1 => ?_⟩
  · skip
    intro h4 eh4 Xh4
    have w_ : wy_spoil S x1 x2 x3 x4 x5 x6 = (2 : Int32) := by
      simp only [i3_lt, i3_le, i6_lt, i6_le, i3_eq, i3_l, Int32.reduceToInt, Int64.reduceToInt, tm_1, tl_1, gE] at c1
      unfold wy_spoil
      rw [if_neg (by omega)]
    subst eh1
    subst eh2
    subst eh4
    exact Kf (by rw [w_]; decide) _ (by rw [w_]; exact mpo.st eS)
  · skip
    refine ⟨fun c2 => ?_, fun c2 => ?_⟩
    · skip
      intro h6 eh6 Xh6
      have w_ : wy_spoil S x1 x2 x3 x4 x5 x6 = (2 : Int32) := by
        simp only [i3_lt, i3_le, i6_lt, i6_le, i3_eq, i3_l, Int32.reduceToInt, Int64.reduceToInt, tm_1, tl_1, gE] at c1 c2
        unfold wy_spoil
        rw [if_neg (by omega)]
      subst eh1
      subst eh2
      subst eh6
      exact Kf (by rw [w_]; decide) _ (by rw [w_]; exact mpo.st eS)
    · skip
      refine ⟨fun c3 => ?_, fun c3 => ?_⟩
      · skip
        intro h8 eh8 Xh8
        have w_ : wy_spoil S x1 x2 x3 x4 x5 x6 = (2 : Int32) := by
          simp only [i3_lt, i3_le, i6_lt, i6_le, i3_eq, i3_l, Int32.reduceToInt, Int64.reduceToInt, tm_1, tl_1, gE] at c1 c2 c3
          unfold wy_spoil
          rw [if_neg (by omega)]
        subst eh1
        subst eh2
        subst eh8
        exact Kf (by rw [w_]; decide) _ (by rw [w_]; exact mpo.st eS)
      · skip
        refine ⟨fun c4 => ?_, fun c4 => ?_⟩
        · skip
          intro h10 eh10 Xh10
          have w_ : wy_spoil S x1 x2 x3 x4 x5 x6 = (2 : Int32) := by
            simp only [i3_lt, i3_le, i6_lt, i6_le, i3_eq, i3_l, Int32.reduceToInt, Int64.reduceToInt, tm_1, tl_1, gE] at c1 c2 c3 c4
            unfold wy_spoil
            rw [if_neg (by omega)]
          subst eh1
          subst eh2
          subst eh10
          exact Kf (by rw [w_]; decide) _ (by rw [w_]; exact mpo.st eS)
        · skip
          refine ⟨fun c5 => ?_, fun c5 => ?_⟩
          · skip
            intro h12 eh12 Xh12
            have w_ : wy_spoil S x1 x2 x3 x4 x5 x6 = (5 : Int32) := by
              simp only [i3_lt, i3_le, i6_lt, i6_le, i3_eq, i3_l, Int32.reduceToInt, Int64.reduceToInt, tm_1, tl_1, gE] at c1 c2 c3 c4 c5
              unfold wy_spoil wyE
              rw [if_pos (by omega), decide_eq_false (by omega)]
              rfl
            subst eh1
            subst eh2
            subst eh12
            exact Kf (by rw [w_]; decide) _ (by rw [w_]; exact mpo.st eS)
          · skip
            refine ⟨fun c6 => ?_, fun c6 => ?_⟩
            · skip
              intro h14 eh14 Xh14
              have w_ : wy_spoil S x1 x2 x3 x4 x5 x6 = (5 : Int32) := by
                simp only [i3_lt, i3_le, i6_lt, i6_le, i3_eq, i3_l, Int32.reduceToInt, Int64.reduceToInt, tm_1, tl_1, gE] at c1 c2 c3 c4 c5 c6
                unfold wy_spoil wyE
                rw [if_pos (by omega), decide_eq_false (by omega)]
                rfl
              subst eh1
              subst eh2
              subst eh14
              exact Kf (by rw [w_]; decide) _ (by rw [w_]; exact mpo.st eS)
            · skip
              refine ⟨fun c7 => ?_, fun c7 => ?_⟩
              · skip
                intro h16 eh16 Xh16
                have w_ : wy_spoil S x1 x2 x3 x4 x5 x6 = (5 : Int32) := by
                  simp only [i3_lt, i3_le, i6_lt, i6_le, i3_eq, i3_l, Int32.reduceToInt, Int64.reduceToInt, tm_1, tl_1, gE] at c1 c2 c3 c4 c5 c6 c7
                  unfold wy_spoil wyE
                  rw [if_pos (by omega), decide_eq_false (by omega)]
                  rfl
                subst eh1
                subst eh2
                subst eh16
                exact Kf (by rw [w_]; decide) _ (by rw [w_]; exact mpo.st eS)
              · skip
                refine ⟨fun c8 => ?_, fun c8 => ?_⟩
                · skip
                  intro h18 eh18 Xh18
                  have w_ : wy_spoil S x1 x2 x3 x4 x5 x6 = (5 : Int32) := by
                    simp only [i3_lt, i3_le, i6_lt, i6_le, i3_eq, i3_l, Int32.reduceToInt, Int64.reduceToInt, tm_1, tl_1, gE] at c1 c2 c3 c4 c5 c6 c7 c8
                    unfold wy_spoil wyE
                    rw [if_pos (by omega), decide_eq_false (by omega)]
                    rfl
                  subst eh1
                  subst eh2
                  subst eh18
                  exact Kf (by rw [w_]; decide) _ (by rw [w_]; exact mpo.st eS)
                · skip
                  have hp : inR x1 0 ((nE S : Int) - 1) ∧ inR x2 0 5 := by
                    simp only [i3_lt, i3_le, i6_lt, i6_le, i3_eq, i3_l, Int32.reduceToInt, Int64.reduceToInt, tm_1, tl_1, gE] at c1 c2 c3 c4 c5 c6 c7 c8
                    unfold inR; omega
                  have hg : inR x3 0 9 ∧ inR x4 1 100000 := by
                    simp only [i3_lt, i3_le, i6_lt, i6_le, i3_eq, i3_l, Int32.reduceToInt, Int64.reduceToInt, tm_1, tl_1, gE] at c1 c2 c3 c4 c5 c6 c7 c8
                    unfold inR; omega
                  have w_ : wy_spoil S x1 x2 x3 x4 x5 x6 = wyE S true x5 x6 := by
                    unfold wy_spoil
                    rw [if_pos (show (0 ≤ x1.toInt ∧ x1.toInt ≤ ((nE) S : Int) - 1) ∧ (0 ≤ x2.toInt ∧ x2.toInt ≤ 5) from hp), decide_eq_true (show (0 ≤ x3.toInt ∧ x3.toInt ≤ 9) ∧ (1 ≤ x4.toInt ∧ x4.toInt ≤ 100000) from hg)]
                  subst eh1
                  subst eh2
                  have e2 : mv (ah_wI (ah_wI h M 1 0) M 0 0) M = uI (uI S 0 1 0) 0 0 0 := by rw [mv_zI, mv_zI, eS]
                  have m0 : mch [] [0, 1] M h (ah_wI (ah_wI h M 1 0) M 0 0) := (mch.rf.zI (by decide)).zI (by decide)
                  have k0 : kept (uI S 0 0 0) (uI (uI S 0 1 0) 0 0 0) := (kept.rf.sI (by decide) (by decide)).cI
                  refine m_event (d := d + 1) (m0.ly L) e2 W B (fun k1 h1 p1 _ => ?_) (fun k1 h1 p1 _ => ?_)
                  · refine Kf (by rw [w_]; exact k1) h1 ?_
                    rw [w_]
                    exact mpo.tr m0 (by decide) p1 (by rw [uI_uI]; exact (kept.rf.sI (by decide) (by decide)).cI)
                  · exact Kg (w_.trans k1) h1 (mpo.tr m0 (by decide) p1 (sgE_k k0))

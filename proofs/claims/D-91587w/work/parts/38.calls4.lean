/-! ===== status, fault, grading ===== -/
theorem cpo.rf {h : ah_T} {X : Nat} {S : MS} (L : LY0 h X) (C : CI0 h X S) : cpo X h h S := ⟨L, C, cfr.rf, ah_ext.rf, Nat.le_add_right _ _, Nat.le_add_right _ _, dyn.lf (P := pT) (e := (X + 5, 0)) L dyn.rf ⟨by show X + 5 < _; omega, by show X + 5 ≠ _; omega, by show ah_kd h (X + 5) ≠ 50; rw [ly0_K_5 L]; decide⟩ (fun _ _ _ => trivial)⟩
section
variable {G : ma_G} {d X M : Nat} {h : ah_T} {S : MS} {Q : Option ma_V → ah_T → Prop} {E : Nat → ah_T → Prop}
theorem c_status (L : LY0 h X) (C : CI0 h X S) (K : ∀ h1, cpo X h h1 S → Q (some (iv (S.1 0 0))) h1) : MX G mi_X0_status d 0 [some (rv X)] [] h Q E := by
  refine v_X0_status L ?_
  rw [show ah_I h X 20 = S.1 0 0 from C.1.2 0 20 0 (by decide)]
  exact K h (cpo.rf L C)
theorem m_status (L : LY8 h M) (eS : mv h M = S) (K : ∀ h1, mpo M h h1 S → Q (some (iv (S.1 0 0))) h1) : MX G mi_X8_status d 0 [some (rv M)] [] h Q E := by
  refine v_X8_status L ?_
  intro h1 e1 X1
  subst e1
  rw [mk_z0 eS]
  exact K _ (mpo.mk (A := []) (Z := [1]) (by decide) (mch.rf.zI (by decide)) (by rw [mv_zI, eS]; exact kept.rf.sI (by decide) (by decide)))
def sp_fault (S : MS) (x : Int32) : Int32 := if x = 0 then S.1 0 46 else if x = 1 then S.1 0 47 else -1
theorem c_fault {x1 : Int32} (L : LY0 h X) (C : CI0 h X S) (K : ∀ h1, cpo X h h1 S → Q (some (iv (sp_fault S x1))) h1) : MX G mi_X0_fault d 0 [some (rv X), some (iv x1)] [] h Q E := by
  refine v_X0_fault L ?_
  have e1 : ah_I h X 21 = S.1 0 46 := C.1.2 0 21 46 (by decide)
  have e2 : ah_I h X 22 = S.1 0 47 := C.1.2 0 22 47 (by decide)
  rw [e1, e2]
  have k := K h (cpo.rf L C)
  unfold sp_fault at k
  refine ⟨fun c1 => ⟨fun c2 => ?_, fun c2 => ?_⟩, fun c1 => ?_⟩
  · rw [if_neg c1, if_neg c2] at k; exact k
  · rw [if_neg c1, if_pos c2] at k; exact k
  · rw [if_pos c1] at k; exact k
theorem m_fault {x1 : Int32} (L : LY8 h M) (eS : mv h M = S) (K : ∀ h1, mpo M h h1 S → Q (some (iv (sp_fault S x1))) h1) : MX G mi_X8_fault d 0 [some (rv M), some (iv x1)] [] h Q E := by
  refine v_X8_fault L ?_
  intro h1 e1 X1
  subst e1
  rw [mk_z0 eS, mk_z0 eS]
  have k := K (ah_wI h M 1 0) (mpo.mk (A := []) (Z := [1]) (by decide) (mch.rf.zI (by decide)) (by rw [mv_zI, eS]; exact kept.rf.sI (by decide) (by decide)))
  unfold sp_fault at k
  refine ⟨fun c1 => ⟨fun c2 => ?_, fun c2 => ?_⟩, fun c1 => ?_⟩
  · rw [if_neg c1, if_neg c2] at k; exact k
  · rw [if_neg c1, if_pos c2] at k; exact k
  · rw [if_pos c1] at k; exact k
end
theorem CIv.ld {h : ah_T} {X nv : Nat} {so fo at_ to gt ye bu ex we kn : Nat → Int32} (x : CIv h X nv so fo at_ to gt ye bu ex we kn) {k : Nat} (hk : k < nv) : ah_kd h (ah_R h (X + 4) k) = 12 ↔ (so k).toInt = 0 := by
  obtain ⟨-, -, -, -, p5⟩ := (x.2.1 k (by have := x.1; omega)).1 hk
  rcases p5 with ⟨a1, a2, -⟩ | ⟨a1, a2, -⟩ | ⟨a1, a2, -⟩ | ⟨a1, a2, -⟩ <;> rw [a1, a2] <;> decide
theorem CIv.ks {h : ah_T} {X nv : Nat} {so fo at_ to gt ye bu ex we kn : Nat → Int32} (x : CIv h X nv so fo at_ to gt ye bu ex we kn) {k : Nat} (hk : k < nv) : ma_ks h (ah_R h (X + 4) k) [11, 12, 13, 14] := by
  obtain ⟨-, -, -, -, p5⟩ := (x.2.1 k (by have := x.1; omega)).1 hk
  rcases p5 with ⟨a1, a2, -⟩ | ⟨a1, a2, -⟩ | ⟨a1, a2, -⟩ | ⟨a1, a2, -⟩ <;> exact ma_ks_of a2 (by decide)
def wy_grading (S : MS) (x1 x2 x3 x4 : Int32) : Int32 := if (0 ≤ x1.toInt ∧ x1.toInt ≤ ((nV) S : Int) - 1) ∧ (S.1 9 x1.toNatClampNeg).toInt = 0 ∧ (0 ≤ x2.toInt ∧ x2.toInt ≤ 5) ∧ (0 ≤ x3.toInt ∧ x3.toInt ≤ 5) then (if (0 ≤ x4.toInt ∧ x4.toInt ≤ 519) then (if nG S = 100 then 7 else if (S.1 0 9).toInt ≤ x4.toInt then 0 else 12) else 5) else 2
def sg_grading (S : MS) (x1 x2 x3 x4 : Int32) : MS := uI (uI (uI (uI (uI (uI (uI S 0 0 0) 19 (nG S) x1) 20 (nG S) x2) 21 (nG S) x3) 22 (nG S) x4) 0 8 (S.1 0 8 + 1)) 0 9 x4
theorem wf_grading {S : MS} {x1 x2 x3 x4 : Int32} (W : WF S) (w : wy_grading S x1 x2 x3 x4 = 0) : WF (sg_grading S x1 x2 x3 x4) := by
  have hw : (inR x1 0 ((nV S : Int) - 1) ∧ (S.1 9 x1.toNatClampNeg).toInt = 0 ∧ inR x2 0 5 ∧ inR x3 0 5) ∧ inR x4 0 519 ∧ nG S ≠ 100 := by
    unfold wy_grading at w
    repeat' split at w
    all_goals first | exact absurd w (by decide) | exact ⟨by assumption, by assumption, by assumption⟩
  obtain ⟨a1, a2, a3, a4, a5, a6, a7⟩ := W
  have hb := a5.1
  have ho : S.1 0 8 + 1 = nI (nG S + 1) := by rw [a1.2.2.2.1, nI_1]
  have hn : nG (sg_grading S x1 x2 x3 x4) = nG S + 1 := by
    show (S.1 0 8 + 1).toNatClampNeg = _
    rw [ho, nI_clamp (by omega)]
  obtain ⟨b1, b2, b3, b4, b5, b6, b7, b8, b9, b10, b11⟩ := a1
  refine ⟨⟨b1, b2, b3, ?_, b5, b6, b7, b8, b9, hw.2.1, b11⟩, a2, a3, a4, ?_, a6, a7⟩
  · rw [hn]; exact ho
  · rw [hn]
    refine ⟨by omega, fun o h0 => ?_⟩
    show inR (if o = nG S then x1 else S.1 19 o) 0 ((nV S : Int) - 1) ∧ S.1 9 (if o = nG S then x1 else S.1 19 o).toNatClampNeg = 0 ∧ inR (if o = nG S then x2 else S.1 20 o) _ _ ∧ inR (if o = nG S then x3 else S.1 21 o) _ _ ∧ inR (if o = nG S then x4 else S.1 22 o) _ _
    rcases Nat.decEq o (nG S) with c | c
    · simp only [if_neg c]; exact a5.2 o (by omega)
    · simp only [if_pos c]; exact ⟨hw.1.1, i3_eq.mpr hw.1.2.1, hw.1.2.2.1, hw.1.2.2.2, hw.2.1⟩
theorem c_grading {G : ma_G} {d X : Nat} {h : ah_T} {S : MS} {Q : Option ma_V → ah_T → Prop} {E : Nat → ah_T → Prop} {x1 x2 x3 x4 : Int32} (L : LY0 h X) (C : CI0 h X S) (RM : X + 1576 ≤ ah_sz h ∧ 4000 ≤ ah_rc h ∧ 40000 ≤ ah_rs h) (Kf : wy_grading S x1 x2 x3 x4 ≠ 0 → ∀ h1, cpo X h h1 (uI S 0 0 (wy_grading S x1 x2 x3 x4)) → Q (some (iv 0)) h1) (Kg : wy_grading S x1 x2 x3 x4 = 0 → ∀ h1, cpo X h h1 (sg_grading S x1 x2 x3 x4) → Q (some (iv 1)) h1) : MX G mi_X0_grading (d + 1) 0 [some (rv X), some (iv x1), some (iv x2), some (iv x3), some (iv x4)] [] h Q E := by
  have bV := C.iV.2
  have fV : (ah_I h X 16).toInt = (nV S : Int) := by rw [C.iV.1]; exact nI_x (by omega)
  have bG := C.iG.2
  have fG : (ah_I h X 17).toInt = (nG S : Int) := by rw [C.iG.1]; exact nI_x (by omega)
  have fx9 : ah_I h X 19 = S.1 0 9 := C.1.2 0 19 9 (by decide)
  refine v_X0_grading L ?_
  refine ⟨fun c1 => ?_, fun c1 => ?_⟩
  · skip
    intro h2 eh2 Xh2
    have w_ : wy_grading S x1 x2 x3 x4 = (2 : Int32) := by
      unfold wy_grading
      simp only [i3_lt, i3_le, i6_lt, i6_le, i3_eq, i3_l, Int32.reduceToInt, Int64.reduceToInt, tm_1, tl_1, fV, fG, fx9] at c1
      repeat' split
      all_goals first | rfl | (exfalso; omega)
    subst eh2
    exact Kf (by rw [w_]; decide) _ (by rw [w_]; exact cpo.st L C Xh2)
  · skip
    refine ⟨fun c2 => ?_, fun c2 => ?_⟩
    · skip
      intro h4 eh4 Xh4
      have w_ : wy_grading S x1 x2 x3 x4 = (2 : Int32) := by
        unfold wy_grading
        simp only [i3_lt, i3_le, i6_lt, i6_le, i3_eq, i3_l, Int32.reduceToInt, Int64.reduceToInt, tm_1, tl_1, fV, fG, fx9] at c1 c2
        repeat' split
        all_goals first | rfl | (exfalso; omega)
      subst eh4
      exact Kf (by rw [w_]; decide) _ (by rw [w_]; exact cpo.st L C Xh4)
    · skip
      refine ⟨?_, ?_⟩
      · exact vp_x (by simp only [i3_lt, i3_le, i6_lt, i6_le, i3_eq, i3_l, Int32.reduceToInt, Int64.reduceToInt, tm_1, tl_1, fV, fG, fx9] at c1 c2 ⊢; omega) (by simp only [i3_lt, i3_le, i6_lt, i6_le, i3_eq, i3_l, Int32.reduceToInt, Int64.reduceToInt, tm_1, tl_1, fV, fG, fx9] at c1 c2 ⊢; omega)
      refine ⟨?_, ?_⟩
      · exact C.2.2.2.1.ks (cl_lt (by simp only [i3_lt, i3_le, i6_lt, i6_le, i3_eq, i3_l, Int32.reduceToInt, Int64.reduceToInt, tm_1, tl_1, fV] at c1 c2; omega) (by simp only [i3_lt, i3_le, i6_lt, i6_le, i3_eq, i3_l, Int32.reduceToInt, Int64.reduceToInt, tm_1, tl_1, fV] at c1 c2; omega))
      refine ⟨fun c3 => ?_, fun c3 => ?_⟩
      · skip
        refine ⟨fun c4 => ?_, fun c4 => ?_⟩
        · skip
          intro h9 eh9 Xh9
          rw [C.2.2.2.1.ld (cl_lt (by simp only [i3_lt, i3_le, i6_lt, i6_le, i3_eq, i3_l, Int32.reduceToInt, Int64.reduceToInt, tm_1, tl_1, fV] at c1 c2; omega) (by simp only [i3_lt, i3_le, i6_lt, i6_le, i3_eq, i3_l, Int32.reduceToInt, Int64.reduceToInt, tm_1, tl_1, fV] at c1 c2; omega))] at c3
          have w_ : wy_grading S x1 x2 x3 x4 = (2 : Int32) := by
            unfold wy_grading
            simp only [i3_lt, i3_le, i6_lt, i6_le, i3_eq, i3_l, Int32.reduceToInt, Int64.reduceToInt, tm_1, tl_1, fV, fG, fx9] at c1 c2 c3 c4
            repeat' split
            all_goals first | rfl | (exfalso; omega)
          subst eh9
          exact Kf (by rw [w_]; decide) _ (by rw [w_]; exact cpo.st L C Xh9)
        · skip
          refine ⟨fun c5 => ?_, fun c5 => ?_⟩
          · skip
            intro h11 eh11 Xh11
            rw [C.2.2.2.1.ld (cl_lt (by simp only [i3_lt, i3_le, i6_lt, i6_le, i3_eq, i3_l, Int32.reduceToInt, Int64.reduceToInt, tm_1, tl_1, fV] at c1 c2; omega) (by simp only [i3_lt, i3_le, i6_lt, i6_le, i3_eq, i3_l, Int32.reduceToInt, Int64.reduceToInt, tm_1, tl_1, fV] at c1 c2; omega))] at c3
            have w_ : wy_grading S x1 x2 x3 x4 = (2 : Int32) := by
              unfold wy_grading
              simp only [i3_lt, i3_le, i6_lt, i6_le, i3_eq, i3_l, Int32.reduceToInt, Int64.reduceToInt, tm_1, tl_1, fV, fG, fx9] at c1 c2 c3 c4 c5
              repeat' split
              all_goals first | rfl | (exfalso; omega)
            subst eh11
            exact Kf (by rw [w_]; decide) _ (by rw [w_]; exact cpo.st L C Xh11)
          · skip
            refine ⟨fun c6 => ?_, fun c6 => ?_⟩
            · skip
              intro h13 eh13 Xh13
              rw [C.2.2.2.1.ld (cl_lt (by simp only [i3_lt, i3_le, i6_lt, i6_le, i3_eq, i3_l, Int32.reduceToInt, Int64.reduceToInt, tm_1, tl_1, fV] at c1 c2; omega) (by simp only [i3_lt, i3_le, i6_lt, i6_le, i3_eq, i3_l, Int32.reduceToInt, Int64.reduceToInt, tm_1, tl_1, fV] at c1 c2; omega))] at c3
              have w_ : wy_grading S x1 x2 x3 x4 = (2 : Int32) := by
                unfold wy_grading
                simp only [i3_lt, i3_le, i6_lt, i6_le, i3_eq, i3_l, Int32.reduceToInt, Int64.reduceToInt, tm_1, tl_1, fV, fG, fx9] at c1 c2 c3 c4 c5 c6
                repeat' split
                all_goals first | rfl | (exfalso; omega)
              subst eh13
              exact Kf (by rw [w_]; decide) _ (by rw [w_]; exact cpo.st L C Xh13)
            · skip
              refine ⟨fun c7 => ?_, fun c7 => ?_⟩
              · skip
                intro h15 eh15 Xh15
                rw [C.2.2.2.1.ld (cl_lt (by simp only [i3_lt, i3_le, i6_lt, i6_le, i3_eq, i3_l, Int32.reduceToInt, Int64.reduceToInt, tm_1, tl_1, fV] at c1 c2; omega) (by simp only [i3_lt, i3_le, i6_lt, i6_le, i3_eq, i3_l, Int32.reduceToInt, Int64.reduceToInt, tm_1, tl_1, fV] at c1 c2; omega))] at c3
                have w_ : wy_grading S x1 x2 x3 x4 = (2 : Int32) := by
                  unfold wy_grading
                  simp only [i3_lt, i3_le, i6_lt, i6_le, i3_eq, i3_l, Int32.reduceToInt, Int64.reduceToInt, tm_1, tl_1, fV, fG, fx9] at c1 c2 c3 c4 c5 c6 c7
                  repeat' split
                  all_goals first | rfl | (exfalso; omega)
                subst eh15
                exact Kf (by rw [w_]; decide) _ (by rw [w_]; exact cpo.st L C Xh15)
              · skip
                refine ⟨fun c8 => ?_, fun c8 => ?_⟩
                · skip
                  intro h17 eh17 Xh17
                  rw [C.2.2.2.1.ld (cl_lt (by simp only [i3_lt, i3_le, i6_lt, i6_le, i3_eq, i3_l, Int32.reduceToInt, Int64.reduceToInt, tm_1, tl_1, fV] at c1 c2; omega) (by simp only [i3_lt, i3_le, i6_lt, i6_le, i3_eq, i3_l, Int32.reduceToInt, Int64.reduceToInt, tm_1, tl_1, fV] at c1 c2; omega))] at c3
                  have w_ : wy_grading S x1 x2 x3 x4 = (5 : Int32) := by
                    unfold wy_grading
                    simp only [i3_lt, i3_le, i6_lt, i6_le, i3_eq, i3_l, Int32.reduceToInt, Int64.reduceToInt, tm_1, tl_1, fV, fG, fx9] at c1 c2 c3 c4 c5 c6 c7 c8
                    repeat' split
                    all_goals first | rfl | (exfalso; omega)
                  subst eh17
                  exact Kf (by rw [w_]; decide) _ (by rw [w_]; exact cpo.st L C Xh17)
                · skip
                  refine ⟨fun c9 => ?_, fun c9 => ?_⟩
                  · skip
                    intro h19 eh19 Xh19
                    rw [C.2.2.2.1.ld (cl_lt (by simp only [i3_lt, i3_le, i6_lt, i6_le, i3_eq, i3_l, Int32.reduceToInt, Int64.reduceToInt, tm_1, tl_1, fV] at c1 c2; omega) (by simp only [i3_lt, i3_le, i6_lt, i6_le, i3_eq, i3_l, Int32.reduceToInt, Int64.reduceToInt, tm_1, tl_1, fV] at c1 c2; omega))] at c3
                    have w_ : wy_grading S x1 x2 x3 x4 = (5 : Int32) := by
                      unfold wy_grading
                      simp only [i3_lt, i3_le, i6_lt, i6_le, i3_eq, i3_l, Int32.reduceToInt, Int64.reduceToInt, tm_1, tl_1, fV, fG, fx9] at c1 c2 c3 c4 c5 c6 c7 c8 c9
                      repeat' split
                      all_goals first | rfl | (exfalso; omega)
                    subst eh19
                    exact Kf (by rw [w_]; decide) _ (by rw [w_]; exact cpo.st L C Xh19)
                  · skip
                    refine ⟨fun c10 => ?_, fun c10 => ?_⟩
                    · skip
                      refine ⟨fun c11 => ?_, fun c11 => ?_⟩
                      · skip
                        intro h22 eh22 Xh22
                        refine ⟨?_, ?_⟩
                        · exact vp_x (by simp only [i3_lt, i3_le, i6_lt, i6_le, i3_eq, i3_l, Int32.reduceToInt, Int64.reduceToInt, tm_1, tl_1, fV, fG, fx9] at c1 c2 c3 c4 c5 c6 c7 c8 c9 c10 c11 ⊢; omega) (by simp only [i3_lt, i3_le, i6_lt, i6_le, i3_eq, i3_l, Int32.reduceToInt, Int64.reduceToInt, tm_1, tl_1, fV, fG, fx9] at c1 c2 c3 c4 c5 c6 c7 c8 c9 c10 c11 ⊢; omega)
                        intro h24 eh24 Xh24
                        intro h25 eh25 Xh25
                        intro h26 eh26 Xh26
                        intro h27 eh27 Xh27
                        intro h28 eh28 Xh28
                        intro h29 eh29 Xh29
                        rw [C.2.2.2.1.ld (cl_lt (by simp only [i3_lt, i3_le, i6_lt, i6_le, i3_eq, i3_l, Int32.reduceToInt, Int64.reduceToInt, tm_1, tl_1, fV] at c1 c2; omega) (by simp only [i3_lt, i3_le, i6_lt, i6_le, i3_eq, i3_l, Int32.reduceToInt, Int64.reduceToInt, tm_1, tl_1, fV] at c1 c2; omega))] at c3
                        have w_ : wy_grading S x1 x2 x3 x4 = (0 : Int32) := by
                          unfold wy_grading
                          simp only [i3_lt, i3_le, i6_lt, i6_le, i3_eq, i3_l, Int32.reduceToInt, Int64.reduceToInt, tm_1, tl_1, fV, fG, fx9] at c1 c2 c3 c4 c5 c6 c7 c8 c9 c10 c11
                          repeat' split
                          all_goals first | rfl | (exfalso; omega)
                        subst eh22
                        subst eh24
                        subst eh25
                        subst eh26
                        subst eh27
                        subst eh28
                        subst eh29
                        have cz : ah_I h X 17 = S.1 0 8 := C.1.2 0 17 8 (by decide)
                        have en : (S.1 0 8).toNatClampNeg = nG S := rfl
                        simp only [cz, en] at Xh22 Xh24 Xh25 Xh26 Xh27 Xh28 Xh29 ⊢
                        have e_ := ((((((C.1.pX (v := x4) 19 9 (by decide)).pA (k := nG S) (v := x1) 5 19 (by decide)).pA (k := nG S) (v := x2) 6 20 (by decide)).pA (k := nG S) (v := x3) 7 21 (by decide)).pA (k := nG S) (v := x4) 8 22 (by decide)).pX (v := S.1 0 8 + 1) 17 8 (by decide)).pX (v := 0) 20 0 (by decide)
                        rw [uI_cm (a := 0) (k := 8) (b := 0) (j := 0) (Or.inr (by decide)), uI_cm (a := 22) (b := 0) (j := 0) (Or.inl (by decide)), uI_cm (a := 21) (b := 0) (j := 0) (Or.inl (by decide)), uI_cm (a := 20) (b := 0) (j := 0) (Or.inl (by decide)), uI_cm (a := 19) (b := 0) (j := 0) (Or.inl (by decide)), uI_cm (a := 0) (k := 9) (b := 0) (j := 0) (Or.inr (by decide)), uI_cm (a := 0) (k := 9) (b := 19) (Or.inl (by decide)), uI_cm (a := 0) (k := 9) (b := 20) (Or.inl (by decide)), uI_cm (a := 0) (k := 9) (b := 21) (Or.inl (by decide)), uI_cm (a := 0) (k := 9) (b := 22) (Or.inl (by decide)), uI_cm (a := 0) (k := 9) (b := 0) (j := 8) (Or.inr (by decide))] at e_
                        exact Kg w_ _ (cpo.mk L C ((((dyn.rf.zI.wI (by decide)).wI (by decide)).wI (by decide)).wI (by decide)).zI.zI ((((cfr.rf.zI.wI (by omega)).wI (by omega)).wI (by omega)).wI (by omega)).zI.zI ((((((Xh22.tr Xh24).tr Xh25).tr Xh26).tr Xh27).tr Xh28).tr Xh29) rfl e_ (wf_grading C.2.2.2.2.2 w_) ⟨⟨rfl, rfl, rfl, rfl, rfl, rfl, rfl, rfl⟩, ⟨rfl, rfl⟩, ⟨rfl, rfl, rfl, rfl, rfl, rfl, rfl, rfl, rfl, rfl, rfl⟩, rfl, rfl, rfl⟩)
                      · skip
                        intro h30 eh30 Xh30
                        rw [C.2.2.2.1.ld (cl_lt (by simp only [i3_lt, i3_le, i6_lt, i6_le, i3_eq, i3_l, Int32.reduceToInt, Int64.reduceToInt, tm_1, tl_1, fV] at c1 c2; omega) (by simp only [i3_lt, i3_le, i6_lt, i6_le, i3_eq, i3_l, Int32.reduceToInt, Int64.reduceToInt, tm_1, tl_1, fV] at c1 c2; omega))] at c3
                        have w_ : wy_grading S x1 x2 x3 x4 = (12 : Int32) := by
                          unfold wy_grading
                          simp only [i3_lt, i3_le, i6_lt, i6_le, i3_eq, i3_l, Int32.reduceToInt, Int64.reduceToInt, tm_1, tl_1, fV, fG, fx9] at c1 c2 c3 c4 c5 c6 c7 c8 c9 c10 c11
                          repeat' split
                          all_goals first | rfl | (exfalso; omega)
                        subst eh30
                        exact Kf (by rw [w_]; decide) _ (by rw [w_]; exact cpo.st L C Xh30)
                    · skip
                      intro h31 eh31 Xh31
                      rw [C.2.2.2.1.ld (cl_lt (by simp only [i3_lt, i3_le, i6_lt, i6_le, i3_eq, i3_l, Int32.reduceToInt, Int64.reduceToInt, tm_1, tl_1, fV] at c1 c2; omega) (by simp only [i3_lt, i3_le, i6_lt, i6_le, i3_eq, i3_l, Int32.reduceToInt, Int64.reduceToInt, tm_1, tl_1, fV] at c1 c2; omega))] at c3
                      have w_ : wy_grading S x1 x2 x3 x4 = (7 : Int32) := by
                        unfold wy_grading
                        simp only [i3_lt, i3_le, i6_lt, i6_le, i3_eq, i3_l, Int32.reduceToInt, Int64.reduceToInt, tm_1, tl_1, fV, fG, fx9] at c1 c2 c3 c4 c5 c6 c7 c8 c9 c10
                        repeat' split
                        all_goals first | rfl | (exfalso; omega)
                      subst eh31
                      exact Kf (by rw [w_]; decide) _ (by rw [w_]; exact cpo.st L C Xh31)
      · skip
        intro h32 eh32 Xh32
        rw [C.2.2.2.1.ld (cl_lt (by simp only [i3_lt, i3_le, i6_lt, i6_le, i3_eq, i3_l, Int32.reduceToInt, Int64.reduceToInt, tm_1, tl_1, fV] at c1 c2; omega) (by simp only [i3_lt, i3_le, i6_lt, i6_le, i3_eq, i3_l, Int32.reduceToInt, Int64.reduceToInt, tm_1, tl_1, fV] at c1 c2; omega))] at c3
        have w_ : wy_grading S x1 x2 x3 x4 = (2 : Int32) := by
          unfold wy_grading
          simp only [i3_lt, i3_le, i6_lt, i6_le, i3_eq, i3_l, Int32.reduceToInt, Int64.reduceToInt, tm_1, tl_1, fV, fG, fx9] at c1 c2 c3
          repeat' split
          all_goals first | rfl | (exfalso; omega)
        subst eh32
        exact Kf (by rw [w_]; decide) _ (by rw [w_]; exact cpo.st L C Xh32)
theorem m_grading {G : ma_G} {d M : Nat} {h : ah_T} {S : MS} {Q : Option ma_V → ah_T → Prop} {E : Nat → ah_T → Prop} {x1 x2 x3 x4 : Int32} (L : LY8 h M) (eS : mv h M = S) (W : WF S) (B : WB S) (Kf : wy_grading S x1 x2 x3 x4 ≠ 0 → ∀ h1, mpo M h h1 (uI S 0 0 (wy_grading S x1 x2 x3 x4)) → Q (some (iv 0)) h1) (Kg : wy_grading S x1 x2 x3 x4 = 0 → ∀ h1, mpo M h h1 (sg_grading S x1 x2 x3 x4) → Q (some (iv 1)) h1) : MX G mi_X8_grading (d + 2) 0 [some (rv M), some (iv x1), some (iv x2), some (iv x3), some (iv x4)] [] h Q E := by
  have qV := mk_V eS W
  have bV := mb_V W B
  have fV : (ah_I h M 7).toInt = (nV S : Int) := by rw [qV]; exact nI_x (by omega)
  have gV : (ah_I h M 7 - 1).toInt = (nV S : Int) - 1 := by rw [qV]; exact nI_m1 (by omega)
  have qG := mk_G eS W
  have bG := mb_G W B
  have fG : (ah_I h M 8).toInt = (nG S : Int) := by rw [qG]; exact nI_x (by omega)
  have gG : (ah_I h M 8 - 1).toInt = (nG S : Int) - 1 := by rw [qG]; exact nI_m1 (by omega)
  have fx9 : ah_I h M 9 = S.1 0 9 := mk_z0 eS 9
  refine v_X8_grading L ?_
  intro h1 eh1 Xh1
  intro h2 eh2 Xh2
  refine ⟨fun c1 => ?_, fun c1 => ?_⟩
  · skip
    intro h4 eh4 Xh4
    have w_ : wy_grading S x1 x2 x3 x4 = (2 : Int32) := by
      unfold wy_grading
      simp only [i3_lt, i3_le, i6_lt, i6_le, i3_eq, i3_l, Int32.reduceToInt, Int64.reduceToInt, tm_1, tl_1, fV, gV, fG, gG, fx9] at c1
      repeat' split
      all_goals first | rfl | (exfalso; omega)
    subst eh1
    subst eh2
    subst eh4
    exact Kf (by rw [w_]; decide) _ (by rw [w_]; exact mpo.st eS)
  · skip
    refine ⟨fun c2 => ?_, fun c2 => ?_⟩
    · skip
      intro h6 eh6 Xh6
      have w_ : wy_grading S x1 x2 x3 x4 = (2 : Int32) := by
        unfold wy_grading
        simp only [i3_lt, i3_le, i6_lt, i6_le, i3_eq, i3_l, Int32.reduceToInt, Int64.reduceToInt, tm_1, tl_1, fV, gV, fG, gG, fx9] at c1 c2
        repeat' split
        all_goals first | rfl | (exfalso; omega)
      subst eh1
      subst eh2
      subst eh6
      exact Kf (by rw [w_]; decide) _ (by rw [w_]; exact mpo.st eS)
    · skip
      refine ⟨?_, ?_⟩
      · exact vp_x (by simp only [i3_lt, i3_le, i6_lt, i6_le, i3_eq, i3_l, Int32.reduceToInt, Int64.reduceToInt, tm_1, tl_1, fV, gV, fG, gG, fx9] at c1 c2 ⊢; omega) (by simp only [i3_lt, i3_le, i6_lt, i6_le, i3_eq, i3_l, Int32.reduceToInt, Int64.reduceToInt, tm_1, tl_1, fV, gV, fG, gG, fx9] at c1 c2 ⊢; omega)
      refine ⟨fun c3 => ?_, fun c3 => ?_⟩
      · skip
        intro h9 eh9 Xh9
        rw [mk_r eS] at c3
        have w_ : wy_grading S x1 x2 x3 x4 = (2 : Int32) := by
          unfold wy_grading
          simp only [i3_lt, i3_le, i6_lt, i6_le, i3_eq, i3_l, Int32.reduceToInt, Int64.reduceToInt, tm_1, tl_1, fV, gV, fG, gG, fx9] at c1 c2 c3
          repeat' split
          all_goals first | rfl | (exfalso; omega)
        subst eh1
        subst eh2
        subst eh9
        exact Kf (by rw [w_]; decide) _ (by rw [w_]; exact mpo.st eS)
      · skip
        refine ⟨fun c4 => ?_, fun c4 => ?_⟩
        · skip
          intro h11 eh11 Xh11
          rw [mk_r eS] at c3
          have w_ : wy_grading S x1 x2 x3 x4 = (2 : Int32) := by
            unfold wy_grading
            simp only [i3_lt, i3_le, i6_lt, i6_le, i3_eq, i3_l, Int32.reduceToInt, Int64.reduceToInt, tm_1, tl_1, fV, gV, fG, gG, fx9] at c1 c2 c3 c4
            repeat' split
            all_goals first | rfl | (exfalso; omega)
          subst eh1
          subst eh2
          subst eh11
          exact Kf (by rw [w_]; decide) _ (by rw [w_]; exact mpo.st eS)
        · skip
          refine ⟨fun c5 => ?_, fun c5 => ?_⟩
          · skip
            intro h13 eh13 Xh13
            rw [mk_r eS] at c3
            have w_ : wy_grading S x1 x2 x3 x4 = (2 : Int32) := by
              unfold wy_grading
              simp only [i3_lt, i3_le, i6_lt, i6_le, i3_eq, i3_l, Int32.reduceToInt, Int64.reduceToInt, tm_1, tl_1, fV, gV, fG, gG, fx9] at c1 c2 c3 c4 c5
              repeat' split
              all_goals first | rfl | (exfalso; omega)
            subst eh1
            subst eh2
            subst eh13
            exact Kf (by rw [w_]; decide) _ (by rw [w_]; exact mpo.st eS)
          · skip
            refine ⟨fun c6 => ?_, fun c6 => ?_⟩
            · skip
              intro h15 eh15 Xh15
              rw [mk_r eS] at c3
              have w_ : wy_grading S x1 x2 x3 x4 = (2 : Int32) := by
                unfold wy_grading
                simp only [i3_lt, i3_le, i6_lt, i6_le, i3_eq, i3_l, Int32.reduceToInt, Int64.reduceToInt, tm_1, tl_1, fV, gV, fG, gG, fx9] at c1 c2 c3 c4 c5 c6
                repeat' split
                all_goals first | rfl | (exfalso; omega)
              subst eh1
              subst eh2
              subst eh15
              exact Kf (by rw [w_]; decide) _ (by rw [w_]; exact mpo.st eS)
            · skip
              refine ⟨fun c7 => ?_, fun c7 => ?_⟩
              · skip
                intro h17 eh17 Xh17
                rw [mk_r eS] at c3
                have w_ : wy_grading S x1 x2 x3 x4 = (2 : Int32) := by
                  unfold wy_grading
                  simp only [i3_lt, i3_le, i6_lt, i6_le, i3_eq, i3_l, Int32.reduceToInt, Int64.reduceToInt, tm_1, tl_1, fV, gV, fG, gG, fx9] at c1 c2 c3 c4 c5 c6 c7
                  repeat' split
                  all_goals first | rfl | (exfalso; omega)
                subst eh1
                subst eh2
                subst eh17
                exact Kf (by rw [w_]; decide) _ (by rw [w_]; exact mpo.st eS)
              · skip
                refine ⟨fun c8 => ?_, fun c8 => ?_⟩
                · skip
                  intro h19 eh19 Xh19
                  rw [mk_r eS] at c3
                  have w_ : wy_grading S x1 x2 x3 x4 = (5 : Int32) := by
                    unfold wy_grading
                    simp only [i3_lt, i3_le, i6_lt, i6_le, i3_eq, i3_l, Int32.reduceToInt, Int64.reduceToInt, tm_1, tl_1, fV, gV, fG, gG, fx9] at c1 c2 c3 c4 c5 c6 c7 c8
                    repeat' split
                    all_goals first | rfl | (exfalso; omega)
                  subst eh1
                  subst eh2
                  subst eh19
                  exact Kf (by rw [w_]; decide) _ (by rw [w_]; exact mpo.st eS)
                · skip
                  refine ⟨fun c9 => ?_, fun c9 => ?_⟩
                  · skip
                    intro h21 eh21 Xh21
                    rw [mk_r eS] at c3
                    have w_ : wy_grading S x1 x2 x3 x4 = (5 : Int32) := by
                      unfold wy_grading
                      simp only [i3_lt, i3_le, i6_lt, i6_le, i3_eq, i3_l, Int32.reduceToInt, Int64.reduceToInt, tm_1, tl_1, fV, gV, fG, gG, fx9] at c1 c2 c3 c4 c5 c6 c7 c8 c9
                      repeat' split
                      all_goals first | rfl | (exfalso; omega)
                    subst eh1
                    subst eh2
                    subst eh21
                    exact Kf (by rw [w_]; decide) _ (by rw [w_]; exact mpo.st eS)
                  · skip
                    refine ⟨fun c10 => ?_, fun c10 => ?_⟩
                    · skip
                      refine ⟨fun c11 => ?_, fun c11 => ?_⟩
                      · skip
                        refine ⟨?_, ?_⟩
                        · exact vp_x (by simp only [i3_lt, i3_le, i6_lt, i6_le, i3_eq, i3_l, Int32.reduceToInt, Int64.reduceToInt, tm_1, tl_1, fV, gV, fG, gG, fx9] at c1 c2 c3 c4 c5 c6 c7 c8 c9 c10 c11 ⊢; omega) (by simp only [i3_lt, i3_le, i6_lt, i6_le, i3_eq, i3_l, Int32.reduceToInt, Int64.reduceToInt, tm_1, tl_1, fV, gV, fG, gG, fx9] at c1 c2 c3 c4 c5 c6 c7 c8 c9 c10 c11 ⊢; omega)
                        intro h25 eh25 Xh25
                        intro h26 eh26 Xh26
                        intro h27 eh27 Xh27
                        intro h28 eh28 Xh28
                        intro h29 eh29 Xh29
                        intro h30 eh30 Xh30
                        rw [mk_r eS] at c3
                        have w_ : wy_grading S x1 x2 x3 x4 = (0 : Int32) := by
                          unfold wy_grading
                          simp only [i3_lt, i3_le, i6_lt, i6_le, i3_eq, i3_l, Int32.reduceToInt, Int64.reduceToInt, tm_1, tl_1, fV, gV, fG, gG, fx9] at c1 c2 c3 c4 c5 c6 c7 c8 c9 c10 c11
                          repeat' split
                          all_goals first | rfl | (exfalso; omega)
                        subst eh1
                        subst eh2
                        subst eh25
                        subst eh26
                        subst eh27
                        subst eh28
                        subst eh29
                        subst eh30
                        have en : (S.1 0 8).toNatClampNeg = nG S := rfl
                        simp only [mk_z0 eS 8, en]
                        exact Kg w_ _ (mpo.mk (A := [19, 20, 21, 22]) (Z := [0, 1, 8, 9]) (by decide) ((((((((mch.rf.zI (by decide)).zI (by decide)).wI (by decide)).wI (by decide)).wI (by decide)).wI (by decide)).zI (by decide)).zI (by decide)) (by rw [mv_zI, mv_zI, mv_wI, mv_wI, mv_wI, mv_wI, mv_zI, mv_zI, eS]; exact ((((((((kept.rf.sI (by decide) (by decide)).cI).cI).cI).cI).cI).cI).cI)))
                      · skip
                        intro h31 eh31 Xh31
                        rw [mk_r eS] at c3
                        have w_ : wy_grading S x1 x2 x3 x4 = (12 : Int32) := by
                          unfold wy_grading
                          simp only [i3_lt, i3_le, i6_lt, i6_le, i3_eq, i3_l, Int32.reduceToInt, Int64.reduceToInt, tm_1, tl_1, fV, gV, fG, gG, fx9] at c1 c2 c3 c4 c5 c6 c7 c8 c9 c10 c11
                          repeat' split
                          all_goals first | rfl | (exfalso; omega)
                        subst eh1
                        subst eh2
                        subst eh31
                        exact Kf (by rw [w_]; decide) _ (by rw [w_]; exact mpo.st eS)
                    · skip
                      intro h32 eh32 Xh32
                      rw [mk_r eS] at c3
                      have w_ : wy_grading S x1 x2 x3 x4 = (7 : Int32) := by
                        unfold wy_grading
                        simp only [i3_lt, i3_le, i6_lt, i6_le, i3_eq, i3_l, Int32.reduceToInt, Int64.reduceToInt, tm_1, tl_1, fV, gV, fG, gG, fx9] at c1 c2 c3 c4 c5 c6 c7 c8 c9 c10
                        repeat' split
                        all_goals first | rfl | (exfalso; omega)
                      subst eh1
                      subst eh2
                      subst eh32
                      exact Kf (by rw [w_]; decide) _ (by rw [w_]; exact mpo.st eS)

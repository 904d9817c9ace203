/-! ===== let; the first calls of all ===== -/
theorem x_nI {x : Int32} {n : Nat} (h0 : 0 ≤ x.toInt) (h1 : x.toInt ≤ (n : Int)) : x = nI x.toNatClampNeg ∧ x.toNatClampNeg ≤ n := by
  obtain ⟨j, hj, e⟩ := i3_n h0 h1
  have hb := i3_b x
  have : x.toNatClampNeg = x.toInt.toNat := rfl
  refine ⟨?_, by omega⟩
  rw [i3_eq, nI_x (by omega)]
  omega
theorem ix_10 {x y : Int32} (h0 : 0 ≤ x.toInt) (h1 : x.toInt ≤ 19) (h2 : 0 ≤ y.toInt) (h3 : y.toInt ≤ 9) : (10 : Int32) * x + y = nI (10 * x.toNatClampNeg + y.toNatClampNeg) ∧ 10 * x.toNatClampNeg + y.toNatClampNeg < 200 := by
  obtain ⟨a1, a2⟩ := x_nI (n := 19) h0 h1
  obtain ⟨b1, b2⟩ := x_nI (n := 9) h2 h3
  refine ⟨?_, by omega⟩
  have e : (10 : Int32) * x + y = nI 10 * nI x.toNatClampNeg + nI y.toNatClampNeg := by rw [← a1, ← b1]; rfl
  rw [e, pk_mul, nI_add]
theorem nb_01 {x : Int32} (h : x = 0 ∨ x = 1) : vp_nar .boolean x = 0 ∨ vp_nar .boolean x = 1 := by
  rcases h with rfl | rfl
  · exact Or.inl (by decide)
  · exact Or.inr (by decide)
def wy_let (S : MS) (x1 x2 x3 : Int32) : Int32 := if (0 ≤ x1.toInt ∧ x1.toInt ≤ ((nF) S : Int) - 1) then (if (0 ≤ x2.toInt ∧ x2.toInt ≤ 9) then 0 else 5) else 2
def sg_let (S : MS) (x1 x2 x3 : Int32) : MS := uI (uI S 0 0 0) 61 (10 * x1.toNatClampNeg + x2.toNatClampNeg) (vp_nar .boolean x3)
theorem wf_let {S : MS} {x1 x2 x3 : Int32} (W : WF S) (w : wy_let S x1 x2 x3 = 0) (x3b : x3 = 0 ∨ x3 = 1) : WF (sg_let S x1 x2 x3) := by
  have hw : inR x1 0 ((nF S : Int) - 1) ∧ inR x2 0 9 := by
    unfold wy_let at w
    repeat' split at w
    all_goals first | exact absurd w (by decide) | exact ⟨by assumption, by assumption⟩
  have hf := cl_lt hw.1.1 hw.1.2
  obtain ⟨⟨b1, b2, b3, b4, b5, b6, b7, b8, b9, b10, b11, b12, b13⟩, a2, a3⟩ := W
  refine ⟨⟨b1, b2, b3, b4, b5, b6, b7, b8, b9, b10, b11, b12, fun f h1 h2 => ?_⟩, fun f h0 => ?_, a3⟩
  · have h1 : nF S ≤ f := h1
    have hne : f ≠ x1.toNatClampNeg := by omega
    have q := b13 f h1 h2
    exact ⟨q.1, q.2.1, q.2.2.1, fun y hy => (if_neg (by have hy2 := cl_lt (n := 10) hw.2.1 hw.2.2; omega)).trans (q.2.2.2 y hy)⟩
  obtain ⟨p1, p2, p3, p4, p5, p6⟩ := a2 f h0
  refine ⟨p1, p2, p3, p4, p5, fun y hy => ?_⟩
  show (if 10 * f + y = 10 * x1.toNatClampNeg + x2.toNatClampNeg then vp_nar .boolean x3 else S.1 61 (10 * f + y)) = 0 ∨ (if 10 * f + y = 10 * x1.toNatClampNeg + x2.toNatClampNeg then vp_nar .boolean x3 else S.1 61 (10 * f + y)) = 1
  split
  · exact nb_01 x3b
  · exact p6 y hy
theorem c_let {G : ma_G} {d X : Nat} {h : ah_T} {S : MS} {Q : Option ma_V → ah_T → Prop} {E : Nat → ah_T → Prop} {x1 x2 x3 : Int32} (L : LY0 h X) (C : CI0 h X S) (RM : X + 1576 ≤ ah_sz h ∧ 4000 ≤ ah_rc h ∧ 40000 ≤ ah_rs h) (x3b : x3 = 0 ∨ x3 = 1) (Kf : wy_let S x1 x2 x3 ≠ 0 → ∀ h1, cpo X h h1 (uI S 0 0 (wy_let S x1 x2 x3)) → Q (some (iv 0)) h1) (Kg : wy_let S x1 x2 x3 = 0 → ∀ h1, cpo X h h1 (sg_let S x1 x2 x3) → Q (some (iv 1)) h1) : MX G mi_X0_let (d + 1) 0 [some (rv X), some (iv x1), some (iv x2), some (iv x3)] [] h Q E := by
  have bF := C.iF.2
  have fF : (ah_I h X 14).toInt = (nF S : Int) := by rw [C.iF.1]; exact nI_x (by omega)
  refine v_X0_let L ?_
  refine ⟨fun c1 => ?_, fun c1 => ?_⟩
  · skip
    intro h2 eh2 Xh2
    have w_ : wy_let S x1 x2 x3 = (2 : Int32) := by
      unfold wy_let
      simp only [i3_lt, i3_le, i6_lt, i6_le, i3_eq, i3_l, Int32.reduceToInt, Int64.reduceToInt, tm_1, tl_1, fF] at c1
      repeat' split
      all_goals first | rfl | (exfalso; omega)
    subst eh2
    exact Kf (by rw [w_]; decide) _ (by rw [w_]; exact cpo.st L C Xh2)
  · skip
    refine ⟨fun c2 => ?_, fun c2 => ?_⟩
    · skip
      intro h4 eh4 Xh4
      have w_ : wy_let S x1 x2 x3 = (2 : Int32) := by
        unfold wy_let
        simp only [i3_lt, i3_le, i6_lt, i6_le, i3_eq, i3_l, Int32.reduceToInt, Int64.reduceToInt, tm_1, tl_1, fF] at c1 c2
        repeat' split
        all_goals first | rfl | (exfalso; omega)
      subst eh4
      exact Kf (by rw [w_]; decide) _ (by rw [w_]; exact cpo.st L C Xh4)
    · skip
      refine ⟨fun c3 => ?_, fun c3 => ?_⟩
      · skip
        intro h6 eh6 Xh6
        have w_ : wy_let S x1 x2 x3 = (5 : Int32) := by
          unfold wy_let
          simp only [i3_lt, i3_le, i6_lt, i6_le, i3_eq, i3_l, Int32.reduceToInt, Int64.reduceToInt, tm_1, tl_1, fF] at c1 c2 c3
          repeat' split
          all_goals first | rfl | (exfalso; omega)
        subst eh6
        exact Kf (by rw [w_]; decide) _ (by rw [w_]; exact cpo.st L C Xh6)
      · skip
        refine ⟨fun c4 => ?_, fun c4 => ?_⟩
        · skip
          intro h8 eh8 Xh8
          have w_ : wy_let S x1 x2 x3 = (5 : Int32) := by
            unfold wy_let
            simp only [i3_lt, i3_le, i6_lt, i6_le, i3_eq, i3_l, Int32.reduceToInt, Int64.reduceToInt, tm_1, tl_1, fF] at c1 c2 c3 c4
            repeat' split
            all_goals first | rfl | (exfalso; omega)
          subst eh8
          exact Kf (by rw [w_]; decide) _ (by rw [w_]; exact cpo.st L C Xh8)
        · skip
          refine ⟨?_, ?_⟩
          · exact vp_x (by simp only [i3_lt, i3_le, i6_lt, i6_le, i3_eq, i3_l, Int32.reduceToInt, Int64.reduceToInt, tm_1, tl_1, fF] at c1 c2 c3 c4 ⊢; omega) (by simp only [i3_lt, i3_le, i6_lt, i6_le, i3_eq, i3_l, Int32.reduceToInt, Int64.reduceToInt, tm_1, tl_1, fF] at c1 c2 c3 c4 ⊢; omega)
          refine ⟨?_, ?_⟩
          · exact (C.2.1.at_ (cl_lt (by simp only [i3_lt, i3_le, i6_lt, i6_le, i3_eq, i3_l, Int32.reduceToInt, Int64.reduceToInt, tm_1, tl_1, fF] at c1 c2; omega) (by simp only [i3_lt, i3_le, i6_lt, i6_le, i3_eq, i3_l, Int32.reduceToInt, Int64.reduceToInt, tm_1, tl_1, fF] at c1 c2; omega))).2.1
          refine ⟨?_, ?_⟩
          · have hf : x1.toNatClampNeg < nF S := cl_lt (by simp only [i3_lt, i3_le, i6_lt, i6_le, i3_eq, i3_l, Int32.reduceToInt, Int64.reduceToInt, tm_1, tl_1, fF] at c1 c2; omega) (by simp only [i3_lt, i3_le, i6_lt, i6_le, i3_eq, i3_l, Int32.reduceToInt, Int64.reduceToInt, tm_1, tl_1, fF] at c1 c2; omega)
            obtain ⟨f1, f2, f3, f4, f5⟩ := C.2.1.at_ hf
            rw [f3]; exact ⟨f4, by rw [f5]; exact vp_x (by simp only [i3_lt, i3_le, i6_lt, i6_le, i3_eq, i3_l, Int32.reduceToInt, Int64.reduceToInt, tm_1, tl_1] at c3 c4; omega) (by simp only [i3_lt, i3_le, i6_lt, i6_le, i3_eq, i3_l, Int32.reduceToInt, Int64.reduceToInt, tm_1, tl_1] at c3 c4 ⊢; omega)⟩
          intro h12 eh12 Xh12
          intro h13 eh13 Xh13
          have w_ : wy_let S x1 x2 x3 = (0 : Int32) := by
            unfold wy_let
            simp only [i3_lt, i3_le, i6_lt, i6_le, i3_eq, i3_l, Int32.reduceToInt, Int64.reduceToInt, tm_1, tl_1, fF] at c1 c2 c3 c4
            repeat' split
            all_goals first | rfl | (exfalso; omega)
          subst eh12
          subst eh13
          have hf : x1.toNatClampNeg < nF S := cl_lt (by simp only [i3_lt, i3_le, i6_lt, i6_le, i3_eq, i3_l, Int32.reduceToInt, Int64.reduceToInt, tm_1, tl_1, fF] at c1 c2; omega) (by simp only [i3_lt, i3_le, i6_lt, i6_le, i3_eq, i3_l, Int32.reduceToInt, Int64.reduceToInt, tm_1, tl_1, fF] at c1 c2; omega)
          obtain ⟨f1, f2, f3, f4, f5⟩ := C.2.1.at_ hf
          simp only [f3] at Xh12 Xh13 ⊢
          have hy : x2.toNatClampNeg < 10 := cl_lt (by simp only [i3_lt, i3_le, i6_lt, i6_le, i3_eq, i3_l, Int32.reduceToInt, Int64.reduceToInt, tm_1, tl_1] at c3 c4; omega) (by simp only [i3_lt, i3_le, i6_lt, i6_le, i3_eq, i3_l, Int32.reduceToInt, Int64.reduceToInt, tm_1, tl_1] at c3 c4; omega)
          have e_ := ((C.1.oI (k := x2.toNatClampNeg) (v := vp_nar .boolean x3) (a := ah_R h (X + 2) x1.toNatClampNeg + 1) (by omega)).pX (v := 0) 20 0 (by decide))
          have e2 := e_.cA (m := 61) (k := 10 * x1.toNatClampNeg + x2.toNatClampNeg) (v := vp_nar .boolean x3) (ctA_n rfl) (by decide)
          exact Kg w_ _ (cpo.mkF L C ((dyn.rf.oI (by rw [f4]; exact fun q => q.2 rfl)).zI) ((cfr.rf.wI (by omega)).zI) (Xh12.tr Xh13) rfl e2 ((C.2.1.wL hf hy (v := vp_nar .boolean x3)).dy (P := pT) (e := (X + 5, 0)) (L.ext Xh12) dyn.rf.zI (fun _ => ⟨trivial, trivial⟩) ⟨by show X + 5 < _; omega, by show X + 5 ≠ _; omega⟩) (wf_let C.2.2.2.2.2 w_ x3b) ⟨⟨rfl, rfl⟩, ⟨rfl, rfl, rfl, rfl, rfl, rfl, rfl, rfl, rfl, rfl, rfl⟩, rfl, rfl, rfl⟩)
theorem m_let {G : ma_G} {d M : Nat} {h : ah_T} {S : MS} {Q : Option ma_V → ah_T → Prop} {E : Nat → ah_T → Prop} {x1 x2 x3 : Int32} (L : LY8 h M) (eS : mv h M = S) (W : WF S) (B : WB S) (x3b : x3 = 0 ∨ x3 = 1) (Kf : wy_let S x1 x2 x3 ≠ 0 → ∀ h1, mpo M h h1 (uI S 0 0 (wy_let S x1 x2 x3)) → Q (some (iv 0)) h1) (Kg : wy_let S x1 x2 x3 = 0 → ∀ h1, mpo M h h1 (sg_let S x1 x2 x3) → Q (some (iv 1)) h1) : MX G mi_X8_let (d + 2) 0 [some (rv M), some (iv x1), some (iv x2), some (iv x3)] [] h Q E := by
  have qF := mk_F eS W
  have bF := mb_F W B
  have fF : (ah_I h M 5).toInt = (nF S : Int) := by rw [qF]; exact nI_x (by omega)
  have gF : (ah_I h M 5 - 1).toInt = (nF S : Int) - 1 := by rw [qF]; exact nI_m1 (by omega)
  refine v_X8_let L ?_
  intro h1 eh1 Xh1
  intro h2 eh2 Xh2
  refine ⟨fun c1 => ?_, fun c1 => ?_⟩
  · skip
    intro h4 eh4 Xh4
    have w_ : wy_let S x1 x2 x3 = (2 : Int32) := by
      unfold wy_let
      simp only [i3_lt, i3_le, i6_lt, i6_le, i3_eq, i3_l, Int32.reduceToInt, Int64.reduceToInt, tm_1, tl_1, fF, gF] at c1
      repeat' split
      all_goals first | rfl | (exfalso; omega)
    subst eh1
    subst eh2
    subst eh4
    exact Kf (by rw [w_]; decide) _ (by rw [w_]; exact mpo.st eS)
  · skip
    refine ⟨fun c2 => ?_, fun c2 => ?_⟩
    · skip
      intro h6 eh6 Xh6
      have w_ : wy_let S x1 x2 x3 = (2 : Int32) := by
        unfold wy_let
        simp only [i3_lt, i3_le, i6_lt, i6_le, i3_eq, i3_l, Int32.reduceToInt, Int64.reduceToInt, tm_1, tl_1, fF, gF] at c1 c2
        repeat' split
        all_goals first | rfl | (exfalso; omega)
      subst eh1
      subst eh2
      subst eh6
      exact Kf (by rw [w_]; decide) _ (by rw [w_]; exact mpo.st eS)
    · skip
      refine ⟨fun c3 => ?_, fun c3 => ?_⟩
      · skip
        intro h8 eh8 Xh8
        have w_ : wy_let S x1 x2 x3 = (5 : Int32) := by
          unfold wy_let
          simp only [i3_lt, i3_le, i6_lt, i6_le, i3_eq, i3_l, Int32.reduceToInt, Int64.reduceToInt, tm_1, tl_1, fF, gF] at c1 c2 c3
          repeat' split
          all_goals first | rfl | (exfalso; omega)
        subst eh1
        subst eh2
        subst eh8
        exact Kf (by rw [w_]; decide) _ (by rw [w_]; exact mpo.st eS)
      · skip
        refine ⟨fun c4 => ?_, fun c4 => ?_⟩
        · skip
          intro h10 eh10 Xh10
          have w_ : wy_let S x1 x2 x3 = (5 : Int32) := by
            unfold wy_let
            simp only [i3_lt, i3_le, i6_lt, i6_le, i3_eq, i3_l, Int32.reduceToInt, Int64.reduceToInt, tm_1, tl_1, fF, gF] at c1 c2 c3 c4
            repeat' split
            all_goals first | rfl | (exfalso; omega)
          subst eh1
          subst eh2
          subst eh10
          exact Kf (by rw [w_]; decide) _ (by rw [w_]; exact mpo.st eS)
        · skip
          refine ⟨?_, ?_⟩
          · obtain ⟨i1, i2⟩ := ix_10 (x := x1) (y := x2) (by simp only [i3_lt, i3_le, i6_lt, i6_le, i3_eq, i3_l, Int32.reduceToInt, Int64.reduceToInt, tm_1, tl_1, fF, gF] at c1 c2; omega) (by simp only [i3_lt, i3_le, i6_lt, i6_le, i3_eq, i3_l, Int32.reduceToInt, Int64.reduceToInt, tm_1, tl_1, fF, gF] at c1 c2; omega) (by simp only [i3_lt, i3_le, i6_lt, i6_le, i3_eq, i3_l, Int32.reduceToInt, Int64.reduceToInt, tm_1, tl_1] at c3 c4; omega) (by simp only [i3_lt, i3_le, i6_lt, i6_le, i3_eq, i3_l, Int32.reduceToInt, Int64.reduceToInt, tm_1, tl_1] at c3 c4; omega)
            rw [i1]; exact vp_in_nI i2 (by decide)
          intro h12 eh12 Xh12
          have w_ : wy_let S x1 x2 x3 = (0 : Int32) := by
            unfold wy_let
            simp only [i3_lt, i3_le, i6_lt, i6_le, i3_eq, i3_l, Int32.reduceToInt, Int64.reduceToInt, tm_1, tl_1, fF, gF] at c1 c2 c3 c4
            repeat' split
            all_goals first | rfl | (exfalso; omega)
          subst eh1
          subst eh2
          subst eh12
          obtain ⟨i1, i2⟩ := ix_10 (x := x1) (y := x2) (by simp only [i3_lt, i3_le, i6_lt, i6_le, i3_eq, i3_l, Int32.reduceToInt, Int64.reduceToInt, tm_1, tl_1, fF, gF] at c1 c2; omega) (by simp only [i3_lt, i3_le, i6_lt, i6_le, i3_eq, i3_l, Int32.reduceToInt, Int64.reduceToInt, tm_1, tl_1, fF, gF] at c1 c2; omega) (by simp only [i3_lt, i3_le, i6_lt, i6_le, i3_eq, i3_l, Int32.reduceToInt, Int64.reduceToInt, tm_1, tl_1] at c3 c4; omega) (by simp only [i3_lt, i3_le, i6_lt, i6_le, i3_eq, i3_l, Int32.reduceToInt, Int64.reduceToInt, tm_1, tl_1] at c3 c4; omega)
          rw [i1, nI_clamp (by omega)]
          exact Kg w_ _ (mpo.mk (A := [61]) (Z := [0, 1]) (by decide) (((mch.rf.zI (by decide)).zI (by decide)).wI (by decide)) (by rw [mv_wI, mv_zI, mv_zI, eS]; exact (((kept.rf.sI (by decide) (by decide)).cI).cI)))

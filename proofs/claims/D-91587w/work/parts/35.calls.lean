/-! ===== calls that only look and write: contracts of class (c_) and model (m_), by one spec ===== -/
theorem tm_1 : (-1 : Int32).toInt = -1 := by decide
theorem tl_1 : (-1 : Int64).toInt = -1 := by decide
def WB (S : MS) : Prop := nF S ≤ 20 ∧ nE S ≤ 8 ∧ nV S ≤ 120
section
variable {h : ah_T} {M : Nat} {S : MS}
theorem mk_F (eS : mv h M = S) (W : WF S) : ah_I h M 5 = nI (nF S) := (congrFun (congrFun (congrArg Prod.fst eS) 0) 5).trans W.1.1
theorem mk_E (eS : mv h M = S) (W : WF S) : ah_I h M 6 = nI (nE S) := (congrFun (congrFun (congrArg Prod.fst eS) 0) 6).trans W.1.2.1
theorem mk_V (eS : mv h M = S) (W : WF S) : ah_I h M 7 = nI (nV S) := (congrFun (congrFun (congrArg Prod.fst eS) 0) 7).trans W.1.2.2.1
theorem mk_G (eS : mv h M = S) (W : WF S) : ah_I h M 8 = nI (nG S) := (congrFun (congrFun (congrArg Prod.fst eS) 0) 8).trans W.1.2.2.2.1
theorem mk_T (eS : mv h M = S) (W : WF S) : ah_I h M 56 = nI (nT S) := (congrFun (congrFun (congrArg Prod.fst eS) 0) 56).trans W.1.2.2.2.2.1
theorem mk_O (eS : mv h M = S) (W : WF S) : ah_I h M 88 = nI (nO S) := (congrFun (congrFun (congrArg Prod.fst eS) 0) 88).trans W.1.2.2.2.2.2.1
theorem mk_P (eS : mv h M = S) (W : WF S) : ah_I h M 44 = nI (nP S) := (congrFun (congrFun (congrArg Prod.fst eS) 0) 44).trans W.1.2.2.2.2.2.2.1
theorem mk_r (eS : mv h M = S) (a k : Nat) : ah_I h (M + a) k = S.1 a k := congrFun (congrFun (congrArg Prod.fst eS) a) k
theorem mk_z0 (eS : mv h M = S) (k : Nat) : ah_I h M k = S.1 0 k := congrFun (congrFun (congrArg Prod.fst eS) 0) k
theorem mk_j (eS : mv h M = S) (a k : Nat) : ah_J h (M + a) k = S.2 a k := congrFun (congrFun (congrArg Prod.snd eS) a) k
theorem mb_F (W : WF S) (B : WB S) : nF S ≤ 20 := B.1
theorem mb_E (W : WF S) (B : WB S) : nE S ≤ 8 := B.2.1
theorem mb_V (W : WF S) (B : WB S) : nV S ≤ 120 := B.2.2
theorem mb_G (W : WF S) (B : WB S) : nG S ≤ 100 := W.2.2.2.2.1.1
theorem mb_O (W : WF S) (B : WB S) : nO S ≤ 60 := W.2.2.2.2.2.1.1
theorem mb_T (W : WF S) (B : WB S) : nT S ≤ 4 := W.1.2.2.2.2.2.2.2.2.1
/-- a refusal -/
theorem mpo.st (eS : mv h M = S) {c v w : Int32} : mpo M h (ah_wI (ah_wI (ah_wI h M 1 v) M 0 w) M 0 c) (uI S 0 0 c) :=
  mpo.mk (A := []) (Z := [0, 1]) (by decide) (((mch.rf.zI (by decide)).zI (by decide)).zI (by decide)) (by rw [mv_zI, mv_zI, mv_zI, eS, uI_uI]; exact (kept.rf.sI (by decide) (by decide)).cI)
end
def wy_price (S : MS) (x1 x2 : Int32) : Int32 := if (0 ≤ x1.toInt ∧ x1.toInt ≤ 519) ∧ (0 ≤ x2.toInt ∧ x2.toInt ≤ 1000) then 0 else 5
def sg_price (S : MS) (x1 x2 : Int32) : MS := uI (uI S 0 0 0) 60 x1.toNatClampNeg x2
def wy_rules (S : MS) (x1 x2 : Int32) : Int32 := if (0 ≤ x1.toInt ∧ x1.toInt ≤ 100) ∧ (0 ≤ x2.toInt ∧ x2.toInt ≤ 20) then 0 else 5
def sg_rules (S : MS) (x1 x2 : Int32) : MS := uI (uI (uI S 0 0 0) 0 89 x1) 0 90 x2
def wy_turned (S : MS) (x1 : Int32) : Int32 := if (S.1 0 107).toInt = 0 then 8 else if (0 ≤ x1.toInt ∧ x1.toInt ≤ 19) then 0 else 8
def sg_turned (S : MS) (x1 : Int32) : MS := uI S 0 0 0
def wy_outside (S : MS) (x1 x2 x3 x4 : Int32) : Int32 := if (0 ≤ x1.toInt ∧ x1.toInt ≤ ((nF) S : Int) - 1) then (if (0 ≤ x2.toInt ∧ x2.toInt ≤ 519) ∧ (1 ≤ x3.toInt ∧ x3.toInt ≤ 10000) ∧ (0 ≤ x4.toInt ∧ x4.toInt ≤ 1000) then (if nO S = 60 then 7 else 0) else 5) else 2
def sg_outside (S : MS) (x1 x2 x3 x4 : Int32) : MS := uI (uI (uI (uI (uI (uI S 0 0 0) 56 (nO S) x1) 57 (nO S) x2) 58 (nO S) x3) 59 (nO S) x4) 0 88 (S.1 0 88 + 1)
theorem wf_price {S : MS} {x1 x2 : Int32} (W : WF S) (w : wy_price S x1 x2 = 0) : WF (sg_price S x1 x2) := by
  have hw : inR x1 0 519 ∧ inR x2 0 1000 := by
    unfold wy_price at w
    split at w
    · assumption
    · exact absurd w (by decide)
  obtain ⟨a1, a2, a3, a4, a5, a6, a7, a8, a9⟩ := W
  refine ⟨a1, a2, a3, a4, a5, a6, ⟨fun k hk => ?_, a8, a9⟩⟩
  show inR ((uI (uI S 0 0 0) 60 x1.toNatClampNeg x2).1 60 k) 0 1000
  rw [uI_e]
  split
  · exact hw.2
  · exact a7 k hk
theorem c_price {G : ma_G} {d X : Nat} {h : ah_T} {S : MS} {Q : Option ma_V → ah_T → Prop} {E : Nat → ah_T → Prop} {x1 x2 : Int32} (L : LY0 h X) (C : CI0 h X S) (RM : X + 1576 ≤ ah_sz h ∧ 4000 ≤ ah_rc h ∧ 40000 ≤ ah_rs h) (Kf : wy_price S x1 x2 ≠ 0 → ∀ h1, cpo X h h1 (uI S 0 0 (wy_price S x1 x2)) → Q (some (iv 0)) h1) (Kg : wy_price S x1 x2 = 0 → ∀ h1, cpo X h h1 (sg_price S x1 x2) → Q (some (iv 1)) h1) : MX G mi_X0_price (d + 1) 0 [some (rv X), some (iv x1), some (iv x2)] [] h Q E := by
  refine v_X0_price L ?_
  refine ⟨fun c1 => ?_, fun c1 => ?_⟩
  · skip
    intro h2 eh2 Xh2
    have w_ : wy_price S x1 x2 = (5 : Int32) := by
      unfold wy_price
      simp only [i3_lt, i3_le, i6_lt, i6_le, i3_eq, i3_l, Int32.reduceToInt, Int64.reduceToInt, tm_1, tl_1] at c1
      repeat' split
      all_goals first | rfl | (exfalso; omega)
    subst eh2
    exact Kf (by rw [w_]; decide) _ (by rw [w_]; exact cpo.st L C Xh2)
  · skip
    refine ⟨fun c2 => ?_, fun c2 => ?_⟩
    · skip
      intro h4 eh4 Xh4
      have w_ : wy_price S x1 x2 = (5 : Int32) := by
        unfold wy_price
        simp only [i3_lt, i3_le, i6_lt, i6_le, i3_eq, i3_l, Int32.reduceToInt, Int64.reduceToInt, tm_1, tl_1] at c1 c2
        repeat' split
        all_goals first | rfl | (exfalso; omega)
      subst eh4
      exact Kf (by rw [w_]; decide) _ (by rw [w_]; exact cpo.st L C Xh4)
    · skip
      refine ⟨fun c3 => ?_, fun c3 => ?_⟩
      · skip
        intro h6 eh6 Xh6
        have w_ : wy_price S x1 x2 = (5 : Int32) := by
          unfold wy_price
          simp only [i3_lt, i3_le, i6_lt, i6_le, i3_eq, i3_l, Int32.reduceToInt, Int64.reduceToInt, tm_1, tl_1] at c1 c2 c3
          repeat' split
          all_goals first | rfl | (exfalso; omega)
        subst eh6
        exact Kf (by rw [w_]; decide) _ (by rw [w_]; exact cpo.st L C Xh6)
      · skip
        refine ⟨fun c4 => ?_, fun c4 => ?_⟩
        · skip
          intro h8 eh8 Xh8
          have w_ : wy_price S x1 x2 = (5 : Int32) := by
            unfold wy_price
            simp only [i3_lt, i3_le, i6_lt, i6_le, i3_eq, i3_l, Int32.reduceToInt, Int64.reduceToInt, tm_1, tl_1] at c1 c2 c3 c4
            repeat' split
            all_goals first | rfl | (exfalso; omega)
          subst eh8
          exact Kf (by rw [w_]; decide) _ (by rw [w_]; exact cpo.st L C Xh8)
        · skip
          refine ⟨?_, ?_⟩
          · exact vp_x (by simp only [i3_lt, i3_le, i6_lt, i6_le, i3_eq, i3_l, Int32.reduceToInt, Int64.reduceToInt, tm_1, tl_1] at c1 c2 c3 c4 ⊢; omega) (by simp only [i3_lt, i3_le, i6_lt, i6_le, i3_eq, i3_l, Int32.reduceToInt, Int64.reduceToInt, tm_1, tl_1] at c1 c2 c3 c4 ⊢; omega)
          intro h10 eh10 Xh10
          intro h11 eh11 Xh11
          have w_ : wy_price S x1 x2 = (0 : Int32) := by
            unfold wy_price
            simp only [i3_lt, i3_le, i6_lt, i6_le, i3_eq, i3_l, Int32.reduceToInt, Int64.reduceToInt, tm_1, tl_1] at c1 c2 c3 c4
            repeat' split
            all_goals first | rfl | (exfalso; omega)
          subst eh10
          subst eh11
          exact Kg w_ _ (cpo.mk L C (dyn.rf.wI (by decide)).zI (cfr.rf.wI (by omega)).zI (Xh10.tr Xh11) rfl (by unfold sg_price; rw [uI_cm (Or.inl (by decide))]; exact (C.1.pA 1447 60 (by decide)).pX 20 0 (by decide)) (wf_price C.2.2.2.2.2 w_) ⟨⟨rfl, rfl, rfl, rfl, rfl, rfl, rfl, rfl⟩, ⟨rfl, rfl⟩, ⟨rfl, rfl, rfl, rfl, rfl, rfl, rfl, rfl, rfl, rfl, rfl⟩, rfl, rfl, rfl⟩)
theorem m_price {G : ma_G} {d M : Nat} {h : ah_T} {S : MS} {Q : Option ma_V → ah_T → Prop} {E : Nat → ah_T → Prop} {x1 x2 : Int32} (L : LY8 h M) (eS : mv h M = S) (W : WF S) (B : WB S) (Kf : wy_price S x1 x2 ≠ 0 → ∀ h1, mpo M h h1 (uI S 0 0 (wy_price S x1 x2)) → Q (some (iv 0)) h1) (Kg : wy_price S x1 x2 = 0 → ∀ h1, mpo M h h1 (sg_price S x1 x2) → Q (some (iv 1)) h1) : MX G mi_X8_price (d + 2) 0 [some (rv M), some (iv x1), some (iv x2)] [] h Q E := by
  refine v_X8_price L ?_
  intro h1 eh1 Xh1
  intro h2 eh2 Xh2
  refine ⟨fun c1 => ?_, fun c1 => ?_⟩
  · skip
    intro h4 eh4 Xh4
    have w_ : wy_price S x1 x2 = (5 : Int32) := by
      unfold wy_price
      simp only [i3_lt, i3_le, i6_lt, i6_le, i3_eq, i3_l, Int32.reduceToInt, Int64.reduceToInt, tm_1, tl_1] at c1
      repeat' split
      all_goals first | rfl | (exfalso; omega)
    subst eh1
    subst eh2
    subst eh4
    exact Kf (by rw [w_]; decide) _ (by rw [w_]; exact mpo.st eS)
  · skip
    refine ⟨fun c2 => ?_, fun c2 => ?_⟩
    · skip
      intro h6 eh6 Xh6
      have w_ : wy_price S x1 x2 = (5 : Int32) := by
        unfold wy_price
        simp only [i3_lt, i3_le, i6_lt, i6_le, i3_eq, i3_l, Int32.reduceToInt, Int64.reduceToInt, tm_1, tl_1] at c1 c2
        repeat' split
        all_goals first | rfl | (exfalso; omega)
      subst eh1
      subst eh2
      subst eh6
      exact Kf (by rw [w_]; decide) _ (by rw [w_]; exact mpo.st eS)
    · skip
      refine ⟨fun c3 => ?_, fun c3 => ?_⟩
      · skip
        intro h8 eh8 Xh8
        have w_ : wy_price S x1 x2 = (5 : Int32) := by
          unfold wy_price
          simp only [i3_lt, i3_le, i6_lt, i6_le, i3_eq, i3_l, Int32.reduceToInt, Int64.reduceToInt, tm_1, tl_1] at c1 c2 c3
          repeat' split
          all_goals first | rfl | (exfalso; omega)
        subst eh1
        subst eh2
        subst eh8
        exact Kf (by rw [w_]; decide) _ (by rw [w_]; exact mpo.st eS)
      · skip
        refine ⟨fun c4 => ?_, fun c4 => ?_⟩
        · skip
          intro h10 eh10 Xh10
          have w_ : wy_price S x1 x2 = (5 : Int32) := by
            unfold wy_price
            simp only [i3_lt, i3_le, i6_lt, i6_le, i3_eq, i3_l, Int32.reduceToInt, Int64.reduceToInt, tm_1, tl_1] at c1 c2 c3 c4
            repeat' split
            all_goals first | rfl | (exfalso; omega)
          subst eh1
          subst eh2
          subst eh10
          exact Kf (by rw [w_]; decide) _ (by rw [w_]; exact mpo.st eS)
        · skip
          refine ⟨?_, ?_⟩
          · exact vp_x (by simp only [i3_lt, i3_le, i6_lt, i6_le, i3_eq, i3_l, Int32.reduceToInt, Int64.reduceToInt, tm_1, tl_1] at c1 c2 c3 c4 ⊢; omega) (by simp only [i3_lt, i3_le, i6_lt, i6_le, i3_eq, i3_l, Int32.reduceToInt, Int64.reduceToInt, tm_1, tl_1] at c1 c2 c3 c4 ⊢; omega)
          intro h12 eh12 Xh12
          have w_ : wy_price S x1 x2 = (0 : Int32) := by
            unfold wy_price
            simp only [i3_lt, i3_le, i6_lt, i6_le, i3_eq, i3_l, Int32.reduceToInt, Int64.reduceToInt, tm_1, tl_1] at c1 c2 c3 c4
            repeat' split
            all_goals first | rfl | (exfalso; omega)
          subst eh1
          subst eh2
          subst eh12
          exact Kg w_ _ (mpo.mk (A := [60]) (Z := [0, 1]) (by decide) (((mch.rf.zI (by decide)).zI (by decide)).wI (by decide)) (by rw [mv_wI, mv_zI, mv_zI, eS]; exact ((kept.rf.sI (by decide) (by decide)).cI).cI))
theorem wf_rules {S : MS} {x1 x2 : Int32} (W : WF S) (w : wy_rules S x1 x2 = 0) : WF (sg_rules S x1 x2) := by
  have hw : inR x1 0 100 ∧ inR x2 0 20 := by
    unfold wy_rules at w
    split at w
    · assumption
    · exact absurd w (by decide)
  obtain ⟨a1, a2, a3, a4, a5, a6, a7, a8, a9⟩ := W
  exact ⟨a1, a2, a3, a4, a5, a6, ⟨a7, hw.1, hw.2⟩⟩
theorem c_rules {G : ma_G} {d X : Nat} {h : ah_T} {S : MS} {Q : Option ma_V → ah_T → Prop} {E : Nat → ah_T → Prop} {x1 x2 : Int32} (L : LY0 h X) (C : CI0 h X S) (RM : X + 1576 ≤ ah_sz h ∧ 4000 ≤ ah_rc h ∧ 40000 ≤ ah_rs h) (Kf : wy_rules S x1 x2 ≠ 0 → ∀ h1, cpo X h h1 (uI S 0 0 (wy_rules S x1 x2)) → Q (some (iv 0)) h1) (Kg : wy_rules S x1 x2 = 0 → ∀ h1, cpo X h h1 (sg_rules S x1 x2) → Q (some (iv 1)) h1) : MX G mi_X0_rules (d + 1) 0 [some (rv X), some (iv x1), some (iv x2)] [] h Q E := by
  refine v_X0_rules L ?_
  refine ⟨fun c1 => ?_, fun c1 => ?_⟩
  · skip
    intro h2 eh2 Xh2
    have w_ : wy_rules S x1 x2 = (5 : Int32) := by
      unfold wy_rules
      simp only [i3_lt, i3_le, i6_lt, i6_le, i3_eq, i3_l, Int32.reduceToInt, Int64.reduceToInt, tm_1, tl_1] at c1
      repeat' split
      all_goals first | rfl | (exfalso; omega)
    subst eh2
    exact Kf (by rw [w_]; decide) _ (by rw [w_]; exact cpo.st L C Xh2)
  · skip
    refine ⟨fun c2 => ?_, fun c2 => ?_⟩
    · skip
      intro h4 eh4 Xh4
      have w_ : wy_rules S x1 x2 = (5 : Int32) := by
        unfold wy_rules
        simp only [i3_lt, i3_le, i6_lt, i6_le, i3_eq, i3_l, Int32.reduceToInt, Int64.reduceToInt, tm_1, tl_1] at c1 c2
        repeat' split
        all_goals first | rfl | (exfalso; omega)
      subst eh4
      exact Kf (by rw [w_]; decide) _ (by rw [w_]; exact cpo.st L C Xh4)
    · skip
      refine ⟨fun c3 => ?_, fun c3 => ?_⟩
      · skip
        intro h6 eh6 Xh6
        have w_ : wy_rules S x1 x2 = (5 : Int32) := by
          unfold wy_rules
          simp only [i3_lt, i3_le, i6_lt, i6_le, i3_eq, i3_l, Int32.reduceToInt, Int64.reduceToInt, tm_1, tl_1] at c1 c2 c3
          repeat' split
          all_goals first | rfl | (exfalso; omega)
        subst eh6
        exact Kf (by rw [w_]; decide) _ (by rw [w_]; exact cpo.st L C Xh6)
      · skip
        refine ⟨fun c4 => ?_, fun c4 => ?_⟩
        · skip
          intro h8 eh8 Xh8
          intro h9 eh9 Xh9
          intro h10 eh10 Xh10
          have w_ : wy_rules S x1 x2 = (0 : Int32) := by
            unfold wy_rules
            simp only [i3_lt, i3_le, i6_lt, i6_le, i3_eq, i3_l, Int32.reduceToInt, Int64.reduceToInt, tm_1, tl_1] at c1 c2 c3 c4
            repeat' split
            all_goals first | rfl | (exfalso; omega)
          subst eh8
          subst eh9
          subst eh10
          have e_ := ((C.1.pX (v := x1) 37 89 (by decide)).pX (v := x2) 38 90 (by decide)).pX (v := 0) 20 0 (by decide)
          rw [uI_cm (a := 0) (k := 90) (b := 0) (j := 0) (Or.inr (by decide)), uI_cm (a := 0) (k := 89) (b := 0) (j := 0) (Or.inr (by decide))] at e_
          exact Kg w_ _ (cpo.mk L C dyn.rf.zI.zI.zI cfr.rf.zI.zI.zI ((Xh8.tr Xh9).tr Xh10) rfl e_ (wf_rules C.2.2.2.2.2 w_) ⟨⟨rfl, rfl, rfl, rfl, rfl, rfl, rfl, rfl⟩, ⟨rfl, rfl⟩, ⟨rfl, rfl, rfl, rfl, rfl, rfl, rfl, rfl, rfl, rfl, rfl⟩, rfl, rfl, rfl⟩)
        · skip
          intro h11 eh11 Xh11
          have w_ : wy_rules S x1 x2 = (5 : Int32) := by
            unfold wy_rules
            simp only [i3_lt, i3_le, i6_lt, i6_le, i3_eq, i3_l, Int32.reduceToInt, Int64.reduceToInt, tm_1, tl_1] at c1 c2 c3 c4
            repeat' split
            all_goals first | rfl | (exfalso; omega)
          subst eh11
          exact Kf (by rw [w_]; decide) _ (by rw [w_]; exact cpo.st L C Xh11)
theorem m_rules {G : ma_G} {d M : Nat} {h : ah_T} {S : MS} {Q : Option ma_V → ah_T → Prop} {E : Nat → ah_T → Prop} {x1 x2 : Int32} (L : LY8 h M) (eS : mv h M = S) (W : WF S) (B : WB S) (Kf : wy_rules S x1 x2 ≠ 0 → ∀ h1, mpo M h h1 (uI S 0 0 (wy_rules S x1 x2)) → Q (some (iv 0)) h1) (Kg : wy_rules S x1 x2 = 0 → ∀ h1, mpo M h h1 (sg_rules S x1 x2) → Q (some (iv 1)) h1) : MX G mi_X8_rules (d + 1) 0 [some (rv M), some (iv x1), some (iv x2)] [] h Q E := by
  refine v_X8_rules L ?_
  intro h1 eh1 Xh1
  intro h2 eh2 Xh2
  refine ⟨fun c1 => ?_, fun c1 => ?_⟩
  · skip
    intro h4 eh4 Xh4
    have w_ : wy_rules S x1 x2 = (5 : Int32) := by
      unfold wy_rules
      simp only [i3_lt, i3_le, i6_lt, i6_le, i3_eq, i3_l, Int32.reduceToInt, Int64.reduceToInt, tm_1, tl_1] at c1
      repeat' split
      all_goals first | rfl | (exfalso; omega)
    subst eh1
    subst eh2
    subst eh4
    exact Kf (by rw [w_]; decide) _ (by rw [w_]; exact mpo.st eS)
  · skip
    refine ⟨fun c2 => ?_, fun c2 => ?_⟩
    · skip
      intro h6 eh6 Xh6
      have w_ : wy_rules S x1 x2 = (5 : Int32) := by
        unfold wy_rules
        simp only [i3_lt, i3_le, i6_lt, i6_le, i3_eq, i3_l, Int32.reduceToInt, Int64.reduceToInt, tm_1, tl_1] at c1 c2
        repeat' split
        all_goals first | rfl | (exfalso; omega)
      subst eh1
      subst eh2
      subst eh6
      exact Kf (by rw [w_]; decide) _ (by rw [w_]; exact mpo.st eS)
    · skip
      refine ⟨fun c3 => ?_, fun c3 => ?_⟩
      · skip
        intro h8 eh8 Xh8
        have w_ : wy_rules S x1 x2 = (5 : Int32) := by
          unfold wy_rules
          simp only [i3_lt, i3_le, i6_lt, i6_le, i3_eq, i3_l, Int32.reduceToInt, Int64.reduceToInt, tm_1, tl_1] at c1 c2 c3
          repeat' split
          all_goals first | rfl | (exfalso; omega)
        subst eh1
        subst eh2
        subst eh8
        exact Kf (by rw [w_]; decide) _ (by rw [w_]; exact mpo.st eS)
      · skip
        refine ⟨fun c4 => ?_, fun c4 => ?_⟩
        · skip
          intro h10 eh10 Xh10
          have w_ : wy_rules S x1 x2 = (5 : Int32) := by
            unfold wy_rules
            simp only [i3_lt, i3_le, i6_lt, i6_le, i3_eq, i3_l, Int32.reduceToInt, Int64.reduceToInt, tm_1, tl_1] at c1 c2 c3 c4
            repeat' split
            all_goals first | rfl | (exfalso; omega)
          subst eh1
          subst eh2
          subst eh10
          exact Kf (by rw [w_]; decide) _ (by rw [w_]; exact mpo.st eS)
        · skip
          intro h11 eh11 Xh11
          intro h12 eh12 Xh12
          have w_ : wy_rules S x1 x2 = (0 : Int32) := by
            unfold wy_rules
            simp only [i3_lt, i3_le, i6_lt, i6_le, i3_eq, i3_l, Int32.reduceToInt, Int64.reduceToInt, tm_1, tl_1] at c1 c2 c3 c4
            repeat' split
            all_goals first | rfl | (exfalso; omega)
          subst eh1
          subst eh2
          subst eh11
          subst eh12
          exact Kg w_ _ (mpo.mk (A := []) (Z := [0, 1, 89, 90]) (by decide) ((((mch.rf.zI (by decide)).zI (by decide)).zI (by decide)).zI (by decide)) (by rw [mv_zI, mv_zI, mv_zI, mv_zI, eS]; exact ((((kept.rf.sI (by decide) (by decide)).cI).cI).cI)))
theorem c_turned {G : ma_G} {d X : Nat} {h : ah_T} {S : MS} {Q : Option ma_V → ah_T → Prop} {E : Nat → ah_T → Prop} {x1 : Int32} (L : LY0 h X) (C : CI0 h X S) (RM : X + 1576 ≤ ah_sz h ∧ 4000 ≤ ah_rc h ∧ 40000 ≤ ah_rs h) (Kf : wy_turned S x1 ≠ 0 → ∀ h1, cpo X h h1 (uI S 0 0 (wy_turned S x1)) → Q (some (iv (-1))) h1) (Kg : wy_turned S x1 = 0 → ∀ h1, cpo X h h1 (sg_turned S x1) → Q (some (iv (S.1 69 x1.toNatClampNeg))) h1) : MX G mi_X0_turned (d + 1) 0 [some (rv X), some (iv x1)] [] h Q E := by
  have fx : ah_I h X 46 = S.1 0 107 := C.1.2 0 46 107 (by decide)
  refine v_X0_turned L ?_
  refine ⟨fun c1 => ?_, fun c1 => ?_⟩
  · skip
    intro h2 eh2 Xh2
    have w_ : wy_turned S x1 = (8 : Int32) := by
      unfold wy_turned
      simp only [i3_lt, i3_le, i6_lt, i6_le, i3_eq, i3_l, Int32.reduceToInt, Int64.reduceToInt, tm_1, tl_1, fx] at c1
      repeat' split
      all_goals first | rfl | (exfalso; omega)
    subst eh2
    exact Kf (by rw [w_]; decide) _ (by rw [w_]; exact cpo.st L C Xh2)
  · skip
    refine ⟨fun c2 => ?_, fun c2 => ?_⟩
    · skip
      intro h4 eh4 Xh4
      have w_ : wy_turned S x1 = (8 : Int32) := by
        unfold wy_turned
        simp only [i3_lt, i3_le, i6_lt, i6_le, i3_eq, i3_l, Int32.reduceToInt, Int64.reduceToInt, tm_1, tl_1, fx] at c1 c2
        repeat' split
        all_goals first | rfl | (exfalso; omega)
      subst eh4
      exact Kf (by rw [w_]; decide) _ (by rw [w_]; exact cpo.st L C Xh4)
    · skip
      refine ⟨fun c3 => ?_, fun c3 => ?_⟩
      · skip
        refine ⟨?_, ?_⟩
        · exact vp_x (by simp only [i3_lt, i3_le, i6_lt, i6_le, i3_eq, i3_l, Int32.reduceToInt, Int64.reduceToInt, tm_1, tl_1, fx] at c1 c2 c3 ⊢; omega) (by simp only [i3_lt, i3_le, i6_lt, i6_le, i3_eq, i3_l, Int32.reduceToInt, Int64.reduceToInt, tm_1, tl_1, fx] at c1 c2 c3 ⊢; omega)
        intro h7 eh7 Xh7
        have w_ : wy_turned S x1 = (0 : Int32) := by
          unfold wy_turned
          simp only [i3_lt, i3_le, i6_lt, i6_le, i3_eq, i3_l, Int32.reduceToInt, Int64.reduceToInt, tm_1, tl_1, fx] at c1 c2 c3
          repeat' split
          all_goals first | rfl | (exfalso; omega)
        subst eh7
        rw [C.1.1 1453 69 (by decide)]
        exact Kg w_ _ (cpo.st L C Xh7)
      · skip
        intro h8 eh8 Xh8
        have w_ : wy_turned S x1 = (8 : Int32) := by
          unfold wy_turned
          simp only [i3_lt, i3_le, i6_lt, i6_le, i3_eq, i3_l, Int32.reduceToInt, Int64.reduceToInt, tm_1, tl_1, fx] at c1 c2 c3
          repeat' split
          all_goals first | rfl | (exfalso; omega)
        subst eh8
        exact Kf (by rw [w_]; decide) _ (by rw [w_]; exact cpo.st L C Xh8)
theorem m_turned {G : ma_G} {d M : Nat} {h : ah_T} {S : MS} {Q : Option ma_V → ah_T → Prop} {E : Nat → ah_T → Prop} {x1 : Int32} (L : LY8 h M) (eS : mv h M = S) (W : WF S) (B : WB S) (Kf : wy_turned S x1 ≠ 0 → ∀ h1, mpo M h h1 (uI S 0 0 (wy_turned S x1)) → Q (some (iv (-1))) h1) (Kg : wy_turned S x1 = 0 → ∀ h1, mpo M h h1 (sg_turned S x1) → Q (some (iv (S.1 69 x1.toNatClampNeg))) h1) : MX G mi_X8_turned (d + 1) 0 [some (rv M), some (iv x1)] [] h Q E := by
  have fx : ah_I h M 107 = S.1 0 107 := mk_z0 eS 107
  refine v_X8_turned L ?_
  intro h1 eh1 Xh1
  intro h2 eh2 Xh2
  refine ⟨fun c1 => ?_, fun c1 => ?_⟩
  · skip
    intro h4 eh4 Xh4
    have w_ : wy_turned S x1 = (8 : Int32) := by
      unfold wy_turned
      simp only [i3_lt, i3_le, i6_lt, i6_le, i3_eq, i3_l, Int32.reduceToInt, Int64.reduceToInt, tm_1, tl_1, fx] at c1
      repeat' split
      all_goals first | rfl | (exfalso; omega)
    subst eh1
    subst eh2
    subst eh4
    exact Kf (by rw [w_]; decide) _ (by rw [w_]; exact mpo.st eS)
  · skip
    refine ⟨fun c2 => ?_, fun c2 => ?_⟩
    · skip
      intro h6 eh6 Xh6
      have w_ : wy_turned S x1 = (8 : Int32) := by
        unfold wy_turned
        simp only [i3_lt, i3_le, i6_lt, i6_le, i3_eq, i3_l, Int32.reduceToInt, Int64.reduceToInt, tm_1, tl_1, fx] at c1 c2
        repeat' split
        all_goals first | rfl | (exfalso; omega)
      subst eh1
      subst eh2
      subst eh6
      exact Kf (by rw [w_]; decide) _ (by rw [w_]; exact mpo.st eS)
    · skip
      refine ⟨fun c3 => ?_, fun c3 => ?_⟩
      · skip
        intro h8 eh8 Xh8
        have w_ : wy_turned S x1 = (8 : Int32) := by
          unfold wy_turned
          simp only [i3_lt, i3_le, i6_lt, i6_le, i3_eq, i3_l, Int32.reduceToInt, Int64.reduceToInt, tm_1, tl_1, fx] at c1 c2 c3
          repeat' split
          all_goals first | rfl | (exfalso; omega)
        subst eh1
        subst eh2
        subst eh8
        exact Kf (by rw [w_]; decide) _ (by rw [w_]; exact mpo.st eS)
      · skip
        refine ⟨?_, ?_⟩
        · exact vp_x (by simp only [i3_lt, i3_le, i6_lt, i6_le, i3_eq, i3_l, Int32.reduceToInt, Int64.reduceToInt, tm_1, tl_1, fx] at c1 c2 c3 ⊢; omega) (by simp only [i3_lt, i3_le, i6_lt, i6_le, i3_eq, i3_l, Int32.reduceToInt, Int64.reduceToInt, tm_1, tl_1, fx] at c1 c2 c3 ⊢; omega)
        have w_ : wy_turned S x1 = (0 : Int32) := by
          unfold wy_turned
          simp only [i3_lt, i3_le, i6_lt, i6_le, i3_eq, i3_l, Int32.reduceToInt, Int64.reduceToInt, tm_1, tl_1, fx] at c1 c2 c3
          repeat' split
          all_goals first | rfl | (exfalso; omega)
        subst eh1
        subst eh2
        rw [mk_r eS]
        exact Kg w_ _ (mpo.mk (A := []) (Z := [0, 1]) (by decide) ((mch.rf.zI (by decide)).zI (by decide)) (by rw [mv_zI, mv_zI, eS]; exact (kept.rf.sI (by decide) (by decide)).cI))
theorem wf_outside {S : MS} {x1 x2 x3 x4 : Int32} (W : WF S) (w : wy_outside S x1 x2 x3 x4 = 0) : WF (sg_outside S x1 x2 x3 x4) := by
  have hw : inR x1 0 ((nF S : Int) - 1) ∧ (inR x2 0 519 ∧ inR x3 1 10000 ∧ inR x4 0 1000) ∧ nO S ≠ 60 := by
    unfold wy_outside at w
    repeat' split at w
    all_goals first | exact absurd w (by decide) | exact ⟨by assumption, by assumption, by assumption⟩
  obtain ⟨a1, a2, a3, a4, a5, a6, a7⟩ := W
  have hb := a6.1
  have ho : S.1 0 88 + 1 = nI (nO S + 1) := by rw [a1.2.2.2.2.2.1, nI_1]
  have hn : nO (sg_outside S x1 x2 x3 x4) = nO S + 1 := by
    show (S.1 0 88 + 1).toNatClampNeg = _
    rw [ho, nI_clamp (by omega)]
  obtain ⟨b1, b2, b3, b4, b5, b6, b7⟩ := a1
  refine ⟨⟨b1, b2, b3, b4, b5, ?_, b7⟩, a2, a3, a4, a5, ?_, a7⟩
  · rw [hn]; exact ho
  · rw [hn]
    refine ⟨by omega, fun o h0 => ?_⟩
    show inR (if o = nO S then x1 else S.1 56 o) _ _ ∧ inR (if o = nO S then x2 else S.1 57 o) _ _ ∧ inR (if o = nO S then x3 else S.1 58 o) _ _ ∧ inR (if o = nO S then x4 else S.1 59 o) _ _
    rcases Nat.decEq o (nO S) with c | c
    · simp only [if_neg c]; exact a6.2 o (by omega)
    · simp only [if_pos c]; exact ⟨hw.1, hw.2.1.1, hw.2.1.2.1, hw.2.1.2.2⟩
theorem c_outside {G : ma_G} {d X : Nat} {h : ah_T} {S : MS} {Q : Option ma_V → ah_T → Prop} {E : Nat → ah_T → Prop} {x1 x2 x3 x4 : Int32} (L : LY0 h X) (C : CI0 h X S) (RM : X + 1576 ≤ ah_sz h ∧ 4000 ≤ ah_rc h ∧ 40000 ≤ ah_rs h) (Kf : wy_outside S x1 x2 x3 x4 ≠ 0 → ∀ h1, cpo X h h1 (uI S 0 0 (wy_outside S x1 x2 x3 x4)) → Q (some (iv (-1))) h1) (Kg : wy_outside S x1 x2 x3 x4 = 0 → ∀ h1, cpo X h h1 (sg_outside S x1 x2 x3 x4) → Q (some (iv (S.1 0 88 + 1 - 1))) h1) : MX G mi_X0_outside (d + 1) 0 [some (rv X), some (iv x1), some (iv x2), some (iv x3), some (iv x4)] [] h Q E := by
  have bF := C.iF.2
  have fF : (ah_I h X 14).toInt = (nF S : Int) := by rw [C.iF.1]; exact nI_x (by omega)
  have bO := C.iO.2
  have fO : (ah_I h X 36).toInt = (nO S : Int) := by rw [C.iO.1]; exact nI_x (by omega)
  refine v_X0_outside L ?_
  refine ⟨fun c1 => ?_, fun c1 => ?_⟩
  · skip
    intro h2 eh2 Xh2
    have w_ : wy_outside S x1 x2 x3 x4 = (2 : Int32) := by
      unfold wy_outside
      simp only [i3_lt, i3_le, i6_lt, i6_le, i3_eq, i3_l, Int32.reduceToInt, Int64.reduceToInt, tm_1, tl_1, fF, fO] at c1
      repeat' split
      all_goals first | rfl | (exfalso; omega)
    subst eh2
    exact Kf (by rw [w_]; decide) _ (by rw [w_]; exact cpo.st L C Xh2)
  · skip
    refine ⟨fun c2 => ?_, fun c2 => ?_⟩
    · skip
      intro h4 eh4 Xh4
      have w_ : wy_outside S x1 x2 x3 x4 = (2 : Int32) := by
        unfold wy_outside
        simp only [i3_lt, i3_le, i6_lt, i6_le, i3_eq, i3_l, Int32.reduceToInt, Int64.reduceToInt, tm_1, tl_1, fF, fO] at c1 c2
        repeat' split
        all_goals first | rfl | (exfalso; omega)
      subst eh4
      exact Kf (by rw [w_]; decide) _ (by rw [w_]; exact cpo.st L C Xh4)
    · skip
      refine ⟨fun c3 => ?_, fun c3 => ?_⟩
      · skip
        intro h6 eh6 Xh6
        have w_ : wy_outside S x1 x2 x3 x4 = (5 : Int32) := by
          unfold wy_outside
          simp only [i3_lt, i3_le, i6_lt, i6_le, i3_eq, i3_l, Int32.reduceToInt, Int64.reduceToInt, tm_1, tl_1, fF, fO] at c1 c2 c3
          repeat' split
          all_goals first | rfl | (exfalso; omega)
        subst eh6
        exact Kf (by rw [w_]; decide) _ (by rw [w_]; exact cpo.st L C Xh6)
      · skip
        refine ⟨fun c4 => ?_, fun c4 => ?_⟩
        · skip
          intro h8 eh8 Xh8
          have w_ : wy_outside S x1 x2 x3 x4 = (5 : Int32) := by
            unfold wy_outside
            simp only [i3_lt, i3_le, i6_lt, i6_le, i3_eq, i3_l, Int32.reduceToInt, Int64.reduceToInt, tm_1, tl_1, fF, fO] at c1 c2 c3 c4
            repeat' split
            all_goals first | rfl | (exfalso; omega)
          subst eh8
          exact Kf (by rw [w_]; decide) _ (by rw [w_]; exact cpo.st L C Xh8)
        · skip
          refine ⟨fun c5 => ?_, fun c5 => ?_⟩
          · skip
            intro h10 eh10 Xh10
            have w_ : wy_outside S x1 x2 x3 x4 = (5 : Int32) := by
              unfold wy_outside
              simp only [i3_lt, i3_le, i6_lt, i6_le, i3_eq, i3_l, Int32.reduceToInt, Int64.reduceToInt, tm_1, tl_1, fF, fO] at c1 c2 c3 c4 c5
              repeat' split
              all_goals first | rfl | (exfalso; omega)
            subst eh10
            exact Kf (by rw [w_]; decide) _ (by rw [w_]; exact cpo.st L C Xh10)
          · skip
            refine ⟨fun c6 => ?_, fun c6 => ?_⟩
            · skip
              intro h12 eh12 Xh12
              have w_ : wy_outside S x1 x2 x3 x4 = (5 : Int32) := by
                unfold wy_outside
                simp only [i3_lt, i3_le, i6_lt, i6_le, i3_eq, i3_l, Int32.reduceToInt, Int64.reduceToInt, tm_1, tl_1, fF, fO] at c1 c2 c3 c4 c5 c6
                repeat' split
                all_goals first | rfl | (exfalso; omega)
              subst eh12
              exact Kf (by rw [w_]; decide) _ (by rw [w_]; exact cpo.st L C Xh12)
            · skip
              refine ⟨fun c7 => ?_, fun c7 => ?_⟩
              · skip
                intro h14 eh14 Xh14
                have w_ : wy_outside S x1 x2 x3 x4 = (5 : Int32) := by
                  unfold wy_outside
                  simp only [i3_lt, i3_le, i6_lt, i6_le, i3_eq, i3_l, Int32.reduceToInt, Int64.reduceToInt, tm_1, tl_1, fF, fO] at c1 c2 c3 c4 c5 c6 c7
                  repeat' split
                  all_goals first | rfl | (exfalso; omega)
                subst eh14
                exact Kf (by rw [w_]; decide) _ (by rw [w_]; exact cpo.st L C Xh14)
              · skip
                refine ⟨fun c8 => ?_, fun c8 => ?_⟩
                · skip
                  intro h16 eh16 Xh16
                  have w_ : wy_outside S x1 x2 x3 x4 = (5 : Int32) := by
                    unfold wy_outside
                    simp only [i3_lt, i3_le, i6_lt, i6_le, i3_eq, i3_l, Int32.reduceToInt, Int64.reduceToInt, tm_1, tl_1, fF, fO] at c1 c2 c3 c4 c5 c6 c7 c8
                    repeat' split
                    all_goals first | rfl | (exfalso; omega)
                  subst eh16
                  exact Kf (by rw [w_]; decide) _ (by rw [w_]; exact cpo.st L C Xh16)
                · skip
                  refine ⟨fun c9 => ?_, fun c9 => ?_⟩
                  · skip
                    refine ⟨?_, ?_⟩
                    · exact vp_x (by simp only [i3_lt, i3_le, i6_lt, i6_le, i3_eq, i3_l, Int32.reduceToInt, Int64.reduceToInt, tm_1, tl_1, fF, fO] at c1 c2 c3 c4 c5 c6 c7 c8 c9 ⊢; omega) (by simp only [i3_lt, i3_le, i6_lt, i6_le, i3_eq, i3_l, Int32.reduceToInt, Int64.reduceToInt, tm_1, tl_1, fF, fO] at c1 c2 c3 c4 c5 c6 c7 c8 c9 ⊢; omega)
                    intro h19 eh19 Xh19
                    intro h20 eh20 Xh20
                    intro h21 eh21 Xh21
                    intro h22 eh22 Xh22
                    intro h23 eh23 Xh23
                    intro h24 eh24 Xh24
                    have w_ : wy_outside S x1 x2 x3 x4 = (0 : Int32) := by
                      unfold wy_outside
                      simp only [i3_lt, i3_le, i6_lt, i6_le, i3_eq, i3_l, Int32.reduceToInt, Int64.reduceToInt, tm_1, tl_1, fF, fO] at c1 c2 c3 c4 c5 c6 c7 c8 c9
                      repeat' split
                      all_goals first | rfl | (exfalso; omega)
                    subst eh19
                    subst eh20
                    subst eh21
                    subst eh22
                    subst eh23
                    subst eh24
                    have cz : ah_I h X 36 = S.1 0 88 := C.1.2 0 36 88 (by decide)
                    have en : (S.1 0 88).toNatClampNeg = nO S := rfl
                    simp only [cz, en] at Xh19 Xh20 Xh21 Xh22 Xh23 Xh24 ⊢
                    have e_ := (((((C.1.pA (k := nO S) (v := x1) 1443 56 (by decide)).pA (k := nO S) (v := x2) 1444 57 (by decide)).pA (k := nO S) (v := x3) 1445 58 (by decide)).pA (k := nO S) (v := x4) 1446 59 (by decide)).pX (v := S.1 0 88 + 1) 36 88 (by decide)).pX (v := 0) 20 0 (by decide)
                    rw [uI_cm (a := 0) (k := 88) (b := 0) (j := 0) (Or.inr (by decide)), uI_cm (a := 59) (b := 0) (j := 0) (Or.inl (by decide)), uI_cm (a := 58) (b := 0) (j := 0) (Or.inl (by decide)), uI_cm (a := 57) (b := 0) (j := 0) (Or.inl (by decide)), uI_cm (a := 56) (b := 0) (j := 0) (Or.inl (by decide))] at e_
                    exact Kg w_ _ (cpo.mk L C ((((dyn.rf.wI (by decide)).wI (by decide)).wI (by decide)).wI (by decide)).zI.zI ((((cfr.rf.wI (by omega)).wI (by omega)).wI (by omega)).wI (by omega)).zI.zI (((((Xh19.tr Xh20).tr Xh21).tr Xh22).tr Xh23).tr Xh24) rfl e_ (wf_outside C.2.2.2.2.2 w_) ⟨⟨rfl, rfl, rfl, rfl, rfl, rfl, rfl, rfl⟩, ⟨rfl, rfl⟩, ⟨rfl, rfl, rfl, rfl, rfl, rfl, rfl, rfl, rfl, rfl, rfl⟩, rfl, rfl, rfl⟩)
                  · skip
                    intro h25 eh25 Xh25
                    have w_ : wy_outside S x1 x2 x3 x4 = (7 : Int32) := by
                      unfold wy_outside
                      simp only [i3_lt, i3_le, i6_lt, i6_le, i3_eq, i3_l, Int32.reduceToInt, Int64.reduceToInt, tm_1, tl_1, fF, fO] at c1 c2 c3 c4 c5 c6 c7 c8 c9
                      repeat' split
                      all_goals first | rfl | (exfalso; omega)
                    subst eh25
                    exact Kf (by rw [w_]; decide) _ (by rw [w_]; exact cpo.st L C Xh25)
theorem m_outside {G : ma_G} {d M : Nat} {h : ah_T} {S : MS} {Q : Option ma_V → ah_T → Prop} {E : Nat → ah_T → Prop} {x1 x2 x3 x4 : Int32} (L : LY8 h M) (eS : mv h M = S) (W : WF S) (B : WB S) (Kf : wy_outside S x1 x2 x3 x4 ≠ 0 → ∀ h1, mpo M h h1 (uI S 0 0 (wy_outside S x1 x2 x3 x4)) → Q (some (iv (-1))) h1) (Kg : wy_outside S x1 x2 x3 x4 = 0 → ∀ h1, mpo M h h1 (sg_outside S x1 x2 x3 x4) → Q (some (iv (S.1 0 88 + 1 - 1))) h1) : MX G mi_X8_outside (d + 2) 0 [some (rv M), some (iv x1), some (iv x2), some (iv x3), some (iv x4)] [] h Q E := by
  have qF := mk_F eS W
  have bF := mb_F W B
  have fF : (ah_I h M 5).toInt = (nF S : Int) := by rw [qF]; exact nI_x (by omega)
  have gF : (ah_I h M 5 - 1).toInt = (nF S : Int) - 1 := by rw [qF]; exact nI_m1 (by omega)
  have qO := mk_O eS W
  have bO := mb_O W B
  have fO : (ah_I h M 88).toInt = (nO S : Int) := by rw [qO]; exact nI_x (by omega)
  have gO : (ah_I h M 88 - 1).toInt = (nO S : Int) - 1 := by rw [qO]; exact nI_m1 (by omega)
  refine v_X8_outside L ?_
  intro h1 eh1 Xh1
  intro h2 eh2 Xh2
  refine ⟨fun c1 => ?_, fun c1 => ?_⟩
  · skip
    intro h4 eh4 Xh4
    have w_ : wy_outside S x1 x2 x3 x4 = (2 : Int32) := by
      unfold wy_outside
      simp only [i3_lt, i3_le, i6_lt, i6_le, i3_eq, i3_l, Int32.reduceToInt, Int64.reduceToInt, tm_1, tl_1, fF, gF, fO, gO] at c1
      repeat' split
      all_goals first | rfl | (exfalso; omega)
    subst eh1
    subst eh2
    subst eh4
    exact Kf (by rw [w_]; decide) _ (by rw [w_]; exact mpo.st eS)
  · skip
    refine ⟨fun c2 => ?_, fun c2 => ?_⟩
    · skip
      intro h6 eh6 Xh6
      have w_ : wy_outside S x1 x2 x3 x4 = (2 : Int32) := by
        unfold wy_outside
        simp only [i3_lt, i3_le, i6_lt, i6_le, i3_eq, i3_l, Int32.reduceToInt, Int64.reduceToInt, tm_1, tl_1, fF, gF, fO, gO] at c1 c2
        repeat' split
        all_goals first | rfl | (exfalso; omega)
      subst eh1
      subst eh2
      subst eh6
      exact Kf (by rw [w_]; decide) _ (by rw [w_]; exact mpo.st eS)
    · skip
      refine ⟨fun c3 => ?_, fun c3 => ?_⟩
      · skip
        intro h8 eh8 Xh8
        have w_ : wy_outside S x1 x2 x3 x4 = (5 : Int32) := by
          unfold wy_outside
          simp only [i3_lt, i3_le, i6_lt, i6_le, i3_eq, i3_l, Int32.reduceToInt, Int64.reduceToInt, tm_1, tl_1, fF, gF, fO, gO] at c1 c2 c3
          repeat' split
          all_goals first | rfl | (exfalso; omega)
        subst eh1
        subst eh2
        subst eh8
        exact Kf (by rw [w_]; decide) _ (by rw [w_]; exact mpo.st eS)
      · skip
        refine ⟨fun c4 => ?_, fun c4 => ?_⟩
        · skip
          intro h10 eh10 Xh10
          have w_ : wy_outside S x1 x2 x3 x4 = (5 : Int32) := by
            unfold wy_outside
            simp only [i3_lt, i3_le, i6_lt, i6_le, i3_eq, i3_l, Int32.reduceToInt, Int64.reduceToInt, tm_1, tl_1, fF, gF, fO, gO] at c1 c2 c3 c4
            repeat' split
            all_goals first | rfl | (exfalso; omega)
          subst eh1
          subst eh2
          subst eh10
          exact Kf (by rw [w_]; decide) _ (by rw [w_]; exact mpo.st eS)
        · skip
          refine ⟨fun c5 => ?_, fun c5 => ?_⟩
          · skip
            intro h12 eh12 Xh12
            have w_ : wy_outside S x1 x2 x3 x4 = (5 : Int32) := by
              unfold wy_outside
              simp only [i3_lt, i3_le, i6_lt, i6_le, i3_eq, i3_l, Int32.reduceToInt, Int64.reduceToInt, tm_1, tl_1, fF, gF, fO, gO] at c1 c2 c3 c4 c5
              repeat' split
              all_goals first | rfl | (exfalso; omega)
            subst eh1
            subst eh2
            subst eh12
            exact Kf (by rw [w_]; decide) _ (by rw [w_]; exact mpo.st eS)
          · skip
            refine ⟨fun c6 => ?_, fun c6 => ?_⟩
            · skip
              intro h14 eh14 Xh14
              have w_ : wy_outside S x1 x2 x3 x4 = (5 : Int32) := by
                unfold wy_outside
                simp only [i3_lt, i3_le, i6_lt, i6_le, i3_eq, i3_l, Int32.reduceToInt, Int64.reduceToInt, tm_1, tl_1, fF, gF, fO, gO] at c1 c2 c3 c4 c5 c6
                repeat' split
                all_goals first | rfl | (exfalso; omega)
              subst eh1
              subst eh2
              subst eh14
              exact Kf (by rw [w_]; decide) _ (by rw [w_]; exact mpo.st eS)
            · skip
              refine ⟨fun c7 => ?_, fun c7 => ?_⟩
              · skip
                intro h16 eh16 Xh16
                have w_ : wy_outside S x1 x2 x3 x4 = (5 : Int32) := by
                  unfold wy_outside
                  simp only [i3_lt, i3_le, i6_lt, i6_le, i3_eq, i3_l, Int32.reduceToInt, Int64.reduceToInt, tm_1, tl_1, fF, gF, fO, gO] at c1 c2 c3 c4 c5 c6 c7
                  repeat' split
                  all_goals first | rfl | (exfalso; omega)
                subst eh1
                subst eh2
                subst eh16
                exact Kf (by rw [w_]; decide) _ (by rw [w_]; exact mpo.st eS)
              · skip
                refine ⟨fun c8 => ?_, fun c8 => ?_⟩
                · skip
                  intro h18 eh18 Xh18
                  have w_ : wy_outside S x1 x2 x3 x4 = (5 : Int32) := by
                    unfold wy_outside
                    simp only [i3_lt, i3_le, i6_lt, i6_le, i3_eq, i3_l, Int32.reduceToInt, Int64.reduceToInt, tm_1, tl_1, fF, gF, fO, gO] at c1 c2 c3 c4 c5 c6 c7 c8
                    repeat' split
                    all_goals first | rfl | (exfalso; omega)
                  subst eh1
                  subst eh2
                  subst eh18
                  exact Kf (by rw [w_]; decide) _ (by rw [w_]; exact mpo.st eS)
                · skip
                  refine ⟨fun c9 => ?_, fun c9 => ?_⟩
                  · skip
                    refine ⟨?_, ?_⟩
                    · exact vp_x (by simp only [i3_lt, i3_le, i6_lt, i6_le, i3_eq, i3_l, Int32.reduceToInt, Int64.reduceToInt, tm_1, tl_1, fF, gF, fO, gO] at c1 c2 c3 c4 c5 c6 c7 c8 c9 ⊢; omega) (by simp only [i3_lt, i3_le, i6_lt, i6_le, i3_eq, i3_l, Int32.reduceToInt, Int64.reduceToInt, tm_1, tl_1, fF, gF, fO, gO] at c1 c2 c3 c4 c5 c6 c7 c8 c9 ⊢; omega)
                    intro h21 eh21 Xh21
                    intro h22 eh22 Xh22
                    intro h23 eh23 Xh23
                    intro h24 eh24 Xh24
                    intro h25 eh25 Xh25
                    have w_ : wy_outside S x1 x2 x3 x4 = (0 : Int32) := by
                      unfold wy_outside
                      simp only [i3_lt, i3_le, i6_lt, i6_le, i3_eq, i3_l, Int32.reduceToInt, Int64.reduceToInt, tm_1, tl_1, fF, gF, fO, gO] at c1 c2 c3 c4 c5 c6 c7 c8 c9
                      repeat' split
                      all_goals first | rfl | (exfalso; omega)
                    subst eh1
                    subst eh2
                    subst eh21
                    subst eh22
                    subst eh23
                    subst eh24
                    subst eh25
                    have en : (S.1 0 88).toNatClampNeg = nO S := rfl
                    simp only [mk_z0 eS 88, en]
                    exact Kg w_ _ (mpo.mk (A := [56, 57, 58, 59]) (Z := [0, 1, 88]) (by decide) (((((((mch.rf.zI (by decide)).zI (by decide)).wI (by decide)).wI (by decide)).wI (by decide)).wI (by decide)).zI (by decide)) (by rw [mv_zI, mv_wI, mv_wI, mv_wI, mv_wI, mv_zI, mv_zI, eS]; exact (((((((kept.rf.sI (by decide) (by decide)).cI).cI).cI).cI).cI).cI)))
                  · skip
                    intro h26 eh26 Xh26
                    have w_ : wy_outside S x1 x2 x3 x4 = (7 : Int32) := by
                      unfold wy_outside
                      simp only [i3_lt, i3_le, i6_lt, i6_le, i3_eq, i3_l, Int32.reduceToInt, Int64.reduceToInt, tm_1, tl_1, fF, gF, fO, gO] at c1 c2 c3 c4 c5 c6 c7 c8 c9
                      repeat' split
                      all_goals first | rfl | (exfalso; omega)
                    subst eh1
                    subst eh2
                    subst eh26
                    exact Kf (by rw [w_]; decide) _ (by rw [w_]; exact mpo.st eS)

/-! ===== a new elevator ===== -/
/-- what is new isn't in the way of what was -/
theorem fre.dy {P : Nat → Nat → Prop} {e : Nat × Nat} {X : Nat} {l : List Nat} {h h' : ah_T} (x : fre l h h') (q : ∀ b, b ∈ l → ah_kd h b = 0) : dyn P e X h h' := by
  have n : ∀ a, ah_kd h a ≠ 0 → a ∉ l := fun a ha hl => ha (q a hl)
  exact ⟨fun a ha => ⟨(x a (n a ha)).1, (x a (n a ha)).2.1⟩, fun a k _ ha _ => ((x a (n a ha)).2.2 k).2.2, fun a k _ _ ha _ => ⟨((x a (n a ha)).2.2 k).1, ((x a (n a ha)).2.2 k).2.1⟩⟩
theorem c_X10_init {G : ma_G} {d F : Nat} {h : ah_T} {Q : Option ma_V → ah_T → Prop} {E : Nat → ah_T → Prop} {x1 x2 : Int32} (hk : ah_kd h F = 11) (K : ∀ h', fre [F] h h' → h'.1 = h.1 → ah_kd h' F = 11 → ah_I h' F 0 = x1 → Q none h') : MX G mi_X10_init (d + 1) 0 [some (rv F), some (iv x1), some (iv x2)] [] h Q E := by
  refine v_X10_init ⟨by rw [hk]; decide, hk, ?_⟩
  intro g3 q3 _ g4 q4 _
  subst q3; subst q4
  exact K _ ((fre.rf.wI List.mem_cons_self).wI List.mem_cons_self) rfl hk (by rw [rd_Ik (by decide), rd_Ih])
def wy_elevator (S : MS) (x1 x2 : Int32) : Int32 := if (0 ≤ x1.toInt ∧ x1.toInt ≤ 5) then (if (1 ≤ x2.toInt ∧ x2.toInt ≤ 1000000) then (if nE S = 8 then 7 else 0) else 5) else 2
def sg_elevator (S : MS) (x1 x2 : Int32) : MS := uI (uI (uI (uI S 0 0 0) 7 (nE S) x1) 8 (nE S) x2) 0 6 (S.1 0 6 + 1)
theorem wf_elevator {S : MS} {x1 x2 : Int32} (W : WF S) (w : wy_elevator S x1 x2 = 0) (h8 : nE S ≤ 8) : WF (sg_elevator S x1 x2) := by
  have hw : inR x1 0 5 ∧ inR x2 1 1000000 ∧ nE S ≠ 8 := by
    unfold wy_elevator at w
    repeat' split at w
    all_goals first | exact absurd w (by decide) | exact ⟨by assumption, by assumption, by assumption⟩
  obtain ⟨⟨b1, b2, b3⟩, a2, a3, a4, a5, a6, a7⟩ := W
  have ho : S.1 0 6 + 1 = nI (nE S + 1) := by rw [b2, nI_1]
  have hn : nE (sg_elevator S x1 x2) = nE S + 1 := by
    show (S.1 0 6 + 1).toNatClampNeg = _
    rw [ho, nI_clamp (by omega)]
  refine ⟨⟨b1, ?_, b3⟩, a2, ?_, ?_, a5, a6, a7⟩
  · rw [hn]; exact ho
  · rw [hn]
    intro f hf
    show inR (if f = nE S then x1 else S.1 7 f) 0 5 ∧ inR (if f = nE S then x2 else S.1 8 f) 1 1000000
    rcases Nat.decEq f (nE S) with c | c
    · simp only [if_neg c]; exact a3 f (by omega)
    · simp only [if_pos c]; exact ⟨hw.1, hw.2.1⟩
  · rw [hn]
    intro k hk
    obtain ⟨q1, q2, q3⟩ := a4 k hk
    refine ⟨q1, q2, ?_⟩
    have mn : ∀ x : Int32, inR x 0 ((nE S : Int) - 1) → inR x 0 (((nE S + 1 : Nat) : Int) - 1) := fun x hx => ⟨hx.1, by have := hx.2; omega⟩
    rcases q3 with q | q | q | q
    · exact Or.inl ⟨q.1, q.2.1, mn _ q.2.2.1, q.2.2.2⟩
    · exact Or.inr (Or.inl ⟨q.1, mn _ q.2.1, q.2.2⟩)
    · exact Or.inr (Or.inr (Or.inl q))
    · exact Or.inr (Or.inr (Or.inr ⟨q.1, mn _ q.2.1, q.2.2⟩))
theorem c_elevator {G : ma_G} {d X : Nat} {h : ah_T} {S : MS} {Q : Option ma_V → ah_T → Prop} {E : Nat → ah_T → Prop} {x1 x2 : Int32} (L : LY0 h X) (C : CI0 h X S) (RM : X + 1576 ≤ ah_sz h ∧ 4000 ≤ ah_rc h ∧ 40000 ≤ ah_rs h) (Kf : wy_elevator S x1 x2 ≠ 0 → ∀ h1, cpo X h h1 (uI S 0 0 (wy_elevator S x1 x2)) → Q (some (iv (-1))) h1) (Kg : wy_elevator S x1 x2 = 0 → ∀ h1, cpo X h h1 (sg_elevator S x1 x2) → Q (some (iv (S.1 0 6 + 1 - 1))) h1) : MX G mi_X0_elevator (d + 2) 0 [some (rv X), some (iv x1), some (iv x2)] [] h Q E := by
  have bE := C.iE.2
  have fE : (ah_I h X 15).toInt = (nE S : Int) := by rw [C.iE.1]; exact nI_x (by omega)
  refine v_X0_elevator (d := d + 1) L ?_
  refine ⟨fun c1 => ?_, fun c1 => ?_⟩
  · skip
    intro h2 eh2 Xh2
    have w_ : wy_elevator S x1 x2 = (2 : Int32) := by
      unfold wy_elevator
      simp only [i3_lt, i3_le, i6_lt, i6_le, i3_eq, i3_l, Int32.reduceToInt, Int64.reduceToInt, tm_1, tl_1, fE] at c1
      repeat' split
      all_goals first | rfl | (exfalso; omega)
    subst eh2
    exact Kf (by rw [w_]; decide) _ (by rw [w_]; exact cpo.st L C Xh2)
  · skip
    refine ⟨fun c2 => ?_, fun c2 => ?_⟩
    · skip
      intro h4 eh4 Xh4
      have w_ : wy_elevator S x1 x2 = (2 : Int32) := by
        unfold wy_elevator
        simp only [i3_lt, i3_le, i6_lt, i6_le, i3_eq, i3_l, Int32.reduceToInt, Int64.reduceToInt, tm_1, tl_1, fE] at c1 c2
        repeat' split
        all_goals first | rfl | (exfalso; omega)
      subst eh4
      exact Kf (by rw [w_]; decide) _ (by rw [w_]; exact cpo.st L C Xh4)
    · skip
      refine ⟨fun c3 => ?_, fun c3 => ?_⟩
      · skip
        intro h6 eh6 Xh6
        have w_ : wy_elevator S x1 x2 = (5 : Int32) := by
          unfold wy_elevator
          simp only [i3_lt, i3_le, i6_lt, i6_le, i3_eq, i3_l, Int32.reduceToInt, Int64.reduceToInt, tm_1, tl_1, fE] at c1 c2 c3
          repeat' split
          all_goals first | rfl | (exfalso; omega)
        subst eh6
        exact Kf (by rw [w_]; decide) _ (by rw [w_]; exact cpo.st L C Xh6)
      · skip
        refine ⟨fun c4 => ?_, fun c4 => ?_⟩
        · skip
          intro h8 eh8 Xh8
          have w_ : wy_elevator S x1 x2 = (5 : Int32) := by
            unfold wy_elevator
            simp only [i3_lt, i3_le, i6_lt, i6_le, i3_eq, i3_l, Int32.reduceToInt, Int64.reduceToInt, tm_1, tl_1, fE] at c1 c2 c3 c4
            repeat' split
            all_goals first | rfl | (exfalso; omega)
          subst eh8
          exact Kf (by rw [w_]; decide) _ (by rw [w_]; exact cpo.st L C Xh8)
        · skip
          refine ⟨fun c5 => ?_, fun c5 => ?_⟩
          · skip
            refine ⟨?_, ?_⟩
            · exact ⟨by omega, by omega⟩
            intro h11 eh11 Xh11 lv_h11
            have w_ : wy_elevator S x1 x2 = (0 : Int32) := by
              unfold wy_elevator
              simp only [i3_lt, i3_le, i6_lt, i6_le, i3_eq, i3_l, Int32.reduceToInt, Int64.reduceToInt, tm_1, tl_1, fE] at c1 c2 c3 c4 c5
              repeat' split
              all_goals first | rfl | (exfalso; omega)
            subst eh11
            have F0 := liv_0 lv_h11
            have hs := RM.1
            have r1 : 4000 ≤ h.1.2.1 := RM.2.1
            have r2 : 40000 ≤ h.1.2.2 := RM.2.2
            have cz : ah_I h X 15 = S.1 0 6 := C.1.2 0 15 6 (by decide)
            have en : (S.1 0 6).toNatClampNeg = nE S := rfl
            have cv : S.1 0 6 = nI (nE S) := C.2.2.2.2.2.1.2.1
            have hlt : nE S < 8 := by simp only [i3_lt, i3_le, i6_lt, i6_le, i3_eq, i3_l, Int32.reduceToInt, Int64.reduceToInt, tm_1, tl_1, fE] at c5; omega
            refine c_X10_init (h := ah_new h 11 0 2) (F := ah_sz h) (by rw [rn_k, if_pos rfl]) ?_
            intro g fg g1 k1 v0 x13
            have fg1 : fre [ah_sz h] h g := (fre.nw fre.rf List.mem_cons_self).tr fg
            have nX : ∀ c, c < 1576 → X + c ∉ [ah_sz h] := fun c hc => by simp only [List.mem_cons, List.not_mem_nil, or_false]; omega
            have n0 : X ∉ [ah_sz h] := nX 0 (by decide)
            have cz' : ah_I g X 15 = S.1 0 6 := (fg1.I n0 15).trans cz
            have vp8 : vp_in (S.1 0 6) 8 := vp_x (by rw [cv, nI_x (by omega)]; omega) (by rw [cv, nI_x (by omega)]; omega)
            rw [cz', cz, en]
            refine ⟨vp8, ?_, ?_⟩
            · rw [fg1.R (nX 3 (by decide))]
              exact (C.2.2.1.2 (nE S) (by omega)).2 (Nat.le_refl _)
            intro h18 e18 X18
            refine ⟨vp8, ?_⟩
            intro h20 e20 X20 h21 e21 X21 h22 e22 X22
            subst e18; subst e20; subst e21; subst e22
            have z0 : dyn pT (X + 3, nE S) X h g := fg1.dy (fun b hb => by rw [List.mem_singleton.mp hb]; exact F0)
            have z : dyn pT (X + 3, nE S) X h _ := ((((z0.oR' (a := X + 3) (k := nE S) (v := ah_sz h) rfl).wI (c := 96) (k := nE S) (v := x2) (by decide)).zI (k := 15) (v := S.1 0 6 + 1)).zI (k := 20) (v := 0))
            have xt := (((((Xh11.tr x13).tr X18).tr X20).tr X21).tr X22)
            have e_ := (((((C.1.sm (h' := g) (fun c k hc => fg1.I (nX c (by omega)) k)).sR (a := X + 3) (k := nE S) (v := ah_sz h)).pA (k := nE S) (v := x2) 96 8 (by decide)).pX (v := S.1 0 6 + 1) 15 6 (by decide)).pX (v := 0) 20 0 (by decide))
            rw [uI_cm (a := 0) (k := 6) (b := 0) (j := 0) (Or.inr (by decide)), uI_cm (a := 8) (b := 0) (j := 0) (Or.inl (by decide))] at e_
            have e1 := e_.cA (m := 7) (k := nE S) (v := x1) (ctA_n rfl) (by decide)
            rw [uI_cm (a := 0) (k := 6) (b := 7) (Or.inl (by decide)), uI_cm (a := 8) (b := 7) (Or.inl (by decide))] at e1
            have hn : nE (sg_elevator S x1 x2) = nE S + 1 := by
              show (S.1 0 6 + 1).toNatClampNeg = _
              rw [cv, nI_1, nI_clamp (by omega)]
            have nF2 : ah_sz h ≠ X + 3 := by omega
            have nF0 : ah_sz h ≠ X := by omega
            have nF9 : ah_sz h ≠ X + 96 := by omega
            refine Kg w_ _ ⟨L.ext xt, ⟨e1, ?_, ?_, ?_, ?_, wf_elevator C.2.2.2.2.2 w_ C.2.2.1.1⟩, ?_, xt, ?_, ?_, ?_⟩
            · exact C.2.1.dy L z (fun _ => ⟨trivial, trivial⟩) ⟨by show X + 3 < _; omega, by show X + 3 ≠ _; omega⟩
            · rw [hn]
              refine C.2.2.1.add L hlt z (F := ah_sz h) hs ?_ k1 ?_
              · rw [rd_RI, rd_RI, rd_RI, rd_RR, if_pos ⟨rfl, rfl⟩]
              · rw [rd_Ia nF0, rd_Ia nF0, rd_Ia nF9, rd_IR, v0]
            · exact C.2.2.2.1.dy L z (fun _ _ _ _ _ => trivial) ⟨by show X + 3 < _; omega, by show X + 3 ≠ _; omega⟩ (fun q => absurd q (by show X + 3 ≠ X + 2; omega))
            · exact C.2.2.2.2.1.dy L z (fun _ _ _ => trivial) (by show X + 3 < _; omega)
            · exact (((((fg1.mn (l' := [ah_sz h, X, X + 3, X + 96]) (fun b hb => by simp only [List.mem_cons, List.not_mem_nil, or_false] at hb ⊢; omega)).wR (by simp)).wI (by simp)).wI (by simp)).wI (by simp)).cfr (fun b hb => by simp only [List.mem_cons, List.not_mem_nil, or_false] at hb; omega)
            · show h.1.2.1 ≤ g.1.2.1 + 4000
              rw [g1]; show h.1.2.1 ≤ h.1.2.1 - 1 + 4000; omega
            · show h.1.2.2 ≤ g.1.2.2 + 40000
              rw [g1]; show h.1.2.2 ≤ h.1.2.2 - 2 + 40000; omega
            · exact z.lf L ⟨by show X + 3 < _; omega, by show X + 3 ≠ _; omega, by show ah_kd h (X + 3) ≠ 50; rw [ly0_K_3 L]; decide⟩ (fun _ _ _ => trivial)
          · skip
            intro h23 eh23 Xh23
            have w_ : wy_elevator S x1 x2 = (7 : Int32) := by
              unfold wy_elevator
              simp only [i3_lt, i3_le, i6_lt, i6_le, i3_eq, i3_l, Int32.reduceToInt, Int64.reduceToInt, tm_1, tl_1, fE] at c1 c2 c3 c4 c5
              repeat' split
              all_goals first | rfl | (exfalso; omega)
            subst eh23
            exact Kf (by rw [w_]; decide) _ (by rw [w_]; exact cpo.st L C Xh23)
theorem m_elevator {G : ma_G} {d M : Nat} {h : ah_T} {S : MS} {Q : Option ma_V → ah_T → Prop} {E : Nat → ah_T → Prop} {x1 x2 : Int32} (L : LY8 h M) (eS : mv h M = S) (W : WF S) (B : WB S) (Kf : wy_elevator S x1 x2 ≠ 0 → ∀ h1, mpo M h h1 (uI S 0 0 (wy_elevator S x1 x2)) → Q (some (iv (-1))) h1) (Kg : wy_elevator S x1 x2 = 0 → ∀ h1, mpo M h h1 (sg_elevator S x1 x2) → Q (some (iv (S.1 0 6 + 1 - 1))) h1) : MX G mi_X8_elevator (d + 1) 0 [some (rv M), some (iv x1), some (iv x2)] [] h Q E := by
  have qE := mk_E eS W
  have bE := mb_E W B
  have fE : (ah_I h M 6).toInt = (nE S : Int) := by rw [qE]; exact nI_x (by omega)
  have gE : (ah_I h M 6 - 1).toInt = (nE S : Int) - 1 := by rw [qE]; exact nI_m1 (by omega)
  refine v_X8_elevator L ?_
  intro h1 eh1 Xh1
  intro h2 eh2 Xh2
  refine ⟨fun c1 => ?_, fun c1 => ?_⟩
  · skip
    intro h4 eh4 Xh4
    have w_ : wy_elevator S x1 x2 = (2 : Int32) := by
      unfold wy_elevator
      simp only [i3_lt, i3_le, i6_lt, i6_le, i3_eq, i3_l, Int32.reduceToInt, Int64.reduceToInt, tm_1, tl_1, fE, gE] at c1
      repeat' split
      all_goals first | rfl | (exfalso; omega)
    subst eh1
    subst eh2
    subst eh4
    exact Kf (by rw [w_]; decide) _ (by rw [w_]; exact mpo.st eS)
  · skip
    refine ⟨fun c2 => ?_, fun c2 => ?_⟩
    · skip
      intro h6 eh6 Xh6
      have w_ : wy_elevator S x1 x2 = (2 : Int32) := by
        unfold wy_elevator
        simp only [i3_lt, i3_le, i6_lt, i6_le, i3_eq, i3_l, Int32.reduceToInt, Int64.reduceToInt, tm_1, tl_1, fE, gE] at c1 c2
        repeat' split
        all_goals first | rfl | (exfalso; omega)
      subst eh1
      subst eh2
      subst eh6
      exact Kf (by rw [w_]; decide) _ (by rw [w_]; exact mpo.st eS)
    · skip
      refine ⟨fun c3 => ?_, fun c3 => ?_⟩
      · skip
        intro h8 eh8 Xh8
        have w_ : wy_elevator S x1 x2 = (5 : Int32) := by
          unfold wy_elevator
          simp only [i3_lt, i3_le, i6_lt, i6_le, i3_eq, i3_l, Int32.reduceToInt, Int64.reduceToInt, tm_1, tl_1, fE, gE] at c1 c2 c3
          repeat' split
          all_goals first | rfl | (exfalso; omega)
        subst eh1
        subst eh2
        subst eh8
        exact Kf (by rw [w_]; decide) _ (by rw [w_]; exact mpo.st eS)
      · skip
        refine ⟨fun c4 => ?_, fun c4 => ?_⟩
        · skip
          intro h10 eh10 Xh10
          have w_ : wy_elevator S x1 x2 = (5 : Int32) := by
            unfold wy_elevator
            simp only [i3_lt, i3_le, i6_lt, i6_le, i3_eq, i3_l, Int32.reduceToInt, Int64.reduceToInt, tm_1, tl_1, fE, gE] at c1 c2 c3 c4
            repeat' split
            all_goals first | rfl | (exfalso; omega)
          subst eh1
          subst eh2
          subst eh10
          exact Kf (by rw [w_]; decide) _ (by rw [w_]; exact mpo.st eS)
        · skip
          refine ⟨fun c5 => ?_, fun c5 => ?_⟩
          · skip
            refine ⟨?_, ?_⟩
            · exact vp_x (by simp only [i3_lt, i3_le, i6_lt, i6_le, i3_eq, i3_l, Int32.reduceToInt, Int64.reduceToInt, tm_1, tl_1, fE, gE] at c1 c2 c3 c4 c5 ⊢; omega) (by simp only [i3_lt, i3_le, i6_lt, i6_le, i3_eq, i3_l, Int32.reduceToInt, Int64.reduceToInt, tm_1, tl_1, fE, gE] at c1 c2 c3 c4 c5 ⊢; omega)
            intro h13 eh13 Xh13
            intro h14 eh14 Xh14
            intro h15 eh15 Xh15
            have w_ : wy_elevator S x1 x2 = (0 : Int32) := by
              unfold wy_elevator
              simp only [i3_lt, i3_le, i6_lt, i6_le, i3_eq, i3_l, Int32.reduceToInt, Int64.reduceToInt, tm_1, tl_1, fE, gE] at c1 c2 c3 c4 c5
              repeat' split
              all_goals first | rfl | (exfalso; omega)
            subst eh1
            subst eh2
            subst eh13
            subst eh14
            subst eh15
            have en : (S.1 0 6).toNatClampNeg = nE S := rfl
            simp only [mk_z0 eS 6, en]
            exact Kg w_ _ (mpo.mk (A := [7, 8]) (Z := [0, 1, 6]) (by decide) (((((mch.rf.zI (by decide)).zI (by decide)).wI (by decide)).wI (by decide)).zI (by decide)) (by rw [mv_zI, mv_wI, mv_wI, mv_zI, mv_zI, eS]; exact (((((kept.rf.sI (by decide) (by decide)).cI).cI).cI).cI)))
          · skip
            intro h16 eh16 Xh16
            have w_ : wy_elevator S x1 x2 = (7 : Int32) := by
              unfold wy_elevator
              simp only [i3_lt, i3_le, i6_lt, i6_le, i3_eq, i3_l, Int32.reduceToInt, Int64.reduceToInt, tm_1, tl_1, fE, gE] at c1 c2 c3 c4 c5
              repeat' split
              all_goals first | rfl | (exfalso; omega)
            subst eh1
            subst eh2
            subst eh16
            exact Kf (by rw [w_]; decide) _ (by rw [w_]; exact mpo.st eS)

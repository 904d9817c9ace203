/-! ===== calls that write a farm ===== -/
section
variable {h h' : ah_T} {X : Nat} {S S' : MS} {nf : Nat} {di ac de sf st vo le : Nat → Int32}
theorem cl_lt {x : Int32} {n : Nat} (h0 : 0 ≤ x.toInt) (h1 : x.toInt ≤ (n : Int) - 1) : x.toNatClampNeg < n := by
  have e : x.toNatClampNeg = x.toInt.toNat := rfl
  omega
theorem CIf.at_ (x : CIf h X nf di ac de sf st vo le) {f : Nat} (hf : f < nf) : X + 1576 ≤ ah_R h (X + 2) f ∧ ah_kd h (ah_R h (X + 2) f) = 10 ∧ ah_R h (ah_R h (X + 2) f) 7 = ah_R h (X + 2) f + 1 ∧ ah_kd h (ah_R h (X + 2) f + 1) = 44 ∧ ah_ln h (ah_R h (X + 2) f + 1) = 10 := by
  obtain ⟨p1, p2, p3, p4, p5, -⟩ := (x.2 f (by have := x.1; omega)).1 hf
  exact ⟨p1, p2, p3, p4, p5⟩
/-- two farms are two objects -/
theorem CIf.ne (x : CIf h X nf di ac de sf st vo le) {f g : Nat} (hf : f < nf) (hg : g < nf) (n : g ≠ f) : ah_R h (X + 2) g ≠ ah_R h (X + 2) f := fun e => by
  have h20 := x.1
  obtain ⟨-, -, -, -, -, p6, -⟩ := (x.2 f (by omega)).1 hf
  obtain ⟨-, -, -, -, -, q6, -⟩ := (x.2 g (by omega)).1 hg
  rw [e, p6] at q6
  exact n ((nI_eq (by omega) (by omega)).mp q6).symm
theorem CIf.w4 (x : CIf h X nf di ac de sf st vo le) {f : Nat} (hf : f < nf) {v : Int32} : CIf (ah_wI h (ah_R h (X + 2) f) 4 v) X nf di ac de (fun j => if j = f then v else sf j) st vo le := by
  have h20 := x.1
  obtain ⟨f1, f2, f3, f4, f5⟩ := x.at_ hf
  refine ⟨h20, fun g hg => ⟨fun hn => ?_, (x.2 g hg).2⟩⟩
  obtain ⟨p1, p2, p3, p4, p5, p6, p7, p8, p9, p10, p11, p12, p13⟩ := (x.2 g hg).1 hn
  have n1 : ah_R h (X + 2) g + 1 ≠ ah_R h (X + 2) f := fun e => by rw [e, f2] at p4; exact absurd p4 (by decide)
  have e1 : ∀ k, k ≠ 4 → ah_I (ah_wI h (ah_R h (X + 2) f) 4 v) (ah_R h (X + 2) g) k = ah_I h (ah_R h (X + 2) g) k := fun k hk => rd_Ik hk
  have e2 : ∀ w : Nat → Int32, ah_I h (ah_R h (X + 2) g) 4 = w g → ah_I (ah_wI h (ah_R h (X + 2) f) 4 v) (ah_R h (X + 2) g) 4 = if g = f then v else w g := fun w hw => by
    rcases Nat.decEq g f with c | c
    · rw [if_neg c, rd_Ia (x.ne hf hn c)]; exact hw
    · subst c; rw [if_pos rfl, rd_Ih]
  exact ⟨p1, p2, p3, p4, p5, (e1 0 (by decide)).trans p6, (e1 1 (by decide)).trans p7, (e1 2 (by decide)).trans p8, (e1 3 (by decide)).trans p9, e2 sf p10, (e1 5 (by decide)).trans p11, (e1 6 (by decide)).trans p12, fun y hy => (rd_Ia n1).trans (p13 y hy)⟩
theorem CIf.w5 (x : CIf h X nf di ac de sf st vo le) {f : Nat} (hf : f < nf) {v : Int32} : CIf (ah_wI h (ah_R h (X + 2) f) 5 v) X nf di ac de sf (fun j => if j = f then v else st j) vo le := by
  have h20 := x.1
  obtain ⟨f1, f2, f3, f4, f5⟩ := x.at_ hf
  refine ⟨h20, fun g hg => ⟨fun hn => ?_, (x.2 g hg).2⟩⟩
  obtain ⟨p1, p2, p3, p4, p5, p6, p7, p8, p9, p10, p11, p12, p13⟩ := (x.2 g hg).1 hn
  have n1 : ah_R h (X + 2) g + 1 ≠ ah_R h (X + 2) f := fun e => by rw [e, f2] at p4; exact absurd p4 (by decide)
  have e1 : ∀ k, k ≠ 5 → ah_I (ah_wI h (ah_R h (X + 2) f) 5 v) (ah_R h (X + 2) g) k = ah_I h (ah_R h (X + 2) g) k := fun k hk => rd_Ik hk
  have e2 : ∀ w : Nat → Int32, ah_I h (ah_R h (X + 2) g) 5 = w g → ah_I (ah_wI h (ah_R h (X + 2) f) 5 v) (ah_R h (X + 2) g) 5 = if g = f then v else w g := fun w hw => by
    rcases Nat.decEq g f with c | c
    · rw [if_neg c, rd_Ia (x.ne hf hn c)]; exact hw
    · subst c; rw [if_pos rfl, rd_Ih]
  exact ⟨p1, p2, p3, p4, p5, (e1 0 (by decide)).trans p6, (e1 1 (by decide)).trans p7, (e1 2 (by decide)).trans p8, (e1 3 (by decide)).trans p9, (e1 4 (by decide)).trans p10, e2 st p11, (e1 6 (by decide)).trans p12, fun y hy => (rd_Ia n1).trans (p13 y hy)⟩
theorem CIf.w6 (x : CIf h X nf di ac de sf st vo le) {f : Nat} (hf : f < nf) {v : Int32} : CIf (ah_wI h (ah_R h (X + 2) f) 6 v) X nf di ac de sf st (fun j => if j = f then v else vo j) le := by
  have h20 := x.1
  obtain ⟨f1, f2, f3, f4, f5⟩ := x.at_ hf
  refine ⟨h20, fun g hg => ⟨fun hn => ?_, (x.2 g hg).2⟩⟩
  obtain ⟨p1, p2, p3, p4, p5, p6, p7, p8, p9, p10, p11, p12, p13⟩ := (x.2 g hg).1 hn
  have n1 : ah_R h (X + 2) g + 1 ≠ ah_R h (X + 2) f := fun e => by rw [e, f2] at p4; exact absurd p4 (by decide)
  have e1 : ∀ k, k ≠ 6 → ah_I (ah_wI h (ah_R h (X + 2) f) 6 v) (ah_R h (X + 2) g) k = ah_I h (ah_R h (X + 2) g) k := fun k hk => rd_Ik hk
  have e2 : ∀ w : Nat → Int32, ah_I h (ah_R h (X + 2) g) 6 = w g → ah_I (ah_wI h (ah_R h (X + 2) f) 6 v) (ah_R h (X + 2) g) 6 = if g = f then v else w g := fun w hw => by
    rcases Nat.decEq g f with c | c
    · rw [if_neg c, rd_Ia (x.ne hf hn c)]; exact hw
    · subst c; rw [if_pos rfl, rd_Ih]
  exact ⟨p1, p2, p3, p4, p5, (e1 0 (by decide)).trans p6, (e1 1 (by decide)).trans p7, (e1 2 (by decide)).trans p8, (e1 3 (by decide)).trans p9, (e1 4 (by decide)).trans p10, (e1 5 (by decide)).trans p11, e2 vo p12, fun y hy => (rd_Ia n1).trans (p13 y hy)⟩
theorem CIf.wL (x : CIf h X nf di ac de sf st vo le) {f y : Nat} (hf : f < nf) (hy : y < 10) {v : Int32} : CIf (ah_wI h (ah_R h (X + 2) f + 1) y v) X nf di ac de sf st vo (fun j => if j = 10 * f + y then v else le j) := by
  have h20 := x.1
  obtain ⟨f1, f2, f3, f4, f5⟩ := x.at_ hf
  refine ⟨h20, fun g hg => ⟨fun hn => ?_, (x.2 g hg).2⟩⟩
  obtain ⟨p1, p2, p3, p4, p5, p6, p7, p8, p9, p10, p11, p12, p13⟩ := (x.2 g hg).1 hn
  have n1 : ah_R h (X + 2) g ≠ ah_R h (X + 2) f + 1 := fun e => by rw [e, f4] at p2; exact absurd p2 (by decide)
  have e1 : ∀ k, ah_I (ah_wI h (ah_R h (X + 2) f + 1) y v) (ah_R h (X + 2) g) k = ah_I h (ah_R h (X + 2) g) k := fun k => rd_Ia n1
  refine ⟨p1, p2, p3, p4, p5, (e1 0).trans p6, (e1 1).trans p7, (e1 2).trans p8, (e1 3).trans p9, (e1 4).trans p10, (e1 5).trans p11, (e1 6).trans p12, fun z hz => ?_⟩
  show ah_I (ah_wI h (ah_R h (X + 2) f + 1) y v) (ah_R h (X + 2) g + 1) z = if 10 * g + z = 10 * f + y then v else le (10 * g + z)
  rw [rd_II]
  rcases Nat.decEq g f with c | c
  · have := x.ne hf hn c
    rw [if_neg (by omega), if_neg (by omega)]; exact p13 z hz
  · subst c
    rcases Nat.decEq z y with c | c
    · rw [if_neg (by omega), if_neg (by omega)]; exact p13 z hz
    · rw [if_pos ⟨rfl, c⟩, if_pos (by omega)]
theorem cpo.mkF (L : LY0 h X) (x : CI0 h X S) (z : dyn pF (X + 5, 0) X h h') (c : cfr X h h') (t : ah_ext h h') (e1 : h'.1 = h.1) (q : CIs h' X S') (f : CIf h' X (nF S') (S'.1 4) (S'.1 5) (S'.1 6) (S'.1 53) (S'.1 54) (S'.1 55) (S'.1 61)) (w : WF S')
    (e : (nE S' = nE S ∧ S'.1 7 = S.1 7) ∧ (nV S' = nV S ∧ S'.1 9 = S.1 9 ∧ S'.1 10 = S.1 10 ∧ S'.1 11 = S.1 11 ∧ S'.1 12 = S.1 12 ∧ S'.1 13 = S.1 13 ∧ S'.1 14 = S.1 14 ∧ S'.1 15 = S.1 15 ∧ S'.1 16 = S.1 16 ∧ S'.1 17 = S.1 17 ∧ S'.1 18 = S.1 18) ∧ S'.1 1 = S.1 1 ∧ S'.1 2 = S.1 2 ∧ S'.2 3 = S.2 3) : cpo X h h' S' := by
  obtain ⟨⟨b1, b2⟩, ⟨c1, c2, c3, c4, c5, c6, c7, c8, c9, c10, c11⟩, d1, d2, d3⟩ := e
  refine ⟨L.ext t, ⟨q, f, ?_, ?_, ?_, w⟩, c, t, by unfold ah_rc; rw [e1]; omega, by unfold ah_rs; rw [e1]; omega, z.lf L ⟨by show X + 5 < _; omega, by show X + 5 ≠ _; omega, by show ah_kd h (X + 5) ≠ 50; rw [ly0_K_5 L]; decide⟩ (fun a _ ha => ⟨by omega, by omega⟩)⟩
  · rw [b1, b2]; exact x.2.2.1.dy L z (fun _ => ⟨by decide, by decide⟩) ⟨by show X + 5 < _; omega, by show X + 5 ≠ _; omega⟩
  · rw [c1, c2, c3, c4, c5, c6, c7, c8, c9, c10, c11]; exact x.2.2.2.1.dy L z (fun a _ h1 h2 _ => ⟨by omega, by omega⟩) ⟨by show X + 5 < _; omega, by show X + 5 ≠ _; omega⟩ (fun q => absurd q (by show X + 5 ≠ _; omega))
  · rw [d1, d2, d3]; exact x.2.2.2.2.1.dy L z (fun a _ ha => ⟨by omega, by omega⟩) (by show X + 5 < _; omega)
end
def wy_sign (S : MS) (x1 x2 x3 : Int32) : Int32 := if (0 ≤ x1.toInt ∧ x1.toInt ≤ ((nF) S : Int) - 1) then (if (0 ≤ x2.toInt ∧ x2.toInt ≤ 9) ∧ ((x2.toInt) ≤ x3.toInt ∧ x3.toInt ≤ 9) then 0 else 5) else 2
def sg_sign (S : MS) (x1 x2 x3 : Int32) : MS := uI (uI (uI S 0 0 0) 53 x1.toNatClampNeg x2) 54 x1.toNatClampNeg x3
def wy_vote (S : MS) (x1 x2 : Int32) : Int32 := if (0 ≤ x1.toInt ∧ x1.toInt ≤ ((nF) S : Int) - 1) then (if ((-1) ≤ x2.toInt ∧ x2.toInt ≤ 1) then 0 else 5) else 2
def sg_vote (S : MS) (x1 x2 : Int32) : MS := uI (uI S 0 0 0) 55 x1.toNatClampNeg x2
theorem wf_sign {S : MS} {x1 x2 x3 : Int32} (W : WF S) (w : wy_sign S x1 x2 x3 = 0) : WF (sg_sign S x1 x2 x3) := by
  have hw : inR x1 0 ((nF S : Int) - 1) ∧ (inR x2 0 9 ∧ inR x3 x2.toInt 9) := by
    unfold wy_sign at w
    repeat' split at w
    all_goals first | exact absurd w (by decide) | exact ⟨by assumption, by assumption⟩
  have hf := cl_lt hw.1.1 hw.1.2
  obtain ⟨⟨b1, b2, b3, b4, b5, b6, b7, b8, b9, b10, b11, b12, b13⟩, a2, a3⟩ := W
  refine ⟨⟨b1, b2, b3, b4, b5, b6, b7, b8, b9, b10, b11, b12, fun f h1 h2 => ?_⟩, fun f h0 => ?_, a3⟩
  · have h1 : nF S ≤ f := h1
    have hne : f ≠ x1.toNatClampNeg := by omega
    have q := b13 f h1 h2
    exact ⟨(if_neg hne).trans q.1, (if_neg hne).trans q.2.1, q.2.2⟩
  obtain ⟨p1, p2, p3, p4, p5, p6⟩ := a2 f h0
  refine ⟨p1, p2, p3, ?_, p5, p6⟩
  show (if f = x1.toNatClampNeg then x2 else S.1 53 f) = -1 ∨ (inR (if f = x1.toNatClampNeg then x2 else S.1 53 f) 0 9 ∧ inR (if f = x1.toNatClampNeg then x3 else S.1 54 f) 0 9)
  rcases Nat.decEq f x1.toNatClampNeg with c | c
  · simp only [if_neg c]; exact p4
  · simp only [if_pos c]
    obtain ⟨⟨-, -⟩, ⟨b1, b2⟩, b3, b4⟩ := hw
    exact Or.inr ⟨⟨b1, b2⟩, ⟨by omega, b4⟩⟩
theorem c_sign {G : ma_G} {d X : Nat} {h : ah_T} {S : MS} {Q : Option ma_V → ah_T → Prop} {E : Nat → ah_T → Prop} {x1 x2 x3 : Int32} (L : LY0 h X) (C : CI0 h X S) (RM : X + 1576 ≤ ah_sz h ∧ 4000 ≤ ah_rc h ∧ 40000 ≤ ah_rs h) (Kf : wy_sign S x1 x2 x3 ≠ 0 → ∀ h1, cpo X h h1 (uI S 0 0 (wy_sign S x1 x2 x3)) → Q (some (iv 0)) h1) (Kg : wy_sign S x1 x2 x3 = 0 → ∀ h1, cpo X h h1 (sg_sign S x1 x2 x3) → Q (some (iv 1)) h1) : MX G mi_X0_sign (d + 1) 0 [some (rv X), some (iv x1), some (iv x2), some (iv x3)] [] h Q E := by
  have bF := C.iF.2
  have fF : (ah_I h X 14).toInt = (nF S : Int) := by rw [C.iF.1]; exact nI_x (by omega)
  refine v_X0_sign L ?_
  refine ⟨fun c1 => ?_, fun c1 => ?_⟩
  · skip
    intro h2 eh2 Xh2
    have w_ : wy_sign S x1 x2 x3 = (2 : Int32) := by
      unfold wy_sign
      simp only [i3_lt, i3_le, i6_lt, i6_le, i3_eq, i3_l, Int32.reduceToInt, Int64.reduceToInt, tm_1, tl_1, fF] at c1
      repeat' split
      all_goals first | rfl | (exfalso; omega)
    subst eh2
    exact Kf (by rw [w_]; decide) _ (by rw [w_]; exact cpo.st L C Xh2)
  · skip
    refine ⟨fun c2 => ?_, fun c2 => ?_⟩
    · skip
      intro h4 eh4 Xh4
      have w_ : wy_sign S x1 x2 x3 = (2 : Int32) := by
        unfold wy_sign
        simp only [i3_lt, i3_le, i6_lt, i6_le, i3_eq, i3_l, Int32.reduceToInt, Int64.reduceToInt, tm_1, tl_1, fF] at c1 c2
        repeat' split
        all_goals first | rfl | (exfalso; omega)
      subst eh4
      exact Kf (by rw [w_]; decide) _ (by rw [w_]; exact cpo.st L C Xh4)
    · skip
      refine ⟨fun c3 => ?_, fun c3 => ?_⟩
      · skip
        intro h6 eh6 Xh6
        have w_ : wy_sign S x1 x2 x3 = (5 : Int32) := by
          unfold wy_sign
          simp only [i3_lt, i3_le, i6_lt, i6_le, i3_eq, i3_l, Int32.reduceToInt, Int64.reduceToInt, tm_1, tl_1, fF] at c1 c2 c3
          repeat' split
          all_goals first | rfl | (exfalso; omega)
        subst eh6
        exact Kf (by rw [w_]; decide) _ (by rw [w_]; exact cpo.st L C Xh6)
      · skip
        refine ⟨fun c4 => ?_, fun c4 => ?_⟩
        · skip
          intro h8 eh8 Xh8
          have w_ : wy_sign S x1 x2 x3 = (5 : Int32) := by
            unfold wy_sign
            simp only [i3_lt, i3_le, i6_lt, i6_le, i3_eq, i3_l, Int32.reduceToInt, Int64.reduceToInt, tm_1, tl_1, fF] at c1 c2 c3 c4
            repeat' split
            all_goals first | rfl | (exfalso; omega)
          subst eh8
          exact Kf (by rw [w_]; decide) _ (by rw [w_]; exact cpo.st L C Xh8)
        · skip
          refine ⟨fun c5 => ?_, fun c5 => ?_⟩
          · skip
            intro h10 eh10 Xh10
            have w_ : wy_sign S x1 x2 x3 = (5 : Int32) := by
              unfold wy_sign
              simp only [i3_lt, i3_le, i6_lt, i6_le, i3_eq, i3_l, Int32.reduceToInt, Int64.reduceToInt, tm_1, tl_1, fF] at c1 c2 c3 c4 c5
              repeat' split
              all_goals first | rfl | (exfalso; omega)
            subst eh10
            exact Kf (by rw [w_]; decide) _ (by rw [w_]; exact cpo.st L C Xh10)
          · skip
            refine ⟨fun c6 => ?_, fun c6 => ?_⟩
            · skip
              intro h12 eh12 Xh12
              have w_ : wy_sign S x1 x2 x3 = (5 : Int32) := by
                unfold wy_sign
                simp only [i3_lt, i3_le, i6_lt, i6_le, i3_eq, i3_l, Int32.reduceToInt, Int64.reduceToInt, tm_1, tl_1, fF] at c1 c2 c3 c4 c5 c6
                repeat' split
                all_goals first | rfl | (exfalso; omega)
              subst eh12
              exact Kf (by rw [w_]; decide) _ (by rw [w_]; exact cpo.st L C Xh12)
            · skip
              refine ⟨fun c7 => ?_, fun c7 => ?_⟩
              · skip
                refine ⟨?_, ?_⟩
                · exact vp_x (by simp only [i3_lt, i3_le, i6_lt, i6_le, i3_eq, i3_l, Int32.reduceToInt, Int64.reduceToInt, tm_1, tl_1, fF] at c1 c2 c3 c4 c5 c6 c7 ⊢; omega) (by simp only [i3_lt, i3_le, i6_lt, i6_le, i3_eq, i3_l, Int32.reduceToInt, Int64.reduceToInt, tm_1, tl_1, fF] at c1 c2 c3 c4 c5 c6 c7 ⊢; omega)
                refine ⟨?_, ?_⟩
                · exact (C.2.1.at_ (cl_lt (by simp only [i3_lt, i3_le, i6_lt, i6_le, i3_eq, i3_l, Int32.reduceToInt, Int64.reduceToInt, tm_1, tl_1, fF] at c1 c2; omega) (by simp only [i3_lt, i3_le, i6_lt, i6_le, i3_eq, i3_l, Int32.reduceToInt, Int64.reduceToInt, tm_1, tl_1, fF] at c1 c2; omega))).2.1
                intro h16 eh16 Xh16
                intro h17 eh17 Xh17
                intro h18 eh18 Xh18
                have w_ : wy_sign S x1 x2 x3 = (0 : Int32) := by
                  unfold wy_sign
                  simp only [i3_lt, i3_le, i6_lt, i6_le, i3_eq, i3_l, Int32.reduceToInt, Int64.reduceToInt, tm_1, tl_1, fF] at c1 c2 c3 c4 c5 c6 c7
                  repeat' split
                  all_goals first | rfl | (exfalso; omega)
                subst eh16
                subst eh17
                subst eh18
                have hf : x1.toNatClampNeg < nF S := cl_lt (by simp only [i3_lt, i3_le, i6_lt, i6_le, i3_eq, i3_l, Int32.reduceToInt, Int64.reduceToInt, tm_1, tl_1, fF] at c1 c2; omega) (by simp only [i3_lt, i3_le, i6_lt, i6_le, i3_eq, i3_l, Int32.reduceToInt, Int64.reduceToInt, tm_1, tl_1, fF] at c1 c2; omega)
                obtain ⟨f1, f2, f3, f4, f5⟩ := C.2.1.at_ hf
                have e_ := (((C.1.oI (k := 4) (v := x2) (a := ah_R h (X + 2) x1.toNatClampNeg) (by omega)).oI (k := 5) (v := x3) (a := ah_R h (X + 2) x1.toNatClampNeg) (by omega)).pX (v := 0) 20 0 (by decide))
                have e2 := (e_.cA (m := 53) (k := x1.toNatClampNeg) (v := x2) (ctA_n rfl) (by decide)).cA (m := 54) (k := x1.toNatClampNeg) (v := x3) (ctA_n rfl) (by decide)
                have q_ : CIf (ah_wI (ah_wI h (ah_R h (X + 2) x1.toNatClampNeg) 4 x2) (ah_R h (X + 2) x1.toNatClampNeg) 5 x3) X _ _ _ _ _ _ _ _ := (C.2.1.w4 hf (v := x2)).w5 hf (v := x3)
                have l_ : LY0 (ah_wI (ah_wI h (ah_R h (X + 2) x1.toNatClampNeg) 4 x2) (ah_R h (X + 2) x1.toNatClampNeg) 5 x3) X := (L.ext Xh16).ext Xh17
                exact Kg w_ _ (cpo.mkF L C (((dyn.rf.oI (by rw [f2]; exact fun q => q.1 rfl)).oI (by rw [rd_kI, f2]; exact fun q => q.1 rfl)).zI) (((cfr.rf.wI (by omega)).wI (by omega)).zI) ((Xh16.tr Xh17).tr Xh18) rfl e2 (q_.dy (P := pT) (e := (X + 5, 0)) l_ dyn.rf.zI (fun _ => ⟨trivial, trivial⟩) ⟨by show X + 5 < _; omega, by show X + 5 ≠ _; omega⟩) (wf_sign C.2.2.2.2.2 w_) ⟨⟨rfl, rfl⟩, ⟨rfl, rfl, rfl, rfl, rfl, rfl, rfl, rfl, rfl, rfl, rfl⟩, rfl, rfl, rfl⟩)
              · skip
                intro h19 eh19 Xh19
                have w_ : wy_sign S x1 x2 x3 = (5 : Int32) := by
                  unfold wy_sign
                  simp only [i3_lt, i3_le, i6_lt, i6_le, i3_eq, i3_l, Int32.reduceToInt, Int64.reduceToInt, tm_1, tl_1, fF] at c1 c2 c3 c4 c5 c6 c7
                  repeat' split
                  all_goals first | rfl | (exfalso; omega)
                subst eh19
                exact Kf (by rw [w_]; decide) _ (by rw [w_]; exact cpo.st L C Xh19)
theorem m_sign {G : ma_G} {d M : Nat} {h : ah_T} {S : MS} {Q : Option ma_V → ah_T → Prop} {E : Nat → ah_T → Prop} {x1 x2 x3 : Int32} (L : LY8 h M) (eS : mv h M = S) (W : WF S) (B : WB S) (Kf : wy_sign S x1 x2 x3 ≠ 0 → ∀ h1, mpo M h h1 (uI S 0 0 (wy_sign S x1 x2 x3)) → Q (some (iv 0)) h1) (Kg : wy_sign S x1 x2 x3 = 0 → ∀ h1, mpo M h h1 (sg_sign S x1 x2 x3) → Q (some (iv 1)) h1) : MX G mi_X8_sign (d + 2) 0 [some (rv M), some (iv x1), some (iv x2), some (iv x3)] [] h Q E := by
  have qF := mk_F eS W
  have bF := mb_F W B
  have fF : (ah_I h M 5).toInt = (nF S : Int) := by rw [qF]; exact nI_x (by omega)
  have gF : (ah_I h M 5 - 1).toInt = (nF S : Int) - 1 := by rw [qF]; exact nI_m1 (by omega)
  refine v_X8_sign L ?_
  intro h1 eh1 Xh1
  intro h2 eh2 Xh2
  refine ⟨fun c1 => ?_, fun c1 => ?_⟩
  · skip
    intro h4 eh4 Xh4
    have w_ : wy_sign S x1 x2 x3 = (2 : Int32) := by
      unfold wy_sign
      simp only [i3_lt, i3_le, i6_lt, i6_le, i3_eq, i3_l, Int32.reduceToInt, Int64.reduceToInt, tm_1, tl_1, fF, gF] at c1
      repeat' split
      all_goals first | rfl | (exfalso; omega)
    subst eh1
    subst eh2
    subst eh4
    exact Kf (by rw [w_]; decide) _ (by rw [w_]; exact mpo.st eS)
  · skip
    refine ⟨fun c2 => ?_, fun c2 => ?_⟩
    · skip
      intro h6 eh6 Xh6
      have w_ : wy_sign S x1 x2 x3 = (2 : Int32) := by
        unfold wy_sign
        simp only [i3_lt, i3_le, i6_lt, i6_le, i3_eq, i3_l, Int32.reduceToInt, Int64.reduceToInt, tm_1, tl_1, fF, gF] at c1 c2
        repeat' split
        all_goals first | rfl | (exfalso; omega)
      subst eh1
      subst eh2
      subst eh6
      exact Kf (by rw [w_]; decide) _ (by rw [w_]; exact mpo.st eS)
    · skip
      refine ⟨fun c3 => ?_, fun c3 => ?_⟩
      · skip
        intro h8 eh8 Xh8
        have w_ : wy_sign S x1 x2 x3 = (5 : Int32) := by
          unfold wy_sign
          simp only [i3_lt, i3_le, i6_lt, i6_le, i3_eq, i3_l, Int32.reduceToInt, Int64.reduceToInt, tm_1, tl_1, fF, gF] at c1 c2 c3
          repeat' split
          all_goals first | rfl | (exfalso; omega)
        subst eh1
        subst eh2
        subst eh8
        exact Kf (by rw [w_]; decide) _ (by rw [w_]; exact mpo.st eS)
      · skip
        refine ⟨fun c4 => ?_, fun c4 => ?_⟩
        · skip
          intro h10 eh10 Xh10
          have w_ : wy_sign S x1 x2 x3 = (5 : Int32) := by
            unfold wy_sign
            simp only [i3_lt, i3_le, i6_lt, i6_le, i3_eq, i3_l, Int32.reduceToInt, Int64.reduceToInt, tm_1, tl_1, fF, gF] at c1 c2 c3 c4
            repeat' split
            all_goals first | rfl | (exfalso; omega)
          subst eh1
          subst eh2
          subst eh10
          exact Kf (by rw [w_]; decide) _ (by rw [w_]; exact mpo.st eS)
        · skip
          refine ⟨fun c5 => ?_, fun c5 => ?_⟩
          · skip
            intro h12 eh12 Xh12
            have w_ : wy_sign S x1 x2 x3 = (5 : Int32) := by
              unfold wy_sign
              simp only [i3_lt, i3_le, i6_lt, i6_le, i3_eq, i3_l, Int32.reduceToInt, Int64.reduceToInt, tm_1, tl_1, fF, gF] at c1 c2 c3 c4 c5
              repeat' split
              all_goals first | rfl | (exfalso; omega)
            subst eh1
            subst eh2
            subst eh12
            exact Kf (by rw [w_]; decide) _ (by rw [w_]; exact mpo.st eS)
          · skip
            refine ⟨fun c6 => ?_, fun c6 => ?_⟩
            · skip
              intro h14 eh14 Xh14
              have w_ : wy_sign S x1 x2 x3 = (5 : Int32) := by
                unfold wy_sign
                simp only [i3_lt, i3_le, i6_lt, i6_le, i3_eq, i3_l, Int32.reduceToInt, Int64.reduceToInt, tm_1, tl_1, fF, gF] at c1 c2 c3 c4 c5 c6
                repeat' split
                all_goals first | rfl | (exfalso; omega)
              subst eh1
              subst eh2
              subst eh14
              exact Kf (by rw [w_]; decide) _ (by rw [w_]; exact mpo.st eS)
            · skip
              refine ⟨?_, ?_⟩
              · exact vp_x (by simp only [i3_lt, i3_le, i6_lt, i6_le, i3_eq, i3_l, Int32.reduceToInt, Int64.reduceToInt, tm_1, tl_1, fF, gF] at c1 c2 c3 c4 c5 c6 ⊢; omega) (by simp only [i3_lt, i3_le, i6_lt, i6_le, i3_eq, i3_l, Int32.reduceToInt, Int64.reduceToInt, tm_1, tl_1, fF, gF] at c1 c2 c3 c4 c5 c6 ⊢; omega)
              intro h16 eh16 Xh16
              intro h17 eh17 Xh17
              have w_ : wy_sign S x1 x2 x3 = (0 : Int32) := by
                unfold wy_sign
                simp only [i3_lt, i3_le, i6_lt, i6_le, i3_eq, i3_l, Int32.reduceToInt, Int64.reduceToInt, tm_1, tl_1, fF, gF] at c1 c2 c3 c4 c5 c6
                repeat' split
                all_goals first | rfl | (exfalso; omega)
              subst eh1
              subst eh2
              subst eh16
              subst eh17
              exact Kg w_ _ (mpo.mk (A := [53, 54]) (Z := [0, 1]) (by decide) ((((mch.rf.zI (by decide)).zI (by decide)).wI (by decide)).wI (by decide)) (by rw [mv_wI, mv_wI, mv_zI, mv_zI, eS]; exact ((((kept.rf.sI (by decide) (by decide)).cI).cI).cI)))
theorem wf_vote {S : MS} {x1 x2 : Int32} (W : WF S) (w : wy_vote S x1 x2 = 0) : WF (sg_vote S x1 x2) := by
  have hw : inR x1 0 ((nF S : Int) - 1) ∧ inR x2 (-1) 1 := by
    unfold wy_vote at w
    repeat' split at w
    all_goals first | exact absurd w (by decide) | exact ⟨by assumption, by assumption⟩
  have hf := cl_lt hw.1.1 hw.1.2
  obtain ⟨⟨b1, b2, b3, b4, b5, b6, b7, b8, b9, b10, b11, b12, b13⟩, a2, a3⟩ := W
  refine ⟨⟨b1, b2, b3, b4, b5, b6, b7, b8, b9, b10, b11, b12, fun f h1 h2 => ?_⟩, fun f h0 => ?_, a3⟩
  · have h1 : nF S ≤ f := h1
    have hne : f ≠ x1.toNatClampNeg := by omega
    have q := b13 f h1 h2
    exact ⟨q.1, q.2.1, (if_neg hne).trans q.2.2.1, q.2.2.2⟩
  obtain ⟨p1, p2, p3, p4, p5, p6⟩ := a2 f h0
  refine ⟨p1, p2, p3, p4, ?_, p6⟩
  show inR (if f = x1.toNatClampNeg then x2 else S.1 55 f) (-1) 1
  split
  · exact hw.2
  · exact p5
theorem c_vote {G : ma_G} {d X : Nat} {h : ah_T} {S : MS} {Q : Option ma_V → ah_T → Prop} {E : Nat → ah_T → Prop} {x1 x2 : Int32} (L : LY0 h X) (C : CI0 h X S) (RM : X + 1576 ≤ ah_sz h ∧ 4000 ≤ ah_rc h ∧ 40000 ≤ ah_rs h) (Kf : wy_vote S x1 x2 ≠ 0 → ∀ h1, cpo X h h1 (uI S 0 0 (wy_vote S x1 x2)) → Q (some (iv 0)) h1) (Kg : wy_vote S x1 x2 = 0 → ∀ h1, cpo X h h1 (sg_vote S x1 x2) → Q (some (iv 1)) h1) : MX G mi_X0_vote (d + 1) 0 [some (rv X), some (iv x1), some (iv x2)] [] h Q E := by
  have bF := C.iF.2
  have fF : (ah_I h X 14).toInt = (nF S : Int) := by rw [C.iF.1]; exact nI_x (by omega)
  refine v_X0_vote L ?_
  refine ⟨fun c1 => ?_, fun c1 => ?_⟩
  · skip
    intro h2 eh2 Xh2
    have w_ : wy_vote S x1 x2 = (2 : Int32) := by
      unfold wy_vote
      simp only [i3_lt, i3_le, i6_lt, i6_le, i3_eq, i3_l, Int32.reduceToInt, Int64.reduceToInt, tm_1, tl_1, fF] at c1
      repeat' split
      all_goals first | rfl | (exfalso; omega)
    subst eh2
    exact Kf (by rw [w_]; decide) _ (by rw [w_]; exact cpo.st L C Xh2)
  · skip
    refine ⟨fun c2 => ?_, fun c2 => ?_⟩
    · skip
      intro h4 eh4 Xh4
      have w_ : wy_vote S x1 x2 = (2 : Int32) := by
        unfold wy_vote
        simp only [i3_lt, i3_le, i6_lt, i6_le, i3_eq, i3_l, Int32.reduceToInt, Int64.reduceToInt, tm_1, tl_1, fF] at c1 c2
        repeat' split
        all_goals first | rfl | (exfalso; omega)
      subst eh4
      exact Kf (by rw [w_]; decide) _ (by rw [w_]; exact cpo.st L C Xh4)
    · skip
      refine ⟨fun c3 => ?_, fun c3 => ?_⟩
      · skip
        intro h6 eh6 Xh6
        have w_ : wy_vote S x1 x2 = (5 : Int32) := by
          unfold wy_vote
          simp only [i3_lt, i3_le, i6_lt, i6_le, i3_eq, i3_l, Int32.reduceToInt, Int64.reduceToInt, tm_1, tl_1, fF] at c1 c2 c3
          repeat' split
          all_goals first | rfl | (exfalso; omega)
        subst eh6
        exact Kf (by rw [w_]; decide) _ (by rw [w_]; exact cpo.st L C Xh6)
      · skip
        refine ⟨fun c4 => ?_, fun c4 => ?_⟩
        · skip
          refine ⟨?_, ?_⟩
          · exact vp_x (by simp only [i3_lt, i3_le, i6_lt, i6_le, i3_eq, i3_l, Int32.reduceToInt, Int64.reduceToInt, tm_1, tl_1, fF] at c1 c2 c3 c4 ⊢; omega) (by simp only [i3_lt, i3_le, i6_lt, i6_le, i3_eq, i3_l, Int32.reduceToInt, Int64.reduceToInt, tm_1, tl_1, fF] at c1 c2 c3 c4 ⊢; omega)
          refine ⟨?_, ?_⟩
          · exact (C.2.1.at_ (cl_lt (by simp only [i3_lt, i3_le, i6_lt, i6_le, i3_eq, i3_l, Int32.reduceToInt, Int64.reduceToInt, tm_1, tl_1, fF] at c1 c2; omega) (by simp only [i3_lt, i3_le, i6_lt, i6_le, i3_eq, i3_l, Int32.reduceToInt, Int64.reduceToInt, tm_1, tl_1, fF] at c1 c2; omega))).2.1
          intro h10 eh10 Xh10
          intro h11 eh11 Xh11
          have w_ : wy_vote S x1 x2 = (0 : Int32) := by
            unfold wy_vote
            simp only [i3_lt, i3_le, i6_lt, i6_le, i3_eq, i3_l, Int32.reduceToInt, Int64.reduceToInt, tm_1, tl_1, fF] at c1 c2 c3 c4
            repeat' split
            all_goals first | rfl | (exfalso; omega)
          subst eh10
          subst eh11
          have hf : x1.toNatClampNeg < nF S := cl_lt (by simp only [i3_lt, i3_le, i6_lt, i6_le, i3_eq, i3_l, Int32.reduceToInt, Int64.reduceToInt, tm_1, tl_1, fF] at c1 c2; omega) (by simp only [i3_lt, i3_le, i6_lt, i6_le, i3_eq, i3_l, Int32.reduceToInt, Int64.reduceToInt, tm_1, tl_1, fF] at c1 c2; omega)
          obtain ⟨f1, f2, f3, f4, f5⟩ := C.2.1.at_ hf
          have e_ := ((C.1.oI (k := 6) (v := x2) (a := ah_R h (X + 2) x1.toNatClampNeg) (by omega)).pX (v := 0) 20 0 (by decide))
          have e2 := e_.cA (m := 55) (k := x1.toNatClampNeg) (v := x2) (ctA_n rfl) (by decide)
          exact Kg w_ _ (cpo.mkF L C ((dyn.rf.oI (by rw [f2]; exact fun q => q.1 rfl)).zI) ((cfr.rf.wI (by omega)).zI) (Xh10.tr Xh11) rfl e2 ((C.2.1.w6 hf (v := x2)).dy (P := pT) (e := (X + 5, 0)) (L.ext Xh10) dyn.rf.zI (fun _ => ⟨trivial, trivial⟩) ⟨by show X + 5 < _; omega, by show X + 5 ≠ _; omega⟩) (wf_vote C.2.2.2.2.2 w_) ⟨⟨rfl, rfl⟩, ⟨rfl, rfl, rfl, rfl, rfl, rfl, rfl, rfl, rfl, rfl, rfl⟩, rfl, rfl, rfl⟩)
        · skip
          intro h12 eh12 Xh12
          have w_ : wy_vote S x1 x2 = (5 : Int32) := by
            unfold wy_vote
            simp only [i3_lt, i3_le, i6_lt, i6_le, i3_eq, i3_l, Int32.reduceToInt, Int64.reduceToInt, tm_1, tl_1, fF] at c1 c2 c3 c4
            repeat' split
            all_goals first | rfl | (exfalso; omega)
          subst eh12
          exact Kf (by rw [w_]; decide) _ (by rw [w_]; exact cpo.st L C Xh12)
theorem m_vote {G : ma_G} {d M : Nat} {h : ah_T} {S : MS} {Q : Option ma_V → ah_T → Prop} {E : Nat → ah_T → Prop} {x1 x2 : Int32} (L : LY8 h M) (eS : mv h M = S) (W : WF S) (B : WB S) (Kf : wy_vote S x1 x2 ≠ 0 → ∀ h1, mpo M h h1 (uI S 0 0 (wy_vote S x1 x2)) → Q (some (iv 0)) h1) (Kg : wy_vote S x1 x2 = 0 → ∀ h1, mpo M h h1 (sg_vote S x1 x2) → Q (some (iv 1)) h1) : MX G mi_X8_vote (d + 2) 0 [some (rv M), some (iv x1), some (iv x2)] [] h Q E := by
  have qF := mk_F eS W
  have bF := mb_F W B
  have fF : (ah_I h M 5).toInt = (nF S : Int) := by rw [qF]; exact nI_x (by omega)
  have gF : (ah_I h M 5 - 1).toInt = (nF S : Int) - 1 := by rw [qF]; exact nI_m1 (by omega)
  refine v_X8_vote L ?_
  intro h1 eh1 Xh1
  intro h2 eh2 Xh2
  refine ⟨fun c1 => ?_, fun c1 => ?_⟩
  · skip
    intro h4 eh4 Xh4
    have w_ : wy_vote S x1 x2 = (2 : Int32) := by
      unfold wy_vote
      simp only [i3_lt, i3_le, i6_lt, i6_le, i3_eq, i3_l, Int32.reduceToInt, Int64.reduceToInt, tm_1, tl_1, fF, gF] at c1
      repeat' split
      all_goals first | rfl | (exfalso; omega)
    subst eh1
    subst eh2
    subst eh4
    exact Kf (by rw [w_]; decide) _ (by rw [w_]; exact mpo.st eS)
  · skip
    refine ⟨fun c2 => ?_, fun c2 => ?_⟩
    · skip
      intro h6 eh6 Xh6
      have w_ : wy_vote S x1 x2 = (2 : Int32) := by
        unfold wy_vote
        simp only [i3_lt, i3_le, i6_lt, i6_le, i3_eq, i3_l, Int32.reduceToInt, Int64.reduceToInt, tm_1, tl_1, fF, gF] at c1 c2
        repeat' split
        all_goals first | rfl | (exfalso; omega)
      subst eh1
      subst eh2
      subst eh6
      exact Kf (by rw [w_]; decide) _ (by rw [w_]; exact mpo.st eS)
    · skip
      refine ⟨fun c3 => ?_, fun c3 => ?_⟩
      · skip
        intro h8 eh8 Xh8
        have w_ : wy_vote S x1 x2 = (5 : Int32) := by
          unfold wy_vote
          simp only [i3_lt, i3_le, i6_lt, i6_le, i3_eq, i3_l, Int32.reduceToInt, Int64.reduceToInt, tm_1, tl_1, fF, gF] at c1 c2 c3
          repeat' split
          all_goals first | rfl | (exfalso; omega)
        subst eh1
        subst eh2
        subst eh8
        exact Kf (by rw [w_]; decide) _ (by rw [w_]; exact mpo.st eS)
      · skip
        refine ⟨fun c4 => ?_, fun c4 => ?_⟩
        · skip
          intro h10 eh10 Xh10
          have w_ : wy_vote S x1 x2 = (5 : Int32) := by
            unfold wy_vote
            simp only [i3_lt, i3_le, i6_lt, i6_le, i3_eq, i3_l, Int32.reduceToInt, Int64.reduceToInt, tm_1, tl_1, fF, gF] at c1 c2 c3 c4
            repeat' split
            all_goals first | rfl | (exfalso; omega)
          subst eh1
          subst eh2
          subst eh10
          exact Kf (by rw [w_]; decide) _ (by rw [w_]; exact mpo.st eS)
        · skip
          refine ⟨?_, ?_⟩
          · exact vp_x (by simp only [i3_lt, i3_le, i6_lt, i6_le, i3_eq, i3_l, Int32.reduceToInt, Int64.reduceToInt, tm_1, tl_1, fF, gF] at c1 c2 c3 c4 ⊢; omega) (by simp only [i3_lt, i3_le, i6_lt, i6_le, i3_eq, i3_l, Int32.reduceToInt, Int64.reduceToInt, tm_1, tl_1, fF, gF] at c1 c2 c3 c4 ⊢; omega)
          intro h12 eh12 Xh12
          have w_ : wy_vote S x1 x2 = (0 : Int32) := by
            unfold wy_vote
            simp only [i3_lt, i3_le, i6_lt, i6_le, i3_eq, i3_l, Int32.reduceToInt, Int64.reduceToInt, tm_1, tl_1, fF, gF] at c1 c2 c3 c4
            repeat' split
            all_goals first | rfl | (exfalso; omega)
          subst eh1
          subst eh2
          subst eh12
          exact Kg w_ _ (mpo.mk (A := [55]) (Z := [0, 1]) (by decide) (((mch.rf.zI (by decide)).zI (by decide)).wI (by decide)) (by rw [mv_wI, mv_zI, mv_zI, eS]; exact (((kept.rf.sI (by decide) (by decide)).cI).cI)))

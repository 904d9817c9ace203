section
variable {G : ma_G} {d X : Nat} {h : ah_T} {S : MS} {Q : Option ma_V → ah_T → Prop} {E : Nat → ah_T → Prop} {x1 x2 x3 : Int32}
theorem c_warm (L : LY0 h X) (C : CI0 h X S) (RM : X + 1576 ≤ ah_sz h ∧ 4000 ≤ ah_rc h ∧ 40000 ≤ ah_rs h) (Kf : wy_warm S x1 x2 x3 ≠ 0 → ∀ h1, cpo X h h1 (uI S 0 0 (wy_warm S x1 x2 x3)) → Q (some (iv (-1))) h1) (Kb : wy_warm S x1 x2 x3 = 0 → ¬ (∀ k, k < x3.toNatClampNeg → wok (S.2 3) x1.toNatClampNeg x2.toNatClampNeg k) → ∀ h1, cpo X h h1 (uI S 0 0 5) → Q (some (iv (-1))) h1) (Kg : wy_warm S x1 x2 x3 = 0 → (∀ k, k < x3.toNatClampNeg → wok (S.2 3) x1.toNatClampNeg x2.toNatClampNeg k) → ∀ h1, cpo X h h1 (sg_warm S (wsp (S.2 3) x1.toNatClampNeg) (wsp (S.2 3) x2.toNatClampNeg) x3.toNatClampNeg) → Q (some (iv (wmt (wsp (S.2 3) x1.toNatClampNeg) (wsp (S.2 3) x2.toNatClampNeg) x3.toNatClampNeg 20 0))) h1) : MX G mi_X0_warm (d + 42) 0 [some (rv X), some (iv x1), some (iv x2), some (iv x3), none, none, none, none] [] h Q E := by
  have rm : 3 ≤ ah_rc h ∧ 222 ≤ ah_rs h := ⟨by omega, by omega⟩
  refine v_X0_warm (d := d + 41) L ?_
  refine ⟨fun c1 => ?_, fun c1 => ?_⟩
  · skip
    intro h2 eh2 Xh2
    have w_ : wy_warm S x1 x2 x3 = (1 : Int32) := by
      simp only [i3_lt, i3_le, i6_lt, i6_le, i3_eq, i3_l, Int32.reduceToInt, Int64.reduceToInt, tm_1, tl_1] at c1
      unfold wy_warm
      (repeat' split) <;> first | rfl | (exfalso; omega)
    subst eh2
    exact Kf (by rw [w_]; decide) _ (by rw [w_]; exact cpo.st L C Xh2)
  · skip
    refine ⟨fun c2 => ?_, fun c2 => ?_⟩
    · skip
      intro h4 eh4 Xh4
      have w_ : wy_warm S x1 x2 x3 = (1 : Int32) := by
        simp only [i3_lt, i3_le, i6_lt, i6_le, i3_eq, i3_l, Int32.reduceToInt, Int64.reduceToInt, tm_1, tl_1] at c1 c2
        unfold wy_warm
        (repeat' split) <;> first | rfl | (exfalso; omega)
      subst eh4
      exact Kf (by rw [w_]; decide) _ (by rw [w_]; exact cpo.st L C Xh4)
    · skip
      refine ⟨fun c3 => ?_, fun c3 => ?_⟩
      · skip
        intro h6 eh6 Xh6
        have w_ : wy_warm S x1 x2 x3 = (1 : Int32) := by
          simp only [i3_lt, i3_le, i6_lt, i6_le, i3_eq, i3_l, Int32.reduceToInt, Int64.reduceToInt, tm_1, tl_1] at c1 c2 c3
          unfold wy_warm
          (repeat' split) <;> first | rfl | (exfalso; omega)
        subst eh6
        exact Kf (by rw [w_]; decide) _ (by rw [w_]; exact cpo.st L C Xh6)
      · skip
        refine ⟨fun c4 => ?_, fun c4 => ?_⟩
        · skip
          intro h8 eh8 Xh8
          have w_ : wy_warm S x1 x2 x3 = (1 : Int32) := by
            simp only [i3_lt, i3_le, i6_lt, i6_le, i3_eq, i3_l, Int32.reduceToInt, Int64.reduceToInt, tm_1, tl_1] at c1 c2 c3 c4
            unfold wy_warm
            (repeat' split) <;> first | rfl | (exfalso; omega)
          subst eh8
          exact Kf (by rw [w_]; decide) _ (by rw [w_]; exact cpo.st L C Xh8)
        · skip
          refine ⟨?_, ?_⟩
          · exact vp_x (by simp only [i3_lt, i3_le, i6_lt, i6_le, i3_eq, i3_l, Int32.reduceToInt, Int64.reduceToInt, tm_1, tl_1] at c1 c2 c3 c4; omega) (by simp only [i3_lt, i3_le, i6_lt, i6_le, i3_eq, i3_l, Int32.reduceToInt, Int64.reduceToInt, tm_1, tl_1] at c1 c2 c3 c4; omega)
          refine ⟨fun c5 => ?_, fun c5 => ?_⟩
          · skip
            intro h11 eh11 Xh11
            rw [C.2.2.2.2.1.nul (t := x1.toNatClampNeg) (cl_lt (by simp only [i3_lt, i3_le, i6_lt, i6_le, i3_eq, i3_l, Int32.reduceToInt, Int64.reduceToInt, tm_1, tl_1] at c1 c2 c3 c4; omega) (by simp only [i3_lt, i3_le, i6_lt, i6_le, i3_eq, i3_l, Int32.reduceToInt, Int64.reduceToInt, tm_1, tl_1] at c1 c2 c3 c4; omega))] at c5
            have w_ : wy_warm S x1 x2 x3 = (3 : Int32) := by
              simp only [i3_lt, i3_le, i6_lt, i6_le, i3_eq, i3_l, Int32.reduceToInt, Int64.reduceToInt, tm_1, tl_1] at c1 c2 c3 c4 c5
              unfold wy_warm
              (repeat' split) <;> first | rfl | (exfalso; omega)
            subst eh11
            exact Kf (by rw [w_]; decide) _ (by rw [w_]; exact cpo.st L C Xh11)
          · skip
            refine ⟨?_, ?_⟩
            · exact vp_x (by simp only [i3_lt, i3_le, i6_lt, i6_le, i3_eq, i3_l, Int32.reduceToInt, Int64.reduceToInt, tm_1, tl_1] at c1 c2 c3 c4; omega) (by simp only [i3_lt, i3_le, i6_lt, i6_le, i3_eq, i3_l, Int32.reduceToInt, Int64.reduceToInt, tm_1, tl_1] at c1 c2 c3 c4; omega)
            refine ⟨fun c6 => ?_, fun c6 => ?_⟩
            · skip
              refine ⟨fun c7 => ?_, fun c7 => ?_⟩
              · skip
                intro h15 eh15 Xh15
                rw [C.2.2.2.2.1.nul (t := x1.toNatClampNeg) (cl_lt (by simp only [i3_lt, i3_le, i6_lt, i6_le, i3_eq, i3_l, Int32.reduceToInt, Int64.reduceToInt, tm_1, tl_1] at c1 c2 c3 c4; omega) (by simp only [i3_lt, i3_le, i6_lt, i6_le, i3_eq, i3_l, Int32.reduceToInt, Int64.reduceToInt, tm_1, tl_1] at c1 c2 c3 c4; omega))] at c5
                rw [C.2.2.2.2.1.nul (t := x2.toNatClampNeg) (cl_lt (by simp only [i3_lt, i3_le, i6_lt, i6_le, i3_eq, i3_l, Int32.reduceToInt, Int64.reduceToInt, tm_1, tl_1] at c1 c2 c3 c4; omega) (by simp only [i3_lt, i3_le, i6_lt, i6_le, i3_eq, i3_l, Int32.reduceToInt, Int64.reduceToInt, tm_1, tl_1] at c1 c2 c3 c4; omega))] at c6
                have w_ : wy_warm S x1 x2 x3 = (5 : Int32) := by
                  simp only [i3_lt, i3_le, i6_lt, i6_le, i3_eq, i3_l, Int32.reduceToInt, Int64.reduceToInt, tm_1, tl_1] at c1 c2 c3 c4 c5 c6 c7
                  unfold wy_warm
                  (repeat' split) <;> first | rfl | (exfalso; omega)
                subst eh15
                exact Kf (by rw [w_]; decide) _ (by rw [w_]; exact cpo.st L C Xh15)
              · skip
                refine ⟨fun c8 => ?_, fun c8 => ?_⟩
                · skip
                  rw [C.2.2.2.2.1.nul (t := x1.toNatClampNeg) (cl_lt (by simp only [i3_lt, i3_le, i6_lt, i6_le, i3_eq, i3_l, Int32.reduceToInt, Int64.reduceToInt, tm_1, tl_1] at c1 c2 c3 c4; omega) (by simp only [i3_lt, i3_le, i6_lt, i6_le, i3_eq, i3_l, Int32.reduceToInt, Int64.reduceToInt, tm_1, tl_1] at c1 c2 c3 c4; omega))] at c5
                  rw [C.2.2.2.2.1.nul (t := x2.toNatClampNeg) (cl_lt (by simp only [i3_lt, i3_le, i6_lt, i6_le, i3_eq, i3_l, Int32.reduceToInt, Int64.reduceToInt, tm_1, tl_1] at c1 c2 c3 c4; omega) (by simp only [i3_lt, i3_le, i6_lt, i6_le, i3_eq, i3_l, Int32.reduceToInt, Int64.reduceToInt, tm_1, tl_1] at c1 c2 c3 c4; omega))] at c6
                  simp only [i3_lt, i3_le, i6_lt, i6_le, i3_eq, i3_l, Int32.reduceToInt, Int64.reduceToInt, tm_1, tl_1] at c1 c2 c3 c4 c5 c6 c7 c8
                  obtain ⟨a1, a2⟩ := x_nI (x := x1) (n := 3) (by omega) (by omega)
                  obtain ⟨b1, b2⟩ := x_nI (x := x2) (n := 3) (by omega) (by omega)
                  obtain ⟨d1, d2⟩ := x_nI (x := x3) (n := 8) (by omega) (by omega)
                  have w4 : ¬ (x3.toInt ≤ (S.1 2 x1.toNatClampNeg).toInt ∧ x3.toInt ≤ (S.1 2 x2.toNatClampNeg).toInt) → wy_warm S x1 x2 x3 = 4 := fun q => by
                    unfold wy_warm; rw [if_pos (by omega), if_pos (by omega), if_pos (by omega), if_neg q]
                  have w0 : (x3.toInt ≤ (S.1 2 x1.toNatClampNeg).toInt ∧ x3.toInt ≤ (S.1 2 x2.toNatClampNeg).toInt) → wy_warm S x1 x2 x3 = 0 := fun q => by
                    unfold wy_warm; rw [if_pos (by omega), if_pos (by omega), if_pos (by omega), if_pos q]
                  refine c_many L C.2.2.2.2.1 (by omega) (by omega) ?_
                  intro _
                  refine ⟨fun c => ?_, fun c => ?_⟩
                  · intro h20 e20 X20
                    subst e20
                    have w_ := w4 (fun q => by rw [i3_lt] at c; omega)
                    exact Kf (by rw [w_]; decide) _ (by rw [w_]; exact cpo.st L C X20)
                  rw [i3_lt] at c
                  refine c_many L C.2.2.2.2.1 (by omega) (by omega) ?_
                  intro _
                  refine ⟨fun e => ?_, fun e => ?_⟩
                  rotate_left
                  · intro h20 e20 X20
                    subst e20
                    have w_ := w4 (fun q => by rw [i3_le] at e; omega)
                    exact Kf (by rw [w_]; decide) _ (by rw [w_]; exact cpo.st L C X20)
                  rw [i3_le] at e
                  have w_ := w0 ⟨by omega, e⟩
                  have x3n : x3.toInt = (x3.toNatClampNeg : Int) := by have := nI_x (n := x3.toNatClampNeg) (by omega); rw [← d1] at this; exact this
                  have bad : ¬ (∀ k, k < x3.toNatClampNeg → wok (S.2 3) x1.toNatClampNeg x2.toNatClampNeg k) → ∀ h27 : ah_T, h27 = ah_wI h X 20 5 → ah_ext h h27 → Q (some (iv (-1))) h27 := fun q h27 e27 X27 => by
                    subst e27
                    exact Kb w_ q _ (cpo.st L C X27)
                  rw [a1, b1, d1]
                  refine c_areFrom (d := d) L C.2.2.2.2.1 (by omega) (by omega) (by omega) (by omega) rm (fun k1 => ?_) (fun k0 => ?_)
                  rotate_left
                  · intro _
                    exact ⟨fun _ => bad (fun q => k0 (fun k hk => ⟨(q k hk).1, (q k hk).2.1⟩)), fun c => absurd rfl c⟩
                  intro _
                  refine ⟨fun c => absurd c (by decide), fun _ => ?_⟩
                  refine c_areFrom (d := d) L C.2.2.2.2.1 (by omega) (by omega) (by omega) (by omega) rm (fun k2 => ?_) (fun k0 => ?_)
                  rotate_left
                  · intro _
                    exact ⟨fun c => absurd rfl c, fun _ => bad (fun q => k0 (fun k hk => ⟨(q k hk).2.2.1, (q k hk).2.2.2⟩))⟩
                  intro _
                  refine ⟨fun _ => ?_, fun c => absurd c (by decide)⟩
                  refine c_warm_134 (d := d + 1) (nu := S.2 3) (by omega) (by omega) (by omega) L C.2.2.2.2.1 (by omega) (by omega) rm (fun g m q1 q2 => ?_)
                  rw [show (20 : Int32) = nI 21 + (-1) from by decide]
                  refine c_warm_188 (d := d + 41) (by omega) (Nat.le_refl _) (L.ext m.ext) q1 q2 (fun t' z1 z2 => by omega) (fun g2 m2 r2 => ?_)
                  refine c_warm_335 (d := d + 41) (by omega) ((L.ext m.ext).ext m2.ext) (fun k hk => by rw [m2.2.2.2.2.2 _ _ (by omega)]; exact q1 k hk) (fun k hk => by rw [m2.2.2.2.2.2 _ _ (by omega)]; exact q2 k hk) r2 (fun g3 m3 t1 t2 xt => ?_)
                  refine Kg w_ (fun k hk => ⟨(k1 k hk).1, (k1 k hk).2, (k2 k hk).1, (k2 k hk).2⟩) _ (cpo.wm L C (((m.mn (by decide) (by decide)).tr (m2.mn (by decide) (by decide))).tr (m3.mn (by decide) (by decide))) t1 (fun t ht => ?_) xt)
                  rw [t2 t ht, m2.2.2.2.2.2 _ _ (by omega), m.2.2.2.2.2 _ _ (by omega)]
                · skip
                  intro h33 eh33 Xh33
                  rw [C.2.2.2.2.1.nul (t := x1.toNatClampNeg) (cl_lt (by simp only [i3_lt, i3_le, i6_lt, i6_le, i3_eq, i3_l, Int32.reduceToInt, Int64.reduceToInt, tm_1, tl_1] at c1 c2 c3 c4; omega) (by simp only [i3_lt, i3_le, i6_lt, i6_le, i3_eq, i3_l, Int32.reduceToInt, Int64.reduceToInt, tm_1, tl_1] at c1 c2 c3 c4; omega))] at c5
                  rw [C.2.2.2.2.1.nul (t := x2.toNatClampNeg) (cl_lt (by simp only [i3_lt, i3_le, i6_lt, i6_le, i3_eq, i3_l, Int32.reduceToInt, Int64.reduceToInt, tm_1, tl_1] at c1 c2 c3 c4; omega) (by simp only [i3_lt, i3_le, i6_lt, i6_le, i3_eq, i3_l, Int32.reduceToInt, Int64.reduceToInt, tm_1, tl_1] at c1 c2 c3 c4; omega))] at c6
                  have w_ : wy_warm S x1 x2 x3 = (5 : Int32) := by
                    simp only [i3_lt, i3_le, i6_lt, i6_le, i3_eq, i3_l, Int32.reduceToInt, Int64.reduceToInt, tm_1, tl_1] at c1 c2 c3 c4 c5 c6 c7 c8
                    unfold wy_warm
                    (repeat' split) <;> first | rfl | (exfalso; omega)
                  subst eh33
                  exact Kf (by rw [w_]; decide) _ (by rw [w_]; exact cpo.st L C Xh33)
            · skip
              intro h34 eh34 Xh34
              rw [C.2.2.2.2.1.nul (t := x1.toNatClampNeg) (cl_lt (by simp only [i3_lt, i3_le, i6_lt, i6_le, i3_eq, i3_l, Int32.reduceToInt, Int64.reduceToInt, tm_1, tl_1] at c1 c2 c3 c4; omega) (by simp only [i3_lt, i3_le, i6_lt, i6_le, i3_eq, i3_l, Int32.reduceToInt, Int64.reduceToInt, tm_1, tl_1] at c1 c2 c3 c4; omega))] at c5
              rw [C.2.2.2.2.1.nul (t := x2.toNatClampNeg) (cl_lt (by simp only [i3_lt, i3_le, i6_lt, i6_le, i3_eq, i3_l, Int32.reduceToInt, Int64.reduceToInt, tm_1, tl_1] at c1 c2 c3 c4; omega) (by simp only [i3_lt, i3_le, i6_lt, i6_le, i3_eq, i3_l, Int32.reduceToInt, Int64.reduceToInt, tm_1, tl_1] at c1 c2 c3 c4; omega))] at c6
              have w_ : wy_warm S x1 x2 x3 = (3 : Int32) := by
                simp only [i3_lt, i3_le, i6_lt, i6_le, i3_eq, i3_l, Int32.reduceToInt, Int64.reduceToInt, tm_1, tl_1] at c1 c2 c3 c4 c5 c6
                unfold wy_warm
                (repeat' split) <;> first | rfl | (exfalso; omega)
              subst eh34
              exact Kf (by rw [w_]; decide) _ (by rw [w_]; exact cpo.st L C Xh34)
end

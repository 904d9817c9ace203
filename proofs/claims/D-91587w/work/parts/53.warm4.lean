/-! ===== warm: the model's call, whole ===== -/
section
variable {G : ma_G} {d M : Nat} {h g3 : ah_T} {S : MS} {Q : Option ma_V → ah_T → Prop} {E : Nat → ah_T → Prop} {x1 x2 x3 : Int32} {sp ho : Nat → Int32} {n : Nat}
theorem wm_kept (eS : mv h M = S) (m : mch [67, 68, 69, 70] [0, 1, 107] M h g3) (t1 : ∀ t, t < 20 → ah_I g3 (M + 69) t = wtu sp ho n t) (t2 : ∀ t, 20 ≤ t → ah_I g3 (M + 69) t = S.1 69 t) (tJ : ∀ t, ah_J g3 (M + 69) t = S.2 69 t) (z0 : ah_I g3 M 0 = 0) (z1 : ah_I g3 M 107 = 1) : kept (sg_warm S sp ho n) (mv g3 M) := by
  have d1 : ∀ a, a ∈ mk_a → a ≠ 69 → a ∉ [67, 68, 69, 70] ∧ a ≠ 0 := by decide
  have d2 : ∀ k, k ∈ mk_z → k ≠ 0 → k ≠ 107 → k ∉ [0, 1, 107] := by decide
  refine ⟨fun a ha => ⟨funext fun j => ?_, funext fun j => ?_⟩, fun k hk => ?_⟩
  · rcases Nat.decEq a 69 with c | c
    · obtain ⟨n1, n2⟩ := d1 a ha c
      show _ = ah_I g3 (M + a) j
      rw [m.ar a n1 n2, mk_r eS]
      unfold sg_warm
      rw [uI_n n2, uI_n n2]
      show (if a = 69 then _ else S.1 a) j = _
      rw [if_neg c]
    · subst c
      show (if j < 20 then wtu sp ho n j else S.1 69 j) = ah_I g3 (M + 69) j
      split
      · rename_i q; exact (t1 j q).symm
      · rename_i q; exact (t2 j (by omega)).symm
  · show S.2 a j = ah_J g3 (M + a) j
    rcases Nat.decEq a 69 with c | c
    · obtain ⟨n1, n2⟩ := d1 a ha c
      rw [m.arJ a n1 n2, mk_j eS]
    · subst c; exact (tJ j).symm
  · unfold sg_warm
    rw [uI_e, uI_e]
    show (if 0 = 0 ∧ k = 107 then 1 else if 0 = 0 ∧ k = 0 then 0 else S.1 0 k) = ah_I g3 M k
    rcases Nat.decEq k 107 with c | c
    · rw [if_neg (fun q => c q.2)]
      rcases Nat.decEq k 0 with c2 | c2
      · rw [if_neg (fun q => c2 q.2), m.sc k (d2 k hk c2 c) (by decide), mk_z0 eS]
      · rw [if_pos ⟨rfl, c2⟩, c2]; exact z0.symm
    · rw [if_pos ⟨rfl, c⟩, c]; exact z1.symm
theorem m_warm (L : LY8 h M) (eS : mv h M = S) (Kf : wy_warm S x1 x2 x3 ≠ 0 → ∀ h1, mpo M h h1 (uI S 0 0 (wy_warm S x1 x2 x3)) → Q (some (iv (-1))) h1) (Kb : wy_warm S x1 x2 x3 = 0 → ¬ (∀ k, k < x3.toNatClampNeg → wok (S.2 3) x1.toNatClampNeg x2.toNatClampNeg k) → ∀ h1, mpo M h h1 (uI S 0 0 5) → Q (some (iv (-1))) h1) (Kg : wy_warm S x1 x2 x3 = 0 → (∀ k, k < x3.toNatClampNeg → wok (S.2 3) x1.toNatClampNeg x2.toNatClampNeg k) → ∀ h1, mpo M h h1 (sg_warm S (wsp (S.2 3) x1.toNatClampNeg) (wsp (S.2 3) x2.toNatClampNeg) x3.toNatClampNeg) → Q (some (iv (wmt (wsp (S.2 3) x1.toNatClampNeg) (wsp (S.2 3) x2.toNatClampNeg) x3.toNatClampNeg 20 0))) h1) : MX G mi_X8_warm (d + 1) 0 [some (rv M), some (iv x1), some (iv x2), some (iv x3), none, none, none, none] [] h Q E := by
  refine v_X8_warm L ?_
  simp only [mk_r eS]
  intro h1 eh1 Xh1
  intro h2 eh2 Xh2
  refine ⟨fun c1 => ?_, fun c1 => ?_⟩
  · skip
    intro h4 eh4 Xh4
    have w_ : wy_warm S x1 x2 x3 = (1 : Int32) := by
      simp only [i3_lt, i3_le, i6_lt, i6_le, i3_eq, i3_l, Int32.reduceToInt, Int64.reduceToInt, tm_1, tl_1] at c1
      unfold wy_warm
      (repeat' split) <;> first | rfl | (exfalso; omega)
    subst eh1
    subst eh2
    subst eh4
    exact Kf (by rw [w_]; decide) _ (by rw [w_]; exact mpo.st eS)
  · skip
    refine ⟨fun c2 => ?_, fun c2 => ?_⟩
    · skip
      intro h6 eh6 Xh6
      have w_ : wy_warm S x1 x2 x3 = (1 : Int32) := by
        simp only [i3_lt, i3_le, i6_lt, i6_le, i3_eq, i3_l, Int32.reduceToInt, Int64.reduceToInt, tm_1, tl_1] at c1 c2
        unfold wy_warm
        (repeat' split) <;> first | rfl | (exfalso; omega)
      subst eh1
      subst eh2
      subst eh6
      exact Kf (by rw [w_]; decide) _ (by rw [w_]; exact mpo.st eS)
    · skip
      refine ⟨fun c3 => ?_, fun c3 => ?_⟩
      · skip
        intro h8 eh8 Xh8
        have w_ : wy_warm S x1 x2 x3 = (1 : Int32) := by
          simp only [i3_lt, i3_le, i6_lt, i6_le, i3_eq, i3_l, Int32.reduceToInt, Int64.reduceToInt, tm_1, tl_1] at c1 c2 c3
          unfold wy_warm
          (repeat' split) <;> first | rfl | (exfalso; omega)
        subst eh1
        subst eh2
        subst eh8
        exact Kf (by rw [w_]; decide) _ (by rw [w_]; exact mpo.st eS)
      · skip
        refine ⟨fun c4 => ?_, fun c4 => ?_⟩
        · skip
          intro h10 eh10 Xh10
          have w_ : wy_warm S x1 x2 x3 = (1 : Int32) := by
            simp only [i3_lt, i3_le, i6_lt, i6_le, i3_eq, i3_l, Int32.reduceToInt, Int64.reduceToInt, tm_1, tl_1] at c1 c2 c3 c4
            unfold wy_warm
            (repeat' split) <;> first | rfl | (exfalso; omega)
          subst eh1
          subst eh2
          subst eh10
          exact Kf (by rw [w_]; decide) _ (by rw [w_]; exact mpo.st eS)
        · skip
          refine ⟨?_, ?_⟩
          · exact vp_x (by simp only [i3_lt, i3_le, i6_lt, i6_le, i3_eq, i3_l, Int32.reduceToInt, Int64.reduceToInt, tm_1, tl_1] at c1 c2 c3 c4; omega) (by simp only [i3_lt, i3_le, i6_lt, i6_le, i3_eq, i3_l, Int32.reduceToInt, Int64.reduceToInt, tm_1, tl_1] at c1 c2 c3 c4; omega)
          refine ⟨fun c5 => ?_, fun c5 => ?_⟩
          · skip
            intro h13 eh13 Xh13
            have w_ : wy_warm S x1 x2 x3 = (3 : Int32) := by
              simp only [i3_lt, i3_le, i6_lt, i6_le, i3_eq, i3_l, Int32.reduceToInt, Int64.reduceToInt, tm_1, tl_1] at c1 c2 c3 c4 c5
              unfold wy_warm
              (repeat' split) <;> first | rfl | (exfalso; omega)
            subst eh1
            subst eh2
            subst eh13
            exact Kf (by rw [w_]; decide) _ (by rw [w_]; exact mpo.st eS)
          · skip
            refine ⟨?_, ?_⟩
            · exact vp_x (by simp only [i3_lt, i3_le, i6_lt, i6_le, i3_eq, i3_l, Int32.reduceToInt, Int64.reduceToInt, tm_1, tl_1] at c1 c2 c3 c4 c5; omega) (by simp only [i3_lt, i3_le, i6_lt, i6_le, i3_eq, i3_l, Int32.reduceToInt, Int64.reduceToInt, tm_1, tl_1] at c1 c2 c3 c4 c5; omega)
            refine ⟨fun c6 => ?_, fun c6 => ?_⟩
            · skip
              refine ⟨fun c7 => ?_, fun c7 => ?_⟩
              · skip
                intro h17 eh17 Xh17
                have w_ : wy_warm S x1 x2 x3 = (5 : Int32) := by
                  simp only [i3_lt, i3_le, i6_lt, i6_le, i3_eq, i3_l, Int32.reduceToInt, Int64.reduceToInt, tm_1, tl_1] at c1 c2 c3 c4 c5 c6 c7
                  unfold wy_warm
                  (repeat' split) <;> first | rfl | (exfalso; omega)
                subst eh1
                subst eh2
                subst eh17
                exact Kf (by rw [w_]; decide) _ (by rw [w_]; exact mpo.st eS)
              · skip
                refine ⟨fun c8 => ?_, fun c8 => ?_⟩
                · skip
                  intro h19 eh19 Xh19
                  have w_ : wy_warm S x1 x2 x3 = (5 : Int32) := by
                    simp only [i3_lt, i3_le, i6_lt, i6_le, i3_eq, i3_l, Int32.reduceToInt, Int64.reduceToInt, tm_1, tl_1] at c1 c2 c3 c4 c5 c6 c7 c8
                    unfold wy_warm
                    (repeat' split) <;> first | rfl | (exfalso; omega)
                  subst eh1
                  subst eh2
                  subst eh19
                  exact Kf (by rw [w_]; decide) _ (by rw [w_]; exact mpo.st eS)
                · skip
                  refine ⟨fun c9 => ?_, fun c9 => ?_⟩
                  · skip
                    intro h21 eh21 Xh21
                    have w_ : wy_warm S x1 x2 x3 = (4 : Int32) := by
                      simp only [i3_lt, i3_le, i6_lt, i6_le, i3_eq, i3_l, Int32.reduceToInt, Int64.reduceToInt, tm_1, tl_1] at c1 c2 c3 c4 c5 c6 c7 c8 c9
                      unfold wy_warm
                      (repeat' split) <;> first | rfl | (exfalso; omega)
                    subst eh1
                    subst eh2
                    subst eh21
                    exact Kf (by rw [w_]; decide) _ (by rw [w_]; exact mpo.st eS)
                  · skip
                    refine ⟨fun c10 => ?_, fun c10 => ?_⟩
                    · skip
                      have w_ : wy_warm S x1 x2 x3 = (0 : Int32) := by
                        simp only [i3_lt, i3_le, i6_lt, i6_le, i3_eq, i3_l, Int32.reduceToInt, Int64.reduceToInt, tm_1, tl_1] at c1 c2 c3 c4 c5 c6 c7 c8 c9 c10
                        unfold wy_warm
                        (repeat' split) <;> first | rfl | (exfalso; omega)
                      subst eh1
                      subst eh2
                      simp only [i3_lt, i3_le, i6_lt, i6_le, i3_eq, i3_l, Int32.reduceToInt, Int64.reduceToInt, tm_1, tl_1] at c1 c2 c3 c4 c5 c6 c7 c8 c9 c10
                      obtain ⟨a1, a2⟩ := x_nI (x := x1) (n := 3) (by omega) (by omega)
                      obtain ⟨b1, b2⟩ := x_nI (x := x2) (n := 3) (by omega) (by omega)
                      obtain ⟨c1', c2'⟩ := x_nI (x := x3) (n := 8) (by omega) (by omega)
                      have m0 : mch [67, 68, 69, 70] [0, 1, 107] M h (ah_wI (ah_wI h M 1 0) M 0 0) := (mch.rf.zI (by decide)).zI (by decide)
                      have eJ : ah_J (ah_wI (ah_wI h M 1 0) M 0 0) (M + 3) = S.2 3 := funext fun k => mk_j eS 3 k
                      have kk := m_warm_111 (G := G) (d := d) (E := E) (Q := Q) (a := x1.toNatClampNeg) (b := x2.toNatClampNeg) (n := x3.toNatClampNeg) (by omega) (by omega) (by omega) (m0.ly L) (fun bad => Kb w_ (by rw [eJ] at bad; exact bad) _ (mpo.st eS)) (fun ok => ?_)
                      · rw [← a1, ← b1, ← c1'] at kk
                        exact kk
                      rw [eJ] at ok
                      refine m_warm_166 (by omega) (by omega) (by omega) (m0.ly L) (fun g m q1 q2 => ?_)
                      rw [eJ] at q1 q2
                      refine m_warm_211 (sp := wsp (S.2 3) x1.toNatClampNeg) (ho := wsp (S.2 3) x2.toNatClampNeg) (by omega) (m.ly (m0.ly L)) q1 q2 (fun g2 m2 r2 => ?_)
                      refine m_warm_377 (sp := wsp (S.2 3) x1.toNatClampNeg) (ho := wsp (S.2 3) x2.toNatClampNeg) (by omega) (m2.ly (m.ly (m0.ly L))) (fun k hk => by rw [m2.ar 67 (by decide) (by decide)]; exact q1 k hk) (fun k hk => by rw [m2.ar 68 (by decide) (by decide)]; exact q2 k hk) r2 (fun g3 m3 t1 t2 t3 i => ?_)
                      have mm : mch [67, 68, 69, 70] [0, 1, 107] M h g3 := ((m0.tr (m.mono (by decide) (by decide))).tr (m2.mono (by decide) (by decide))).tr (m3.mono (by decide) (by decide))
                      refine Kg w_ ok g3 (mpo.mk (by decide) mm (wm_kept eS mm t1 (fun t ht => ?_) (fun t => ?_) ?_ i))
                      · rw [t2 t ht, m2.ar 69 (by decide) (by decide), m.ar 69 (by decide) (by decide)]
                        rw [rd_Ia (by omega), rd_Ia (by omega)]
                        exact mk_r eS 69 t
                      · rw [t3 t, m2.arJ 69 (by decide) (by decide), m.arJ 69 (by decide) (by decide)]
                        exact mk_j eS 69 t
                      · rw [m3.sc 0 (by decide) (by decide), m2.sc 0 (by decide) (by decide), m.sc 0 (by decide) (by decide), rd_Ih]
                    · skip
                      intro h23 eh23 Xh23
                      have w_ : wy_warm S x1 x2 x3 = (4 : Int32) := by
                        simp only [i3_lt, i3_le, i6_lt, i6_le, i3_eq, i3_l, Int32.reduceToInt, Int64.reduceToInt, tm_1, tl_1] at c1 c2 c3 c4 c5 c6 c7 c8 c9 c10
                        unfold wy_warm
                        (repeat' split) <;> first | rfl | (exfalso; omega)
                      subst eh1
                      subst eh2
                      subst eh23
                      exact Kf (by rw [w_]; decide) _ (by rw [w_]; exact mpo.st eS)
            · skip
              intro h24 eh24 Xh24
              have w_ : wy_warm S x1 x2 x3 = (3 : Int32) := by
                simp only [i3_lt, i3_le, i6_lt, i6_le, i3_eq, i3_l, Int32.reduceToInt, Int64.reduceToInt, tm_1, tl_1] at c1 c2 c3 c4 c5 c6
                unfold wy_warm
                (repeat' split) <;> first | rfl | (exfalso; omega)
              subst eh1
              subst eh2
              subst eh24
              exact Kf (by rw [w_]; decide) _ (by rw [w_]; exact mpo.st eS)
end

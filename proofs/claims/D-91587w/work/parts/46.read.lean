/-! ===== read ===== -/
section
variable {G : ma_G} {d X M : Nat} {h : ah_T} {S : MS} {Q : Option ma_V → ah_T → Prop} {E : Nat → ah_T → Prop} {x1 x2 : Int32}
theorem c_read (L : LY0 h X) (C : CI0 h X S) (RM : X + 1576 ≤ ah_sz h ∧ 4000 ≤ ah_rc h ∧ 40000 ≤ ah_rs h) (Kf : wy_read S x1 x2 ≠ 0 → ∀ h1, cpo X h h1 (uI S 0 0 (wy_read S x1 x2)) → Q (some (jv (-1))) h1) (Kg : wy_read S x1 x2 = 0 → ∀ h1, cpo X h h1 (uI S 0 0 0) → Q (some (jv (S.2 3 (40 * x1.toNatClampNeg + x2.toNatClampNeg)))) h1) : MX G mi_X0_read (d + 41) 0 [some (rv X), some (iv x1), some (iv x2), none] [] h Q E := by
  have em : (-1 : Int32).toInt64 = (-1 : Int64) := by decide
  have r1 : 4000 ≤ h.1.2.1 := RM.2.1
  have r2 : 40000 ≤ h.1.2.2 := RM.2.2
  refine v_X0_read L ?_
  rw [em]
  refine ⟨fun c1 => ?_, fun c1 => ⟨fun c2 => ?_, fun c2 => ?_⟩⟩
  · intro h2 e2 X2
    have w_ : wy_read S x1 x2 = 1 := by simp only [i3_lt, i3_le, i6_lt, i6_le, i3_eq, i3_l, Int32.reduceToInt, Int64.reduceToInt, tm_1, tl_1] at c1; unfold wy_read; rw [if_neg (by omega)]
    subst e2
    exact Kf (by rw [w_]; decide) _ (by rw [w_]; exact cpo.st L C X2)
  · intro h2 e2 X2
    have w_ : wy_read S x1 x2 = 1 := by simp only [i3_lt, i3_le, i6_lt, i6_le, i3_eq, i3_l, Int32.reduceToInt, Int64.reduceToInt, tm_1, tl_1] at c1 c2; unfold wy_read; rw [if_neg (by omega)]
    subst e2
    exact Kf (by rw [w_]; decide) _ (by rw [w_]; exact cpo.st L C X2)
  · simp only [i3_lt, i3_le, i6_lt, i6_le, i3_eq, i3_l, Int32.reduceToInt, Int64.reduceToInt, tm_1, tl_1] at c1 c2
    have ht : x1.toNatClampNeg < 4 := cl_lt (by omega) (by omega)
    intro h5 e5 X5
    refine ⟨vp_x (by omega) (by omega), ?_⟩
    subst e5
    have q5 := cpq.st L C X5
    refine c_get (nu := S.2 3) q5.1 q5.2.1.2.2.2.2.1 ht ⟨by show 3 ≤ h.1.2.1; omega, by show 222 ≤ h.1.2.2; omega⟩ (fun t0 x0 => Or.inl ⟨if_pos rfl, ?_⟩) (fun t0 t1 x0 => Or.inr ⟨if_pos rfl, ?_⟩) (fun t0 t1 _ => ?_)
    · have w_ : wy_read S x1 x2 = 3 := by
        have t0 : (S.1 2 x1.toNatClampNeg).toInt = -1 := t0
        unfold wy_read; rw [if_pos (by omega), if_neg (by omega)]
      refine v_X0_read_30 (q5.1.ext x0) (fun h9 e9 X9 => ?_)
      subst e9
      have p := cpo.exn q5.1 q5.2.1 x0 (by decide) (by decide) X9
      rw [uI_uI] at p
      exact Kf (by rw [w_]; decide) _ (by rw [w_]; exact q5.op L p)
    · have w_ : wy_read S x1 x2 = 4 := by
        have t0 : 0 ≤ (S.1 2 x1.toNatClampNeg).toInt := t0
        have t1 : ¬ (0 ≤ x2.toInt ∧ x2.toInt < (S.1 2 x1.toNatClampNeg).toInt) := t1
        unfold wy_read; rw [if_pos (by omega), if_pos (by omega), if_neg t1]
      refine v_X0_read_39 (q5.1.ext x0) (fun h9 e9 X9 => ?_)
      subst e9
      have p := cpo.exn q5.1 q5.2.1 x0 (by decide) (by decide) X9
      rw [uI_uI] at p
      exact Kf (by rw [w_]; decide) _ (by rw [w_]; exact q5.op L p)
    · have w_ : wy_read S x1 x2 = 0 := by
        have t0 : 0 ≤ (S.1 2 x1.toNatClampNeg).toInt := t0
        have t1 : 0 ≤ x2.toInt ∧ x2.toInt < (S.1 2 x1.toNatClampNeg).toInt := t1
        unfold wy_read; rw [if_pos (by omega), if_pos (by omega), if_pos t1]
      exact Kg w_ _ (q5.po L)
theorem mpo.s1 (eS : mv h M = S) {c v : Int32} : mpo M h (ah_wI (ah_wI h M 1 v) M 0 c) (uI S 0 0 c) :=
  mpo.mk (A := []) (Z := [0, 1]) (by decide) ((mch.rf.zI (by decide)).zI (by decide)) (by rw [mv_zI, mv_zI, eS]; exact (kept.rf.sI (by decide) (by decide)).cI)
theorem m_read (L : LY8 h M) (eS : mv h M = S) (T : ∀ t, t < 4 → (S.1 2 t).toInt ≤ 40) (Kf : wy_read S x1 x2 ≠ 0 → ∀ h1, mpo M h h1 (uI S 0 0 (wy_read S x1 x2)) → Q (some (jv (-1))) h1) (Kg : wy_read S x1 x2 = 0 → ∀ h1, mpo M h h1 (uI S 0 0 0) → Q (some (jv (S.2 3 (40 * x1.toNatClampNeg + x2.toNatClampNeg)))) h1) : MX G mi_X8_read (d + 2) 0 [some (rv M), some (iv x1), some (iv x2)] [] h Q E := by
  refine v_X8_read L ?_
  rw [mk_r eS]
  intro h1 eh1 Xh1
  refine ⟨fun c1 => ?_, fun c1 => ?_⟩
  · skip
    intro h3 eh3 Xh3
    have w_ : wy_read S x1 x2 = (1 : Int32) := by
      simp only [i3_lt, i3_le, i6_lt, i6_le, i3_eq, i3_l, Int32.reduceToInt, Int64.reduceToInt, tm_1, tl_1] at c1
      unfold wy_read
      (repeat' split) <;> first | rfl | (exfalso; omega)
    subst eh1
    subst eh3
    exact Kf (by rw [w_]; decide) _ (by rw [w_]; exact mpo.s1 eS)
  · skip
    refine ⟨fun c2 => ?_, fun c2 => ?_⟩
    · skip
      refine ⟨?_, ?_⟩
      · exact vp_x (by simp only [i3_lt, i3_le, i6_lt, i6_le, i3_eq, i3_l, Int32.reduceToInt, Int64.reduceToInt, tm_1, tl_1] at c1 c2; omega) (by simp only [i3_lt, i3_le, i6_lt, i6_le, i3_eq, i3_l, Int32.reduceToInt, Int64.reduceToInt, tm_1, tl_1] at c1 c2; omega)
      refine ⟨fun c3 => ?_, fun c3 => ?_⟩
      · skip
        refine ⟨fun c4 => ?_, fun c4 => ?_⟩
        · skip
          intro h8 eh8 Xh8
          have w_ : wy_read S x1 x2 = (4 : Int32) := by
            simp only [i3_lt, i3_le, i6_lt, i6_le, i3_eq, i3_l, Int32.reduceToInt, Int64.reduceToInt, tm_1, tl_1] at c1 c2 c3 c4
            unfold wy_read
            (repeat' split) <;> first | rfl | (exfalso; omega)
          subst eh1
          subst eh8
          exact Kf (by rw [w_]; decide) _ (by rw [w_]; exact mpo.s1 eS)
        · skip
          refine ⟨fun c5 => ?_, fun c5 => ?_⟩
          · skip
            intro h10 eh10 Xh10
            refine ⟨?_, ?_⟩
            · have t_ := T x1.toNatClampNeg (cl_lt (by simp only [i3_lt, i3_le, i6_lt, i6_le, i3_eq, i3_l, Int32.reduceToInt, Int64.reduceToInt, tm_1, tl_1] at c1 c2; omega) (by simp only [i3_lt, i3_le, i6_lt, i6_le, i3_eq, i3_l, Int32.reduceToInt, Int64.reduceToInt, tm_1, tl_1] at c1 c2; omega))
              obtain ⟨i1, i2⟩ := ix_40 (x := x1) (y := x2) (by simp only [i3_lt, i3_le, i6_lt, i6_le, i3_eq, i3_l, Int32.reduceToInt, Int64.reduceToInt, tm_1, tl_1] at c1 c2 c3 c4 c5; omega) (by simp only [i3_lt, i3_le, i6_lt, i6_le, i3_eq, i3_l, Int32.reduceToInt, Int64.reduceToInt, tm_1, tl_1] at c1 c2 c3 c4 c5; omega) (by simp only [i3_lt, i3_le, i6_lt, i6_le, i3_eq, i3_l, Int32.reduceToInt, Int64.reduceToInt, tm_1, tl_1] at c1 c2 c3 c4 c5; omega) (by simp only [i3_lt, i3_le, i6_lt, i6_le, i3_eq, i3_l, Int32.reduceToInt, Int64.reduceToInt, tm_1, tl_1] at c1 c2 c3 c4 c5; omega)
              rw [i1]; exact vp_in_nI i2 (by decide)
            have t_ := T x1.toNatClampNeg (cl_lt (by simp only [i3_lt, i3_le, i6_lt, i6_le, i3_eq, i3_l, Int32.reduceToInt, Int64.reduceToInt, tm_1, tl_1] at c1 c2; omega) (by simp only [i3_lt, i3_le, i6_lt, i6_le, i3_eq, i3_l, Int32.reduceToInt, Int64.reduceToInt, tm_1, tl_1] at c1 c2; omega))
            obtain ⟨i1, i2⟩ := ix_40 (x := x1) (y := x2) (by simp only [i3_lt, i3_le, i6_lt, i6_le, i3_eq, i3_l, Int32.reduceToInt, Int64.reduceToInt, tm_1, tl_1] at c1 c2 c3 c4 c5; omega) (by simp only [i3_lt, i3_le, i6_lt, i6_le, i3_eq, i3_l, Int32.reduceToInt, Int64.reduceToInt, tm_1, tl_1] at c1 c2 c3 c4 c5; omega) (by simp only [i3_lt, i3_le, i6_lt, i6_le, i3_eq, i3_l, Int32.reduceToInt, Int64.reduceToInt, tm_1, tl_1] at c1 c2 c3 c4 c5; omega) (by simp only [i3_lt, i3_le, i6_lt, i6_le, i3_eq, i3_l, Int32.reduceToInt, Int64.reduceToInt, tm_1, tl_1] at c1 c2 c3 c4 c5; omega)
            have w_ : wy_read S x1 x2 = (0 : Int32) := by
              simp only [i3_lt, i3_le, i6_lt, i6_le, i3_eq, i3_l, Int32.reduceToInt, Int64.reduceToInt, tm_1, tl_1] at c1 c2 c3 c4 c5
              unfold wy_read
              (repeat' split) <;> first | rfl | (exfalso; omega)
            subst eh1
            subst eh10
            rw [i1, nI_clamp (by omega), mk_j eS]
            exact Kg w_ _ (mpo.s1 eS)
          · skip
            intro h12 eh12 Xh12
            have w_ : wy_read S x1 x2 = (4 : Int32) := by
              simp only [i3_lt, i3_le, i6_lt, i6_le, i3_eq, i3_l, Int32.reduceToInt, Int64.reduceToInt, tm_1, tl_1] at c1 c2 c3 c4 c5
              unfold wy_read
              (repeat' split) <;> first | rfl | (exfalso; omega)
            subst eh1
            subst eh12
            exact Kf (by rw [w_]; decide) _ (by rw [w_]; exact mpo.s1 eS)
      · skip
        intro h13 eh13 Xh13
        have w_ : wy_read S x1 x2 = (3 : Int32) := by
          simp only [i3_lt, i3_le, i6_lt, i6_le, i3_eq, i3_l, Int32.reduceToInt, Int64.reduceToInt, tm_1, tl_1] at c1 c2 c3
          unfold wy_read
          (repeat' split) <;> first | rfl | (exfalso; omega)
        subst eh1
        subst eh13
        exact Kf (by rw [w_]; decide) _ (by rw [w_]; exact mpo.s1 eS)
    · skip
      intro h14 eh14 Xh14
      have w_ : wy_read S x1 x2 = (1 : Int32) := by
        simp only [i3_lt, i3_le, i6_lt, i6_le, i3_eq, i3_l, Int32.reduceToInt, Int64.reduceToInt, tm_1, tl_1] at c1 c2
        unfold wy_read
        (repeat' split) <;> first | rfl | (exfalso; omega)
      subst eh1
      subst eh14
      exact Kf (by rw [w_]; decide) _ (by rw [w_]; exact mpo.s1 eS)
end

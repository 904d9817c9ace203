def wy_hangs (S : MS) (x1 : Int32) : Int32 := if (0 ≤ x1.toInt ∧ x1.toInt ≤ 519) then 0 else 5
theorem c_hangs {G : ma_G} {d X : Nat} {h : ah_T} {S : MS} {tx : Nat → List Nat × List PD} {Q : Option ma_V → ah_T → Prop} {E : Nat → ah_T → Prop} {x1 : Int32} (L : LY0 h X) (C : CI0 h X S) (T : CIk G h X S tx)  (Kf : wy_hangs S x1 ≠ 0 → ∀ h1, cpo X h h1 (uI S 0 0 (wy_hangs S x1)) → Q (some (iv (-1))) h1) (Kg : wy_hangs S x1 = 0 → ∀ h1, cpo X h h1 (uI S 0 0 0) → Q (some (iv (haV S tx x1))) h1) : MX G mi_X0_hangs (d + 52) 0 [some (rv X), some (iv x1), none, none, none, none] [] h Q E := by
  refine v_X0_hangs (d := d + 51) L ?_
  refine ⟨fun c1 => ?_, fun c1 => ?_⟩
  · skip
    intro h2_1 eh2_1 Xh2_1
    have w_ : wy_hangs S x1 = (5 : Int32) := by
      unfold wy_hangs
      simp only [i3_lt, i3_le, i6_lt, i6_le, i3_eq, i3_l, Int32.reduceToInt, Int64.reduceToInt, tm_1, tl_1] at c1
      repeat' split
      all_goals first | rfl | (exfalso; omega)
    subst eh2_1
    exact Kf (by rw [w_]; decide) _ (by rw [w_]; exact cpo.st L C Xh2_1)
  · skip
    refine ⟨fun c2 => ?_, fun c2 => ?_⟩
    · skip
      intro h4_2 eh4_2 Xh4_2
      have w_ : wy_hangs S x1 = (5 : Int32) := by
        unfold wy_hangs
        simp only [i3_lt, i3_le, i6_lt, i6_le, i3_eq, i3_l, Int32.reduceToInt, Int64.reduceToInt, tm_1, tl_1] at c1 c2
        repeat' split
        all_goals first | rfl | (exfalso; omega)
      subst eh4_2
      exact Kf (by rw [w_]; decide) _ (by rw [w_]; exact cpo.st L C Xh4_2)
    · skip
      have w_ : wy_hangs S x1 = (0 : Int32) := by
        unfold wy_hangs
        simp only [i3_lt, i3_le, i6_lt, i6_le, i3_eq, i3_l, Int32.reduceToInt, Int64.reduceToInt, tm_1, tl_1] at c1 c2
        repeat' split
        all_goals first | rfl | (exfalso; omega)
      have hv : ∀ f, vtS S tx x1 f ≤ 1000 := fun f => vtS_v.2
      refine c_weigh L C T (fun g1 q1 wt => ?_)
      intro _
      suffices HH : ∀ z0 z1 : Int32, z0 = 0 → z1 = 0 → MX G mi_X0_wholeFor (d + 51) 0 [some (rv X), some (iv z0), some (iv z1), none, none] [] g1 (Qi fun r8 h7 => ah_ext g1 h7 → (r8 ≤ 0 → MX G mi_X0_hangs (d + 51 + 1) 38 [some (rv X), none, some (iv (0 : Int32)), some (iv (0 : Int32)), some (iv (0 : Int32)), none] [] h7 Q E) ∧ (¬ r8 ≤ 0 → MX G mi_X0_hangs (d + 51 + 1) 38 [some (rv X), none, some (iv (1 : Int32)), some (iv (0 : Int32)), some (iv (0 : Int32)), none] [] h7 Q E)) E from HH 0 0 rfl rfl
      intro z0 z1 e0 e1
      subst e1
      rw [e0, show (0 : Int32) = nI 0 from rfl]
      refine c_wholeFor (vt := vtS S tx x1) (s := 0) (w := nI 0) (q1.ly L) (C.qf L q1) hv wt (by decide) (Or.inl rfl) (fun g r z i1 hr => ?_)
      intro _
      have q2 := q1.tr z.qv
      simp only [faS_0] at hr
      have go : MX G mi_X0_hangs (d + 51 + 1) 38 [some (rv X), none, some (iv (nwS S tx x1)), some (iv (0 : Int32)), some (iv (0 : Int32)), none] [] g Q E := c_hangs38 (q2.ly L) (C.qf L q2) (fun f hf => by rw [z.2.2 _ _ (by simp)]; exact wt f hf) (fun g3 z3 h2 e2 => by rw [e2]; exact Kg w_ _ ((q2.tr z3.qv).po L C))
      unfold nwS at go
      rw [i3_le, hr]
      refine ⟨fun c => ?_, fun c => ?_⟩
      · rw [if_pos (show _ ≤ (0 : Int) from c)] at go; exact go
      · rw [if_neg (show ¬ _ ≤ (0 : Int) from c)] at go; exact go
theorem m_hangs {G : ma_G} {d M : Nat} {h : ah_T} {S : MS} {tx : Nat → List Nat × List PD} {Q : Option ma_V → ah_T → Prop} {E : Nat → ah_T → Prop} {x1 : Int32} (L : LY8 h M) (eS : mv h M = S) (W : WF S) (B : WB S) (T : TXm S tx)  (Kf : wy_hangs S x1 ≠ 0 → ∀ h1, mpo M h h1 (uI S 0 0 (wy_hangs S x1)) → Q (some (iv (-1))) h1) (Kg : wy_hangs S x1 = 0 → ∀ h1, mpo M h h1 (uI S 0 0 0) → Q (some (iv (haV S tx x1))) h1) : MX G mi_X8_hangs (d + 6) 0 [some (rv M), some (iv x1), none, none, none, none, none, none] [] h Q E := by
  refine v_X8_hangs (d := d + 4) L ?_
  intro h1_1 eh1_1 Xh1_1
  intro h2_2 eh2_2 Xh2_2
  refine ⟨fun c1 => ?_, fun c1 => ?_⟩
  · skip
    intro h4_3 eh4_3 Xh4_3
    have w_ : wy_hangs S x1 = (5 : Int32) := by
      unfold wy_hangs
      simp only [i3_lt, i3_le, i6_lt, i6_le, i3_eq, i3_l, Int32.reduceToInt, Int64.reduceToInt, tm_1, tl_1] at c1
      repeat' split
      all_goals first | rfl | (exfalso; omega)
    subst eh1_1
    subst eh2_2
    subst eh4_3
    exact Kf (by rw [w_]; decide) _ (by rw [w_]; exact mpo.st eS)
  · skip
    refine ⟨fun c2 => ?_, fun c2 => ?_⟩
    · skip
      intro h6_4 eh6_4 Xh6_4
      have w_ : wy_hangs S x1 = (5 : Int32) := by
        unfold wy_hangs
        simp only [i3_lt, i3_le, i6_lt, i6_le, i3_eq, i3_l, Int32.reduceToInt, Int64.reduceToInt, tm_1, tl_1] at c1 c2
        repeat' split
        all_goals first | rfl | (exfalso; omega)
      subst eh1_1
      subst eh2_2
      subst eh6_4
      exact Kf (by rw [w_]; decide) _ (by rw [w_]; exact mpo.st eS)
    · skip
      have w_ : wy_hangs S x1 = (0 : Int32) := by
        unfold wy_hangs
        simp only [i3_lt, i3_le, i6_lt, i6_le, i3_eq, i3_l, Int32.reduceToInt, Int64.reduceToInt, tm_1, tl_1] at c1 c2
        repeat' split
        all_goals first | rfl | (exfalso; omega)
      subst eh1_1
      subst eh2_2
      have f20 := B.1
      have hv : ∀ f, vtS S tx x1 f ≤ 1000 := fun f => vtS_v.2
      have L2 := L.ext (Xh1_1.tr Xh2_2)
      have k0 : kq S (mv (ah_wI (ah_wI h M 1 0) M 0 0) M) := kq.st eS
      have bf : ∀ c d, fa0 S (vtS S tx x1) c d (nF S) < 2147483648 := fun c d => by
        have := fa0_b (S := S) (n := nF S) (c := c) (d := d) hv
        omega
      refine m_findVotes L2 k0 W B T (fun g z v0 j1 => ?_)
      intro _
      refine m_isFor (z.ly L2) j1 (fun d _ => ⟨bf 1 d, bf 0 d⟩) ?_
      intro _
      refine m_hangs38 (z.ly L2) (k0.mc z (by decide) (by decide) (by decide)) W B v0 j1 (fun g3 z3 => ?_)
      have zz : mch [44, 45, 46, 47, 48, 62, 64, 65, 66] [72, 108] M (ah_wI (ah_wI h M 1 0) M 0 0) g3 := (z.mono (by decide) (by decide)).tr (z3.mono (by decide) (by decide))
      exact Kg w_ _ (mpo.qy eS zz (by decide) (by decide) (by decide) (by decide))

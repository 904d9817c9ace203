def wy_result (S : MS) (x1 x2 : Int32) : Int32 := if x1.toInt = -1 ∨ (0 ≤ x1.toInt ∧ x1.toInt ≤ 5) then (if (0 ≤ x2.toInt ∧ x2.toInt ≤ 519) then 0 else 5) else 2
theorem c_result {G : ma_G} {d X : Nat} {h : ah_T} {S : MS} {tx : Nat → List Nat × List PD} {Q : Option ma_V → ah_T → Prop} {E : Nat → ah_T → Prop} {x1 x2 : Int32} (L : LY0 h X) (C : CI0 h X S) (T : CIk G h X S tx)  (Kf : wy_result S x1 x2 ≠ 0 → ∀ h1, cpo X h h1 (uI S 0 0 (wy_result S x1 x2)) → Q (some (iv (-1))) h1) (Kg : wy_result S x1 x2 = 0 → ∀ h1, cpo X h h1 (uI S 0 0 0) → Q (some (iv (reV S tx x1 x2))) h1) : MX G mi_X0_result (d + 52) 0 [some (rv X), some (iv x1), some (iv x2), none] [] h Q E := by
  refine v_X0_result (d := d + 51) L ?_
  refine ⟨fun c1 => ?_, fun c1 => ?_⟩
  · skip
    refine v_X0_result_18 (d := d + 51) L ?_
    refine ⟨fun c2 => ?_, fun c2 => ?_⟩
    · skip
      intro h2_1 eh2_1 Xh2_1
      have w_ : wy_result S x1 x2 = (5 : Int32) := by
        unfold wy_result
        simp only [i3_lt, i3_le, i6_lt, i6_le, i3_eq, i3_l, Int32.reduceToInt, Int64.reduceToInt, tm_1, tl_1] at c1 c2
        repeat' split
        all_goals first | rfl | (exfalso; omega)
      subst eh2_1
      exact Kf (by rw [w_]; decide) _ (by rw [w_]; exact cpo.st L C Xh2_1)
    · skip
      refine ⟨fun c3 => ?_, fun c3 => ?_⟩
      · skip
        intro h4_2 eh4_2 Xh4_2
        have w_ : wy_result S x1 x2 = (5 : Int32) := by
          unfold wy_result
          simp only [i3_lt, i3_le, i6_lt, i6_le, i3_eq, i3_l, Int32.reduceToInt, Int64.reduceToInt, tm_1, tl_1] at c1 c2 c3
          repeat' split
          all_goals first | rfl | (exfalso; omega)
        subst eh4_2
        exact Kf (by rw [w_]; decide) _ (by rw [w_]; exact cpo.st L C Xh4_2)
      · skip
        have w_ : wy_result S x1 x2 = (0 : Int32) := by
          unfold wy_result
          simp only [i3_lt, i3_le, i6_lt, i6_le, i3_eq, i3_l, Int32.reduceToInt, Int64.reduceToInt, tm_1, tl_1] at c1 c2 c3
          repeat' split
          all_goals first | rfl | (exfalso; omega)
        have hd : x1 = -1 ∨ (0 ≤ x1.toInt ∧ x1.toInt < 6) := by
          simp only [i3_lt, i3_le, i6_lt, i6_le, i3_eq, i3_l, Int32.reduceToInt, Int64.reduceToInt, tm_1, tl_1] at c1 c2 c3 ⊢
          omega
        have f20 := C.iF.2
        have hv : ∀ f, vtS S tx x2 f ≤ 1000 := fun f => vtS_v.2
        refine c_weigh L C T (fun g1 q1 wt => ?_)
        intro _
        rw [show (0 : Int32) = nI 0 from rfl]
        refine c_wholeFor (vt := vtS S tx x2) (s := 0) (w := nI 0) (q1.ly L) (C.qf L q1) hv wt (by decide) (Or.inl rfl) (fun g r z i1 hr => ?_)
        intro _
        have q2 := q1.tr z.qv
        have kk := Kg w_ _ (q2.po L C (c := 0))
        unfold reV at kk
        simp only [faS_0] at i1 hr
        refine ⟨fun n1 => ?_, fun n1 => ?_⟩
        · have hd2 := hd.resolve_left n1
          have cl := x_cl (x := x1) hd2.1
          rw [if_neg n1] at kk
          have b1 := fa0_b (S := S) (n := nF S) (c := 1) (d := x1.toNatClampNeg) hv
          have b0 := fa0_b (S := S) (n := nF S) (c := 0) (d := x1.toNatClampNeg) hv
          have ei := dI_i (a := fa0 S (vtS S tx x2) 1 x1.toNatClampNeg (nF S)) (b := fa0 S (vtS S tx x2) 0 x1.toNatClampNeg (nF S)) (by omega) (by omega)
          rw [i1 _ (by omega : x1.toNatClampNeg < 6), i3_le, ei]
          refine ⟨vp_x hd2.1 hd2.2, fun c h12 e12 _ => ?_, fun c h13 e13 _ => ?_⟩
          · have c : (fa0 S (vtS S tx x2) 1 x1.toNatClampNeg (nF S) : Int) - fa0 S (vtS S tx x2) 0 x1.toNatClampNeg (nF S) ≤ 0 := c
            rw [if_pos (by omega)] at kk
            rw [e12]; exact kk
          · have c : ¬ (fa0 S (vtS S tx x2) 1 x1.toNatClampNeg (nF S) : Int) - fa0 S (vtS S tx x2) 0 x1.toNatClampNeg (nF S) ≤ 0 := c
            rw [if_neg (by omega)] at kk
            rw [e13]; exact kk
        · rw [if_pos n1] at kk
          rw [i3_le, hr]
          refine ⟨fun c h15 e15 _ => ?_, fun c h16 e16 _ => ?_⟩
          · rw [if_pos (show _ ≤ (0 : Int) from c)] at kk
            rw [e15]; exact kk
          · rw [if_neg (show ¬ _ ≤ (0 : Int) from c)] at kk
            rw [e16]; exact kk
  · skip
    refine ⟨fun c4 => ?_, fun c4 => ?_⟩
    · skip
      intro h3_3 eh3_3 Xh3_3
      have w_ : wy_result S x1 x2 = (2 : Int32) := by
        unfold wy_result
        simp only [i3_lt, i3_le, i6_lt, i6_le, i3_eq, i3_l, Int32.reduceToInt, Int64.reduceToInt, tm_1, tl_1] at c1 c4
        repeat' split
        all_goals first | rfl | (exfalso; omega)
      subst eh3_3
      exact Kf (by rw [w_]; decide) _ (by rw [w_]; exact cpo.st L C Xh3_3)
    · skip
      refine ⟨fun c5 => ?_, fun c5 => ?_⟩
      · skip
        intro h5_4 eh5_4 Xh5_4
        have w_ : wy_result S x1 x2 = (2 : Int32) := by
          unfold wy_result
          simp only [i3_lt, i3_le, i6_lt, i6_le, i3_eq, i3_l, Int32.reduceToInt, Int64.reduceToInt, tm_1, tl_1] at c1 c4 c5
          repeat' split
          all_goals first | rfl | (exfalso; omega)
        subst eh5_4
        exact Kf (by rw [w_]; decide) _ (by rw [w_]; exact cpo.st L C Xh5_4)
      · skip
        refine v_X0_result_18 (d := d + 51) L ?_
        refine ⟨fun c6 => ?_, fun c6 => ?_⟩
        · skip
          intro h2_5 eh2_5 Xh2_5
          have w_ : wy_result S x1 x2 = (5 : Int32) := by
            unfold wy_result
            simp only [i3_lt, i3_le, i6_lt, i6_le, i3_eq, i3_l, Int32.reduceToInt, Int64.reduceToInt, tm_1, tl_1] at c1 c4 c5 c6
            repeat' split
            all_goals first | rfl | (exfalso; omega)
          subst eh2_5
          exact Kf (by rw [w_]; decide) _ (by rw [w_]; exact cpo.st L C Xh2_5)
        · skip
          refine ⟨fun c7 => ?_, fun c7 => ?_⟩
          · skip
            intro h4_6 eh4_6 Xh4_6
            have w_ : wy_result S x1 x2 = (5 : Int32) := by
              unfold wy_result
              simp only [i3_lt, i3_le, i6_lt, i6_le, i3_eq, i3_l, Int32.reduceToInt, Int64.reduceToInt, tm_1, tl_1] at c1 c4 c5 c6 c7
              repeat' split
              all_goals first | rfl | (exfalso; omega)
            subst eh4_6
            exact Kf (by rw [w_]; decide) _ (by rw [w_]; exact cpo.st L C Xh4_6)
          · skip
            have w_ : wy_result S x1 x2 = (0 : Int32) := by
              unfold wy_result
              simp only [i3_lt, i3_le, i6_lt, i6_le, i3_eq, i3_l, Int32.reduceToInt, Int64.reduceToInt, tm_1, tl_1] at c1 c4 c5 c6 c7
              repeat' split
              all_goals first | rfl | (exfalso; omega)
            have hd : x1 = -1 ∨ (0 ≤ x1.toInt ∧ x1.toInt < 6) := by
              simp only [i3_lt, i3_le, i6_lt, i6_le, i3_eq, i3_l, Int32.reduceToInt, Int64.reduceToInt, tm_1, tl_1] at c1 c4 c5 c6 c7 ⊢
              omega
            have f20 := C.iF.2
            have hv : ∀ f, vtS S tx x2 f ≤ 1000 := fun f => vtS_v.2
            refine c_weigh L C T (fun g1 q1 wt => ?_)
            intro _
            rw [show (0 : Int32) = nI 0 from rfl]
            refine c_wholeFor (vt := vtS S tx x2) (s := 0) (w := nI 0) (q1.ly L) (C.qf L q1) hv wt (by decide) (Or.inl rfl) (fun g r z i1 hr => ?_)
            intro _
            have q2 := q1.tr z.qv
            have kk := Kg w_ _ (q2.po L C (c := 0))
            unfold reV at kk
            simp only [faS_0] at i1 hr
            refine ⟨fun n1 => ?_, fun n1 => ?_⟩
            · have hd2 := hd.resolve_left n1
              have cl := x_cl (x := x1) hd2.1
              rw [if_neg n1] at kk
              have b1 := fa0_b (S := S) (n := nF S) (c := 1) (d := x1.toNatClampNeg) hv
              have b0 := fa0_b (S := S) (n := nF S) (c := 0) (d := x1.toNatClampNeg) hv
              have ei := dI_i (a := fa0 S (vtS S tx x2) 1 x1.toNatClampNeg (nF S)) (b := fa0 S (vtS S tx x2) 0 x1.toNatClampNeg (nF S)) (by omega) (by omega)
              rw [i1 _ (by omega : x1.toNatClampNeg < 6), i3_le, ei]
              refine ⟨vp_x hd2.1 hd2.2, fun c h12 e12 _ => ?_, fun c h13 e13 _ => ?_⟩
              · have c : (fa0 S (vtS S tx x2) 1 x1.toNatClampNeg (nF S) : Int) - fa0 S (vtS S tx x2) 0 x1.toNatClampNeg (nF S) ≤ 0 := c
                rw [if_pos (by omega)] at kk
                rw [e12]; exact kk
              · have c : ¬ (fa0 S (vtS S tx x2) 1 x1.toNatClampNeg (nF S) : Int) - fa0 S (vtS S tx x2) 0 x1.toNatClampNeg (nF S) ≤ 0 := c
                rw [if_neg (by omega)] at kk
                rw [e13]; exact kk
            · rw [if_pos n1] at kk
              rw [i3_le, hr]
              refine ⟨fun c h15 e15 _ => ?_, fun c h16 e16 _ => ?_⟩
              · rw [if_pos (show _ ≤ (0 : Int) from c)] at kk
                rw [e15]; exact kk
              · rw [if_neg (show ¬ _ ≤ (0 : Int) from c)] at kk
                rw [e16]; exact kk
theorem m_result {G : ma_G} {d M : Nat} {h : ah_T} {S : MS} {tx : Nat → List Nat × List PD} {Q : Option ma_V → ah_T → Prop} {E : Nat → ah_T → Prop} {x1 x2 : Int32} (L : LY8 h M) (eS : mv h M = S) (W : WF S) (B : WB S) (T : TXm S tx)  (Kf : wy_result S x1 x2 ≠ 0 → ∀ h1, mpo M h h1 (uI S 0 0 (wy_result S x1 x2)) → Q (some (iv (-1))) h1) (Kg : wy_result S x1 x2 = 0 → ∀ h1, mpo M h h1 (uI S 0 0 0) → Q (some (iv (reV S tx x1 x2))) h1) : MX G mi_X8_result (d + 6) 0 [some (rv M), some (iv x1), some (iv x2)] [] h Q E := by
  refine v_X8_result (d := d + 4) L ?_
  intro h1_1 eh1_1 Xh1_1
  intro h2_2 eh2_2 Xh2_2
  refine ⟨fun c1 => ?_, fun c1 => ?_⟩
  · skip
    intro h4_3 eh4_3 Xh4_3
    have w_ : wy_result S x1 x2 = (2 : Int32) := by
      unfold wy_result
      simp only [i3_lt, i3_le, i6_lt, i6_le, i3_eq, i3_l, Int32.reduceToInt, Int64.reduceToInt, tm_1, tl_1] at c1
      repeat' split
      all_goals first | rfl | (exfalso; omega)
    subst eh1_1
    subst eh2_2
    subst eh4_3
    exact Kf (by rw [w_]; decide) _ (by rw [w_]; exact mpo.st eS)
  · skip
    refine ⟨fun c2 => ?_, fun c2 => ?_⟩
    · skip
      intro h6_4 eh6_4 Xh6_4
      have w_ : wy_result S x1 x2 = (2 : Int32) := by
        unfold wy_result
        simp only [i3_lt, i3_le, i6_lt, i6_le, i3_eq, i3_l, Int32.reduceToInt, Int64.reduceToInt, tm_1, tl_1] at c1 c2
        repeat' split
        all_goals first | rfl | (exfalso; omega)
      subst eh1_1
      subst eh2_2
      subst eh6_4
      exact Kf (by rw [w_]; decide) _ (by rw [w_]; exact mpo.st eS)
    · skip
      refine ⟨fun c3 => ?_, fun c3 => ?_⟩
      · skip
        intro h8_5 eh8_5 Xh8_5
        have w_ : wy_result S x1 x2 = (5 : Int32) := by
          unfold wy_result
          simp only [i3_lt, i3_le, i6_lt, i6_le, i3_eq, i3_l, Int32.reduceToInt, Int64.reduceToInt, tm_1, tl_1] at c1 c2 c3
          repeat' split
          all_goals first | rfl | (exfalso; omega)
        subst eh1_1
        subst eh2_2
        subst eh8_5
        exact Kf (by rw [w_]; decide) _ (by rw [w_]; exact mpo.st eS)
      · skip
        refine ⟨fun c4 => ?_, fun c4 => ?_⟩
        · skip
          intro h10_6 eh10_6 Xh10_6
          have w_ : wy_result S x1 x2 = (5 : Int32) := by
            unfold wy_result
            simp only [i3_lt, i3_le, i6_lt, i6_le, i3_eq, i3_l, Int32.reduceToInt, Int64.reduceToInt, tm_1, tl_1] at c1 c2 c3 c4
            repeat' split
            all_goals first | rfl | (exfalso; omega)
          subst eh1_1
          subst eh2_2
          subst eh10_6
          exact Kf (by rw [w_]; decide) _ (by rw [w_]; exact mpo.st eS)
        · skip
          have w_ : wy_result S x1 x2 = (0 : Int32) := by
            unfold wy_result
            simp only [i3_lt, i3_le, i6_lt, i6_le, i3_eq, i3_l, Int32.reduceToInt, Int64.reduceToInt, tm_1, tl_1] at c1 c2 c3 c4
            repeat' split
            all_goals first | rfl | (exfalso; omega)
          subst eh1_1
          subst eh2_2
          have hd : x1 = -1 ∨ (0 ≤ x1.toInt ∧ x1.toInt < 6) := by
            simp only [i3_lt, i3_le, i6_lt, i6_le, i3_eq, i3_l, Int32.reduceToInt, Int64.reduceToInt, tm_1, tl_1] at c1 c2 c3 c4 ⊢
            omega
          have f20 := B.1
          have hv : ∀ f, vtS S tx x2 f ≤ 1000 := fun f => vtS_v.2
          have L2 := L.ext (Xh1_1.tr Xh2_2)
          have k0 : kq S (mv (ah_wI (ah_wI h M 1 0) M 0 0) M) := kq.st eS
          refine m_findVotes L2 k0 W B T (fun g z v0 j1 => ?_)
          intro _
          have kk := Kg w_ _ (mpo.qy eS z (by decide) (by decide) (by decide) (by decide))
          unfold reV at kk
          have bf : ∀ c d, fa0 S (vtS S tx x2) c d (nF S) < 2147483648 := fun c d => by
            have := fa0_b (S := S) (n := nF S) (c := c) (d := d) hv
            omega
          refine ⟨fun n1 => ?_, fun n1 => ?_⟩
          · have hd2 := hd.resolve_left n1
            have cl := x_cl (x := x1) hd2.1
            have b1 := bf 1 x1.toNatClampNeg
            have b0 := bf 0 x1.toNatClampNeg
            rw [if_neg n1] at kk
            rw [(j1 _ (by omega : x1.toNatClampNeg < 6)).1, (j1 _ (by omega : x1.toNatClampNeg < 6)).2, pk_lLE (by omega) (by omega)]
            refine ⟨vp_x hd2.1 hd2.2, fun c => ?_, fun c => ?_⟩
            · rw [if_pos c] at kk; exact kk
            · rw [if_neg c] at kk; exact kk
          · rw [if_pos n1] at kk
            refine m_isFor (z.ly L2) j1 (fun d _ => ⟨bf 1 d, bf 0 d⟩) ?_
            intro _
            by_cases c : whI (fun d => fa0 S (vtS S tx x2) 1 d (nF S)) (fun d => fa0 S (vtS S tx x2) 0 d (nF S)) 6 ≤ 0
            · rw [if_pos c] at kk ⊢
              exact ⟨fun _ => kk, fun q => absurd rfl q⟩
            · rw [if_neg c] at kk ⊢
              exact ⟨fun q => absurd q (by decide), fun _ => kk⟩

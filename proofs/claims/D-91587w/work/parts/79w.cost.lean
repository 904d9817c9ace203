/-! ===== breach, cost ===== -/
def coS (S : MS) (tx : Nat → List Nat × List PD) (f y : Int32) : Nat → Int64
  | 0 => 0
  | n + 1 => if S.1 56 n = f ∧ S.1 57 n / (52 : Int32) = y then coS S tx f y n + brS S tx n * (S.1 58 n).toInt64 else coS S tx f y n
section
variable {G : ma_G} {d M X o : Nat} {h : ah_T} {S : MS} {Q : Option ma_V → ah_T → Prop} {E : Nat → ah_T → Prop} {tx : Nat → List Nat × List PD} {x1 x2 : Int32}
theorem c_cost_34 (L : LY0 h X) (C : CI0 h X S) (T : CIk G h X S tx) (K : ∀ g, qfr X h g → ∀ h2, h2 = ah_wI g X 20 0 → Q (some (jv (coS S tx x1 x2 (nO S)))) h2) : MX G mi_X0_cost (d + 51 + 1) 34 [some (rv X), some (iv x1), some (iv x2), some (jv (0 : Int64)), none, some (iv (0 : Int32))] [] h Q E := by
  have o60 := C.iO.2
  refine mx_up (α := Unit) (fun k _ => [some (rv X), some (iv x1), some (iv x2), some (jv (coS S tx x1 x2 k)), none, some (iv (nI k))]) (nO S) (fun k _ g => qfr X h g) (fun k _ g hk z KK => ?_) (fun _ g z => ?_) 0 () h (Nat.zero_le _) qfr.rf
  · have Lg := z.ly L
    have Cg := C.qf L z
    have Tg := T.qf L z
    have iO := Cg.iO
    refine v_X0_cost_34 (d := d + 51) Lg ⟨fun q => ?_, fun _ => ⟨vp_in_nI (by omega) (by decide), fun q => ?_, fun q => ⟨fun q2 => ?_, fun q2 => ?_⟩⟩⟩
    · exfalso; rw [iO.1, i3_le, nI_x (by omega), nI_x (by omega)] at q; omega
    · rw [nI_clamp (by omega), Cg.1.1 1443 56 (by decide)] at q
      have e : coS S tx x1 x2 (k + 1) = coS S tx x1 x2 k := if_neg (fun z => q z.1)
      rw [nI_1, ← e]; exact KK () g z
    · rw [nI_clamp (by omega), Cg.1.1 1444 57 (by decide)] at q2
      have e : coS S tx x1 x2 (k + 1) = coS S tx x1 x2 k := if_neg (fun z => q2 z.2)
      rw [nI_1, ← e]; exact KK () g z
    · rw [nI_clamp (by omega), Cg.1.1 1443 56 (by decide)] at q
      rw [nI_clamp (by omega), Cg.1.1 1444 57 (by decide)] at q2
      refine c_breachOf Lg Cg Tg hk (fun g2 z2 => ?_)
      intro _
      have z3 := z.tr z2.qf
      rw [nI_clamp (by omega), (C.qf L z3).1.1 1445 58 (by decide), nI_1]
      have e : coS S tx x1 x2 (k + 1) = coS S tx x1 x2 k + brS S tx k * (S.1 58 k).toInt64 := if_pos ⟨q, q2⟩
      rw [← e]; exact KK () g2 z3
  · refine v_X0_cost_34 (d := d + 51) (z.ly L) ⟨fun _ h2 e2 _ => K g z h2 e2, fun q => absurd ?_ q⟩
    rw [(C.qf L z).iO.1, i3_le]; exact Int.le_refl _
theorem m_cost_44 (L : LY8 h M) (kS : kq S (mv h M)) (W : WF S) (B : WB S) (T : TXm S tx) (K : ∀ g, mch [44, 45, 46, 47, 48] [72, 108] M h g → Q (some (jv (coS S tx x1 x2 (nO S)))) g) : MX G mi_X8_cost (d + 5 + 2) 44 [some (rv M), some (iv x1), some (iv x2), some (jv (0 : Int64)), none, some (iv (0 : Int32))] [] h Q E := by
  have o60 := mb_O W B
  refine mx_up (α := Unit) (fun k _ => [some (rv M), some (iv x1), some (iv x2), some (jv (coS S tx x1 x2 k)), none, some (iv (nI k))]) (nO S) (fun k _ g => mch [44, 45, 46, 47, 48] [72, 108] M h g) (fun k _ g hk z KK => ?_) (fun _ g z => ?_) 0 () h (Nat.zero_le _) mch.rf
  · have kg := kS.mc z (by decide) (by decide) (by decide)
    have iO : ah_I g M 88 = nI (nO S) := (kg.z 88 (by decide) (by decide)).trans W.1.2.2.2.2.2.1
    refine v_X8_cost_44 (d := d + 5) (z.ly L) ⟨fun q => ?_, fun _ => ⟨vp_in_nI (by omega) (by decide), fun q => ?_, fun q => ⟨fun q2 => ?_, fun q2 => ?_⟩⟩⟩
    · exfalso; rw [iO, i3_le, nI_x (by omega), nI_x (by omega)] at q; omega
    · rw [nI_clamp (by omega), kg.r 56 _ (by decide)] at q
      have e : coS S tx x1 x2 (k + 1) = coS S tx x1 x2 k := if_neg (fun z => q z.1)
      rw [nI_1, Int64.add_zero, ← e]; exact KK () g z
    · rw [nI_clamp (by omega), kg.r 57 _ (by decide)] at q2
      have e : coS S tx x1 x2 (k + 1) = coS S tx x1 x2 k := if_neg (fun z => q2 z.2)
      rw [nI_1, Int64.add_zero, ← e]; exact KK () g z
    · rw [nI_clamp (by omega), kg.r 56 _ (by decide)] at q
      rw [nI_clamp (by omega), kg.r 57 _ (by decide)] at q2
      refine m_breach2 (z.ly L) kg W B.1 T hk (fun g2 z2 => ?_)
      intro _
      have z3 := z.tr z2
      rw [nI_clamp (by omega), (kS.mc z3 (by decide) (by decide) (by decide)).r 58 _ (by decide), nI_1]
      have e : coS S tx x1 x2 (k + 1) = coS S tx x1 x2 k + brS S tx k * (S.1 58 k).toInt64 := if_pos ⟨q, q2⟩
      rw [← e]; exact KK () g2 z3
  · have kg := kS.mc z (by decide) (by decide) (by decide)
    have iO : ah_I g M 88 = nI (nO S) := (kg.z 88 (by decide) (by decide)).trans W.1.2.2.2.2.2.1
    refine v_X8_cost_44 (d := d + 5) (z.ly L) ⟨fun _ => K g z, fun q => absurd ?_ q⟩
    rw [iO, i3_le]; exact Int.le_refl _
end
def wy_breach (S : MS) (x1 : Int32) : Int32 := if (0 ≤ x1.toInt ∧ x1.toInt ≤ ((nO) S : Int) - 1) then 0 else 8
theorem c_breach {G : ma_G} {d X : Nat} {h : ah_T} {S : MS} {tx : Nat → List Nat × List PD} {Q : Option ma_V → ah_T → Prop} {E : Nat → ah_T → Prop} {x1 : Int32} (L : LY0 h X) (C : CI0 h X S) (T : CIk G h X S tx)  (Kf : wy_breach S x1 ≠ 0 → ∀ h1, cpo X h h1 (uI S 0 0 (wy_breach S x1)) → Q (some (iv (-1))) h1) (Kg : wy_breach S x1 = 0 → ∀ h1, cpo X h h1 (uI S 0 0 0) → Q (some (iv (if brS S tx x1.toNatClampNeg ≤ 0 then 0 else 1))) h1) : MX G mi_X0_breach (d + 52) 0 [some (rv X), some (iv x1)] [] h Q E := by
  have bO := C.iO.2
  have fO : (ah_I h X 36).toInt = (nO S : Int) := by rw [C.iO.1]; exact nI_x (by omega)
  refine v_X0_breach (d := d + 51) L ?_
  refine ⟨fun c1 => ?_, fun c1 => ?_⟩
  · skip
    intro h2_1 eh2_1 Xh2_1
    have w_ : wy_breach S x1 = (8 : Int32) := by
      unfold wy_breach
      simp only [i3_lt, i3_le, i6_lt, i6_le, i3_eq, i3_l, Int32.reduceToInt, Int64.reduceToInt, tm_1, tl_1, fO] at c1
      repeat' split
      all_goals first | rfl | (exfalso; omega)
    subst eh2_1
    exact Kf (by rw [w_]; decide) _ (by rw [w_]; exact cpo.st L C Xh2_1)
  · skip
    refine ⟨fun c2 => ?_, fun c2 => ?_⟩
    · skip
      have w_ : wy_breach S x1 = (0 : Int32) := by
        unfold wy_breach
        simp only [i3_lt, i3_le, i6_lt, i6_le, i3_eq, i3_l, Int32.reduceToInt, Int64.reduceToInt, tm_1, tl_1, fO] at c1 c2
        repeat' split
        all_goals first | rfl | (exfalso; omega)
      have n3 := x_cl (x := x1) (by simp only [i3_lt, i3_le, i6_lt, i6_le, i3_eq, i3_l, Int32.reduceToInt, Int64.reduceToInt, tm_1, tl_1, fO] at c1 c2 ⊢; omega)
      have ho : x1.toNatClampNeg < nO S := by
        simp only [i3_lt, i3_le, i6_lt, i6_le, i3_eq, i3_l, Int32.reduceToInt, Int64.reduceToInt, tm_1, tl_1, fO] at c1 c2
        omega
      obtain ⟨n1, n2⟩ := x_nI (x := x1) (n := 59) (by simp only [i3_lt, i3_le, i6_lt, i6_le, i3_eq, i3_l, Int32.reduceToInt, Int64.reduceToInt, tm_1, tl_1, fO] at c1 c2 ⊢; omega) (by simp only [i3_lt, i3_le, i6_lt, i6_le, i3_eq, i3_l, Int32.reduceToInt, Int64.reduceToInt, tm_1, tl_1, fO] at c1 c2 ⊢; omega)
      rw [n1]
      refine c_breachOf L C T ho (fun g z => ?_)
      intro _
      refine ⟨fun q h7 e7 _ => ?_, fun q h8 e8 _ => ?_⟩
      · rw [e7]
        have k := Kg w_ _ (z.qf.po L C (c := 0))
        rw [if_pos q] at k; exact k
      · rw [e8]
        have k := Kg w_ _ (z.qf.po L C (c := 0))
        rw [if_neg q] at k; exact k
    · skip
      intro h9_2 eh9_2 Xh9_2
      have w_ : wy_breach S x1 = (8 : Int32) := by
        unfold wy_breach
        simp only [i3_lt, i3_le, i6_lt, i6_le, i3_eq, i3_l, Int32.reduceToInt, Int64.reduceToInt, tm_1, tl_1, fO] at c1 c2
        repeat' split
        all_goals first | rfl | (exfalso; omega)
      subst eh9_2
      exact Kf (by rw [w_]; decide) _ (by rw [w_]; exact cpo.st L C Xh9_2)
theorem m_breach {G : ma_G} {d M : Nat} {h : ah_T} {S : MS} {tx : Nat → List Nat × List PD} {Q : Option ma_V → ah_T → Prop} {E : Nat → ah_T → Prop} {x1 : Int32} (L : LY8 h M) (eS : mv h M = S) (W : WF S) (B : WB S) (T : TXm S tx)  (Kf : wy_breach S x1 ≠ 0 → ∀ h1, mpo M h h1 (uI S 0 0 (wy_breach S x1)) → Q (some (iv (-1))) h1) (Kg : wy_breach S x1 = 0 → ∀ h1, mpo M h h1 (uI S 0 0 0) → Q (some (iv (if brS S tx x1.toNatClampNeg ≤ 0 then 0 else 1))) h1) : MX G mi_X8_breach (d + 6) 0 [some (rv M), some (iv x1)] [] h Q E := by
  have qO := mk_O eS W
  have bO := mb_O W B
  have fO : (ah_I h M 88).toInt = (nO S : Int) := by rw [qO]; exact nI_x (by omega)
  have gO : (ah_I h M 88 - 1).toInt = (nO S : Int) - 1 := by rw [qO]; exact nI_m1 (by omega)
  refine v_X8_breach (d := d + 5) L ?_
  intro h1_1 eh1_1 Xh1_1
  intro h2_2 eh2_2 Xh2_2
  refine ⟨fun c1 => ?_, fun c1 => ?_⟩
  · skip
    intro h4_3 eh4_3 Xh4_3
    have w_ : wy_breach S x1 = (8 : Int32) := by
      unfold wy_breach
      simp only [i3_lt, i3_le, i6_lt, i6_le, i3_eq, i3_l, Int32.reduceToInt, Int64.reduceToInt, tm_1, tl_1, fO, gO] at c1
      repeat' split
      all_goals first | rfl | (exfalso; omega)
    subst eh1_1
    subst eh2_2
    subst eh4_3
    exact Kf (by rw [w_]; decide) _ (by rw [w_]; exact mpo.st eS)
  · skip
    refine ⟨fun c2 => ?_, fun c2 => ?_⟩
    · skip
      intro h6_4 eh6_4 Xh6_4
      have w_ : wy_breach S x1 = (8 : Int32) := by
        unfold wy_breach
        simp only [i3_lt, i3_le, i6_lt, i6_le, i3_eq, i3_l, Int32.reduceToInt, Int64.reduceToInt, tm_1, tl_1, fO, gO] at c1 c2
        repeat' split
        all_goals first | rfl | (exfalso; omega)
      subst eh1_1
      subst eh2_2
      subst eh6_4
      exact Kf (by rw [w_]; decide) _ (by rw [w_]; exact mpo.st eS)
    · skip
      have w_ : wy_breach S x1 = (0 : Int32) := by
        unfold wy_breach
        simp only [i3_lt, i3_le, i6_lt, i6_le, i3_eq, i3_l, Int32.reduceToInt, Int64.reduceToInt, tm_1, tl_1, fO, gO] at c1 c2
        repeat' split
        all_goals first | rfl | (exfalso; omega)
      subst eh1_1
      subst eh2_2
      have n3 := x_cl (x := x1) (by simp only [i3_lt, i3_le, i6_lt, i6_le, i3_eq, i3_l, Int32.reduceToInt, Int64.reduceToInt, tm_1, tl_1, fO, gO] at c1 c2 ⊢; omega)
      have ho : x1.toNatClampNeg < nO S := by
        simp only [i3_lt, i3_le, i6_lt, i6_le, i3_eq, i3_l, Int32.reduceToInt, Int64.reduceToInt, tm_1, tl_1, fO, gO] at c1 c2
        omega
      obtain ⟨n1, n2⟩ := x_nI (x := x1) (n := 59) (by simp only [i3_lt, i3_le, i6_lt, i6_le, i3_eq, i3_l, Int32.reduceToInt, Int64.reduceToInt, tm_1, tl_1, fO, gO] at c1 c2 ⊢; omega) (by simp only [i3_lt, i3_le, i6_lt, i6_le, i3_eq, i3_l, Int32.reduceToInt, Int64.reduceToInt, tm_1, tl_1, fO, gO] at c1 c2 ⊢; omega)
      rw [n1]
      refine m_breach2 (L.ext (Xh1_1.tr Xh2_2)) (kq.st eS) W B.1 T ho (fun g z => ?_)
      intro _
      have k := Kg w_ _ (mpo.qy eS z (by decide) (by decide) (by decide) (by decide))
      refine ⟨fun q => ?_, fun q => ?_⟩
      · rw [if_pos q] at k; exact k
      · rw [if_neg q] at k; exact k
def wy_cost (S : MS) (x1 x2 : Int32) : Int32 := if (0 ≤ x1.toInt ∧ x1.toInt ≤ ((nF) S : Int) - 1) then (if (0 ≤ x2.toInt ∧ x2.toInt ≤ 9) then 0 else 5) else 2
theorem c_cost {G : ma_G} {d X : Nat} {h : ah_T} {S : MS} {tx : Nat → List Nat × List PD} {Q : Option ma_V → ah_T → Prop} {E : Nat → ah_T → Prop} {x1 x2 : Int32} (L : LY0 h X) (C : CI0 h X S) (T : CIk G h X S tx)  (Kf : wy_cost S x1 x2 ≠ 0 → ∀ h1, cpo X h h1 (uI S 0 0 (wy_cost S x1 x2)) → Q (some (jv (-1))) h1) (Kg : wy_cost S x1 x2 = 0 → ∀ h1, cpo X h h1 (uI S 0 0 0) → Q (some (jv (coS S tx x1 x2 (nO S)))) h1) : MX G mi_X0_cost (d + 52) 0 [some (rv X), some (iv x1), some (iv x2), none, none, none] [] h Q E := by
  have bF := C.iF.2
  have fF : (ah_I h X 14).toInt = (nF S : Int) := by rw [C.iF.1]; exact nI_x (by omega)
  refine v_X0_cost (d := d + 51) L ?_
  refine ⟨fun c1 => ?_, fun c1 => ?_⟩
  · skip
    intro h2_1 eh2_1 Xh2_1
    have w_ : wy_cost S x1 x2 = (2 : Int32) := by
      unfold wy_cost
      simp only [i3_lt, i3_le, i6_lt, i6_le, i3_eq, i3_l, Int32.reduceToInt, Int64.reduceToInt, tm_1, tl_1, fF] at c1
      repeat' split
      all_goals first | rfl | (exfalso; omega)
    subst eh2_1
    exact Kf (by rw [w_]; decide) _ (by rw [w_]; exact cpo.st L C Xh2_1)
  · skip
    refine ⟨fun c2 => ?_, fun c2 => ?_⟩
    · skip
      intro h4_2 eh4_2 Xh4_2
      have w_ : wy_cost S x1 x2 = (2 : Int32) := by
        unfold wy_cost
        simp only [i3_lt, i3_le, i6_lt, i6_le, i3_eq, i3_l, Int32.reduceToInt, Int64.reduceToInt, tm_1, tl_1, fF] at c1 c2
        repeat' split
        all_goals first | rfl | (exfalso; omega)
      subst eh4_2
      exact Kf (by rw [w_]; decide) _ (by rw [w_]; exact cpo.st L C Xh4_2)
    · skip
      refine ⟨fun c3 => ?_, fun c3 => ?_⟩
      · skip
        intro h6_3 eh6_3 Xh6_3
        have w_ : wy_cost S x1 x2 = (5 : Int32) := by
          unfold wy_cost
          simp only [i3_lt, i3_le, i6_lt, i6_le, i3_eq, i3_l, Int32.reduceToInt, Int64.reduceToInt, tm_1, tl_1, fF] at c1 c2 c3
          repeat' split
          all_goals first | rfl | (exfalso; omega)
        subst eh6_3
        exact Kf (by rw [w_]; decide) _ (by rw [w_]; exact cpo.st L C Xh6_3)
      · skip
        refine ⟨fun c4 => ?_, fun c4 => ?_⟩
        · skip
          intro h8_4 eh8_4 Xh8_4
          have w_ : wy_cost S x1 x2 = (5 : Int32) := by
            unfold wy_cost
            simp only [i3_lt, i3_le, i6_lt, i6_le, i3_eq, i3_l, Int32.reduceToInt, Int64.reduceToInt, tm_1, tl_1, fF] at c1 c2 c3 c4
            repeat' split
            all_goals first | rfl | (exfalso; omega)
          subst eh8_4
          exact Kf (by rw [w_]; decide) _ (by rw [w_]; exact cpo.st L C Xh8_4)
        · skip
          have w_ : wy_cost S x1 x2 = (0 : Int32) := by
            unfold wy_cost
            simp only [i3_lt, i3_le, i6_lt, i6_le, i3_eq, i3_l, Int32.reduceToInt, Int64.reduceToInt, tm_1, tl_1, fF] at c1 c2 c3 c4
            repeat' split
            all_goals first | rfl | (exfalso; omega)
          exact c_cost_34 L C T (fun g z h2 e2 => by rw [e2]; exact Kg w_ _ (z.po L C))
theorem m_cost {G : ma_G} {d M : Nat} {h : ah_T} {S : MS} {tx : Nat → List Nat × List PD} {Q : Option ma_V → ah_T → Prop} {E : Nat → ah_T → Prop} {x1 x2 : Int32} (L : LY8 h M) (eS : mv h M = S) (W : WF S) (B : WB S) (T : TXm S tx)  (Kf : wy_cost S x1 x2 ≠ 0 → ∀ h1, mpo M h h1 (uI S 0 0 (wy_cost S x1 x2)) → Q (some (jv (-1))) h1) (Kg : wy_cost S x1 x2 = 0 → ∀ h1, mpo M h h1 (uI S 0 0 0) → Q (some (jv (coS S tx x1 x2 (nO S)))) h1) : MX G mi_X8_cost (d + 7) 0 [some (rv M), some (iv x1), some (iv x2), none, none, none] [] h Q E := by
  have qF := mk_F eS W
  have bF := mb_F W B
  have fF : (ah_I h M 5).toInt = (nF S : Int) := by rw [qF]; exact nI_x (by omega)
  have gF : (ah_I h M 5 - 1).toInt = (nF S : Int) - 1 := by rw [qF]; exact nI_m1 (by omega)
  refine v_X8_cost (d := d + 5) L ?_
  intro h1_1 eh1_1 Xh1_1
  intro h2_2 eh2_2 Xh2_2
  refine ⟨fun c1 => ?_, fun c1 => ?_⟩
  · skip
    intro h4_3 eh4_3 Xh4_3
    have w_ : wy_cost S x1 x2 = (2 : Int32) := by
      unfold wy_cost
      simp only [i3_lt, i3_le, i6_lt, i6_le, i3_eq, i3_l, Int32.reduceToInt, Int64.reduceToInt, tm_1, tl_1, fF, gF] at c1
      repeat' split
      all_goals first | rfl | (exfalso; omega)
    subst eh1_1
    subst eh2_2
    subst eh4_3
    exact Kf (by rw [w_]; decide) _ (by rw [w_]; exact mpo.st eS)
  · skip
    refine ⟨fun c2 => ?_, fun c2 => ?_⟩
    · skip
      intro h6_4 eh6_4 Xh6_4
      have w_ : wy_cost S x1 x2 = (2 : Int32) := by
        unfold wy_cost
        simp only [i3_lt, i3_le, i6_lt, i6_le, i3_eq, i3_l, Int32.reduceToInt, Int64.reduceToInt, tm_1, tl_1, fF, gF] at c1 c2
        repeat' split
        all_goals first | rfl | (exfalso; omega)
      subst eh1_1
      subst eh2_2
      subst eh6_4
      exact Kf (by rw [w_]; decide) _ (by rw [w_]; exact mpo.st eS)
    · skip
      refine ⟨fun c3 => ?_, fun c3 => ?_⟩
      · skip
        intro h8_5 eh8_5 Xh8_5
        have w_ : wy_cost S x1 x2 = (5 : Int32) := by
          unfold wy_cost
          simp only [i3_lt, i3_le, i6_lt, i6_le, i3_eq, i3_l, Int32.reduceToInt, Int64.reduceToInt, tm_1, tl_1, fF, gF] at c1 c2 c3
          repeat' split
          all_goals first | rfl | (exfalso; omega)
        subst eh1_1
        subst eh2_2
        subst eh8_5
        exact Kf (by rw [w_]; decide) _ (by rw [w_]; exact mpo.st eS)
      · skip
        refine ⟨fun c4 => ?_, fun c4 => ?_⟩
        · skip
          intro h10_6 eh10_6 Xh10_6
          have w_ : wy_cost S x1 x2 = (5 : Int32) := by
            unfold wy_cost
            simp only [i3_lt, i3_le, i6_lt, i6_le, i3_eq, i3_l, Int32.reduceToInt, Int64.reduceToInt, tm_1, tl_1, fF, gF] at c1 c2 c3 c4
            repeat' split
            all_goals first | rfl | (exfalso; omega)
          subst eh1_1
          subst eh2_2
          subst eh10_6
          exact Kf (by rw [w_]; decide) _ (by rw [w_]; exact mpo.st eS)
        · skip
          have w_ : wy_cost S x1 x2 = (0 : Int32) := by
            unfold wy_cost
            simp only [i3_lt, i3_le, i6_lt, i6_le, i3_eq, i3_l, Int32.reduceToInt, Int64.reduceToInt, tm_1, tl_1, fF, gF] at c1 c2 c3 c4
            repeat' split
            all_goals first | rfl | (exfalso; omega)
          subst eh1_1
          subst eh2_2
          exact m_cost_44 (L.ext (Xh1_1.tr Xh2_2)) (kq.st eS) W B T (fun g z => Kg w_ _ (mpo.qy eS z (by decide) (by decide) (by decide) (by decide)))

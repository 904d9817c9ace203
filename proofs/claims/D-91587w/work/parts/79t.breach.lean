/-! ===== breach ===== -/
/-- the values of what was sold outside -/
def vbr (S : MS) (o : Nat) : Nat → Int64 := fun k => if k = 10 then (S.1 59 o).toInt64 else if k = 7 then (S.1 4 (S.1 56 o).toNatClampNeg).toInt64 else if k = 6 then (S.1 6 (S.1 56 o).toNatClampNeg).toInt64 else if k = 5 then (S.1 5 (S.1 56 o).toNatClampNeg).toInt64 else if k = 4 then (S.1 58 o).toInt64 else if k = 3 then (S.1 57 o / (52 : Int32)).toInt64 else if k = 2 then (S.1 57 o).toInt64 else 0
def brS (S : MS) (tx : Nat → List Nat × List PD) (o : Nat) : Int64 :=
  if S.1 53 (S.1 56 o).toNatClampNeg = -1 ∨ (S.1 57 o / (52 : Int32)).toInt < (S.1 53 (S.1 56 o).toNatClampNeg).toInt ∨ (S.1 54 (S.1 56 o).toNatClampNeg).toInt < (S.1 57 o / (52 : Int32)).toInt ∨ S.1 61 (10 * (S.1 56 o).toNatClampNeg + (S.1 57 o / (52 : Int32)).toNatClampNeg) ≠ 0 then 0
  else askS S tx (vbr S o) (S.1 57 o) 86148200 0 0 1000
theorem wrd_breach : wrd 86148200 := ⟨fun j => [98, 114, 101, 97, 99, 104].getD j 0, 0, 6, by decide, by decide, by decide, by decide⟩
theorem cst_breach : lN (n256 8 86148200) = (108243466675048 : Int64) := by decide
section
variable {G : ma_G} {d M X o : Nat} {h : ah_T} {S : MS} {Q : Option ma_V → ah_T → Prop} {E : Nat → ah_T → Prop} {tx : Nat → List Nat × List PD}
theorem y52 {w : Int32} (h : inR w 0 519) : w / (52 : Int32) = nI (w.toNatClampNeg / 52) ∧ w.toNatClampNeg / 52 < 10 := by
  obtain ⟨b1, b2⟩ := x_nI (x := w) (n := 519) h.1 h.2
  refine ⟨?_, by omega⟩
  have q := dv_nI (n := w.toNatClampNeg) (c := 52) (by omega) (by decide) (by decide)
  rw [← b1] at q
  exact q
theorem CIk.ef {g : ah_T} (T : CIk G h X S tx) (L : LY0 h X) (z : efr X h g) : CIk G g X S tx := fun u hu => by
  have e := z.ext (ly0_k L)
  have lf := z.dy.lf L ⟨by show X < _; omega, by show X ≠ _; omega, by show ah_kd h X ≠ 50; rw [ly0_k L]; decide⟩ (fun _ _ _ => trivial)
  obtain ⟨q1, q2⟩ := T u hu
  rw [lf.2.1]
  exact ⟨fun ht => (q1 ht).lf hu rfl e lf, q2⟩
theorem askS_vs {vs vs' : Nat → Int64} {x : Int32} {w : Nat} {wo lo hi : Int64} (T : TXm S tx) (e : ∀ j, j < 11 → vs j = vs' j) (h1 : lo.toInt ≤ wo.toInt) (h2 : wo.toInt ≤ hi.toInt) : askS S tx vs x w wo lo hi = askS S tx vs' x w wo lo hi := by
  rw [ask_cut h1 h2, ask_cut h1 h2, tolS_vs T e]
/-- ask, the text in force being set -/
theorem c_ask2 {g : ah_T} {x : Int32} {w : Nat} {wo lo hi : Int64} {vs : Nat → Int64} (L : LY0 h X) (C : CI0 h X S) (T : CIk G h X S tx) (hw : wrd w) (z : efr X h g) (r : ah_R g X 23 = (match foN (S.1 36) x (nT S) with
    | none => 0
    | some u => ah_R h (X + 1437) u)) (e : ∀ j, j < 11 → ah_J g (X + 1434) j = vs j) (h1 : lo.toInt ≤ wo.toInt) (h2 : wo.toInt ≤ hi.toInt) (K : ∀ g2, efr X h g2 → Q (some (jv (askS S tx vs x w wo lo hi))) g2) :
    MX G mi_X0_asks (d + 50) 0 [some (rv X), some (jv (lN (n256 8 w))), none, some (jv wo), none, some (jv lo), none, some (jv hi), none, none] [] g Q E := by
  have iT := C.iT
  have Tg := T.ef L z
  refine c_asks (L.ext (z.ext (ly0_k L))) hw Tg iT.2 (x1 := x) ?_ (fun g2 z2 => ?_)
  · rw [r]
    cases foN (S.1 36) x (nT S) with
    | none => rfl
    | some u => exact (z.2.1 _ _ (fun q => by have := q.1; omega)).symm
  · rw [askS_vs (T.mt iT.2 C.2.2.2.2.2.1.2.2.2.2.1) (vs := avs g (X + 1433)) (vs' := vs) (fun j hj => e j hj) h1 h2]
    exact K g2 (z.tr z2.ef)
theorem c_breachOf (L : LY0 h X) (C : CI0 h X S) (T : CIk G h X S tx) (ho : o < nO S) (K : ∀ g, efr X h g → Q (some (jv (brS S tx o))) g) : MX G mi_X0_breachOf (d + 51) 0 [some (rv X), some (iv (nI o)), none, none, none] [] h Q E := by
  have kX := ly0_k L
  obtain ⟨o60, wo⟩ := C.2.2.2.2.2.2.2.2.2.2.1
  obtain ⟨w1, w2, w3, w4⟩ := wo o ho
  have n20 := C.iF.2
  have a1 := C.1.1 1443 56 (by decide) o
  have a2 := C.1.1 1444 57 (by decide) o
  have a3 := C.1.1 1445 58 (by decide) o
  have a4 := C.1.1 1446 59 (by decide) o
  obtain ⟨f1, f2⟩ := x_nI (x := S.1 56 o) (n := 19) w1.1 (by have := w1.2; omega)
  have f3 : (S.1 56 o).toNatClampNeg < nF S := by have := w1.2; rw [f1, nI_x (by omega)] at this; omega
  obtain ⟨y1, y2⟩ := y52 w2
  obtain ⟨c1, c2, c3, c4, c5, c6, c7, c8, c9, c10, c11, c12, c13⟩ := (C.2.1.2 (S.1 56 o).toNatClampNeg (by omega)).1 f3
  unfold brS at K
  refine v_X0_breachOf (d := d + 50) L ?_
  rw [nI_clamp (by omega), a1, a2, c10, c11, c3, c2]
  have y3 : (S.1 57 o / (52 : Int32)).toNatClampNeg = (S.1 57 o).toNatClampNeg / 52 := by rw [y1, nI_clamp (by omega)]
  rw [y3, c13 _ y2]
  rw [y3] at K
  refine ⟨vp_in_nI (by omega) (by decide), by rw [f1]; exact vp_in_nI (by omega) (by decide), rfl, fun z1 => ?_, fun z1 => ⟨fun z2 => ?_, fun z2 => ⟨fun z3 => ?_, fun z3 => ⟨⟨c4, by rw [c5, y1]; exact vp_in_nI y2 (by decide)⟩, fun z4 => ?_, fun z4 => ?_⟩⟩⟩⟩
  · rw [if_pos (Or.inl z1)] at K; exact K h efr.rf
  · rw [if_pos (Or.inr (Or.inl (by rw [i3_lt] at z2; exact z2)))] at K; exact K h efr.rf
  · rw [if_pos (Or.inr (Or.inr (Or.inl (by rw [i3_lt] at z3; exact z3))))] at K; exact K h efr.rf
  · rw [i3_lt] at z2 z3
    rw [if_neg (by rintro (q | q | q | q); exact z1 q; omega; omega; exact q z4)] at K
    refine c_lawOf L C T ?_
    intro _ h14 e14 X14
    have z14 : efr X h h14 := by rw [e14]; exact efr.rf.wR
    have r14 : ah_R h14 X 23 = (match foN (S.1 36) (S.1 57 o) (nT S) with
      | none => 0
      | some u => ah_R h (X + 1437) u) := by
      rw [e14, rd_RR, if_pos ⟨rfl, rfl⟩]
      rfl
    clear e14
    refine c_clear (L.ext (z14.ext kX)) (fun g z rg zz => ?_)
    intro _
    have zg := z14.tr z
    have Lg := L.ext (zg.ext kX)
    have A : ∀ k, k < 11 → aok g 41 (X + 1434) (nI k) := fun k hk => ly0_A_1434 Lg (vp_in_nI hk (by decide))
    rw [zg.2.2.1 _ _ (by omega), a2, zg.2.2.1 _ _ (by omega), a3, zg.2.2.1 _ _ (by omega), c8, zg.2.2.1 _ _ (by omega), c9, zg.2.2.1 _ _ (by omega), c7, zg.2.2.1 _ _ (by omega), a4]
    refine ⟨A 2 (by decide), fun h21 e21 _ => ⟨A 3 (by decide), fun h23 e23 _ => ⟨A 4 (by decide), fun h25 e25 _ => ⟨A 5 (by decide), fun h27 e27 _ => ⟨A 6 (by decide), fun h29 e29 _ => ⟨A 7 (by decide), fun h31 e31 _ => ⟨A 10 (by decide), fun h33 e33 _ => ?_⟩⟩⟩⟩⟩⟩⟩
    have z33 : efr X h h33 := by rw [e33, e31, e29, e27, e25, e23, e21]; exact zg.wJ.wJ.wJ.wJ.wJ.wJ.wJ
    have r33 : ah_R h33 X 23 = ah_R h14 X 23 := by rw [e33, e31, e29, e27, e25, e23, e21]; exact rg
    rw [← cst_breach]
    refine c_ask2 (d := d) (vs := vbr S o) (x := S.1 57 o) L C T wrd_breach z33 (r33.trans r14) (fun j hj => ?_) (by decide) (by decide) (fun g2 z2 _ => K g2 z2)
    unfold vbr
    rw [e33, rd_JJ]
    by_cases q10 : j = 10
    · rw [if_pos ⟨rfl, q10⟩, if_pos q10]
    rw [if_neg (fun q => q10 q.2), if_neg q10, e31, rd_JJ]
    by_cases q7 : j = 7
    · rw [if_pos ⟨rfl, q7⟩, if_pos q7]
    rw [if_neg (fun q => q7 q.2), if_neg q7, e29, rd_JJ]
    by_cases q6 : j = 6
    · rw [if_pos ⟨rfl, q6⟩, if_pos q6]
    rw [if_neg (fun q => q6 q.2), if_neg q6, e27, rd_JJ]
    by_cases q5 : j = 5
    · rw [if_pos ⟨rfl, q5⟩, if_pos q5]
    rw [if_neg (fun q => q5 q.2), if_neg q5, e25, rd_JJ]
    by_cases q4 : j = 4
    · rw [if_pos ⟨rfl, q4⟩, if_pos q4]
    rw [if_neg (fun q => q4 q.2), if_neg q4, e23, rd_JJ]
    by_cases q3 : j = 3
    · rw [if_pos ⟨rfl, q3⟩, if_pos q3]
    rw [if_neg (fun q => q3 q.2), if_neg q3, e21, rd_JJ]
    by_cases q2 : j = 2
    · rw [if_pos ⟨rfl, q2⟩, if_pos q2]
    rw [if_neg (fun q => q2 q.2), if_neg q2]
    exact zz j hj
  · rw [if_pos (Or.inr (Or.inr (Or.inr z4)))] at K; exact K h efr.rf
end

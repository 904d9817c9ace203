/-! ===== calls that only ask ===== -/
/-- what such a call of the class may write: its own rows that lie not as the model's, the text in force, the grades of loads -/
def qfr (X : Nat) (h g : ah_T) : Prop := (g.1 = h.1 ∧ ah_kd g = ah_kd h ∧ ah_ln g = ah_ln h) ∧ (∀ a k, ¬ (a = X ∧ k = 23) → ah_R g a k = ah_R h a k) ∧ (∀ a k, (a < X ∨ X + 1494 ≤ a) → ¬ (X + 1576 ≤ a ∧ ah_kd h a = 12 ∧ k = 6) → ah_I g a k = ah_I h a k) ∧ (∀ a k, (a < X ∨ X + 1494 ≤ a) → ah_J g a k = ah_J h a k) ∧ (∀ c m, (c, m) ∈ ct_A → ∀ k, ah_I g (X + c) k = ah_I h (X + c) k) ∧ ∀ c k m, (c, k, m) ∈ ct_Z → ah_I g (X + c) k = ah_I h (X + c) k
section
variable {G : ma_G} {M X : Nat} {h g g2 : ah_T} {S : MS} {tx : Nat → List Nat × List PD}
theorem qfr.rf : qfr X h h := ⟨⟨rfl, rfl, rfl⟩, fun _ _ _ => rfl, fun _ _ _ _ => rfl, fun _ _ _ => rfl, fun _ _ _ _ => rfl, fun _ _ _ _ => rfl⟩
theorem qfr.tr (x : qfr X h g) (z : qfr X g g2) : qfr X h g2 := by
  obtain ⟨⟨a1, a2, a3⟩, b, c, d, e, f⟩ := x
  obtain ⟨⟨a1', a2', a3'⟩, b', c', d', e', f'⟩ := z
  exact ⟨⟨a1'.trans a1, a2'.trans a2, a3'.trans a3⟩, fun a k q => (b' a k q).trans (b a k q), fun a k q r => (c' a k q (by rw [a2]; exact r)).trans (c a k q r), fun a k q => (d' a k q).trans (d a k q), fun u m q k => (e' u m q k).trans (e u m q k), fun u k m q => (f' u k m q).trans (f u k m q)⟩
theorem efr.qf (x : efr X h g) : qfr X h g := by
  have i1 : ∀ p, p ∈ ct_A → p.1 ≠ 1436 := by decide
  have i2 : ∀ p, p ∈ ct_Z → p.1 ≠ 1436 := by decide
  exact ⟨x.1, x.2.1, fun a k q _ => x.2.2.1 a k (by omega), fun a k q => x.2.2.2 a k (by omega) (by omega), fun c m q k => x.2.2.1 _ k (by have := i1 _ q; simp only at this; omega), fun c k m q => x.2.2.1 _ k (by have := i2 _ q; simp only at this; omega)⟩
theorem qfr.wI (x : qfr X h g) {c k : Nat} {v : Int32} (hc : c < 1494) (ha : ∀ m, (c, m) ∉ ct_A) (hz : ∀ m, (c, k, m) ∉ ct_Z) : qfr X h (ah_wI g (X + c) k v) :=
  x.tr ⟨⟨rfl, rfl, rfl⟩, fun _ _ _ => rfl, fun a j q _ => rd_Ia (by omega), fun _ _ _ => rfl, fun c' m q j => rd_Ia (fun e => ha m (by have e := Nat.add_left_cancel e; rw [← e]; exact q)), fun c' j m q => by rw [rd_II, if_neg (fun e => hz m (by have e1 := Nat.add_left_cancel e.1; rw [← e1, ← e.2]; exact q))]⟩
theorem qfr.wJ (x : qfr X h g) {a k : Nat} {v : Int64} (hc : X ≤ a ∧ a < X + 1494) : qfr X h (ah_wJ g a k v) :=
  x.tr ⟨⟨rfl, rfl, rfl⟩, fun _ _ _ => rfl, fun _ _ _ _ => rfl, fun b j q => rd_Ja (by omega), fun _ _ _ _ => rfl, fun _ _ _ _ => rfl⟩
theorem qfr.wR (x : qfr X h g) {v : Nat} : qfr X h (ah_wR g X 23 v) :=
  x.tr ⟨⟨rfl, rfl, rfl⟩, fun a k ha => by rw [rd_RR, if_neg ha], fun _ _ _ _ => rfl, fun _ _ _ => rfl, fun _ _ _ _ => rfl, fun _ _ _ _ => rfl⟩
/-- the grade of a load -/
theorem qfr.gI (x : qfr X h g) {a : Nat} {v : Int32} (ha : X + 1576 ≤ a) (hk : ah_kd h a = 12) : qfr X h (ah_wI g a 6 v) :=
  x.tr ⟨⟨rfl, rfl, rfl⟩, fun _ _ _ => rfl, fun b j q r => by rw [rd_II, if_neg (fun e => r ⟨by rw [e.1]; exact ha, by rw [e.1, x.1.2.1]; exact hk, e.2⟩)], fun _ _ _ => rfl, fun c m q j => rd_Ia (by
    have i1 : ∀ p, p ∈ ct_A → p.1 < 1494 := by decide
    have := i1 _ q
    simp only at this
    omega), fun c j m q => rd_Ia (by
    have i1 : ∀ p, p ∈ ct_Z → p.1 < 1494 := by decide
    have := i1 _ q
    simp only at this
    omega)⟩
theorem qfr.dy (x : qfr X h g) : dyn pG (X, 23) X h g := ⟨fun a _ => ⟨by rw [x.1.2.1], by rw [x.1.2.2]⟩, fun a k _ _ he => x.2.1 a k (fun z => he (by rw [z.1, z.2])), fun a k h1 h2 _ hp => ⟨x.2.2.1 a k (Or.inr h1) (fun z => hp ⟨z.2.1, z.2.2⟩), x.2.2.2.1 a k (Or.inr h1)⟩⟩
theorem qfr.ext (x : qfr X h g) (kX : ah_kd h X = 1) : ah_ext h g := ⟨by unfold ah_sz; rw [x.1.1]; exact Nat.le_refl _, fun a _ => ⟨by rw [x.1.2.1], by rw [x.1.2.2], fun k _ hm => x.2.1 a k (fun z => by rw [z.1, z.2, kX] at hm; exact absurd hm (by decide))⟩⟩
theorem qfr.ly (x : qfr X h g) (L : LY0 h X) : LY0 g X := L.ext (x.ext (ly0_k L))
theorem CI0.qf (C : CI0 h X S) (L : LY0 h X) (x : qfr X h g) : CI0 g X S := by
  have z := x.dy
  refine ⟨⟨fun c m hm k => (x.2.2.2.2.1 c m hm k).trans (C.1.1 c m hm k), fun c k m hm => (x.2.2.2.2.2 c k m hm).trans (C.1.2 c k m hm)⟩, C.2.1.dy L z (fun k => ⟨fun q => absurd q.1 (by decide), fun q => absurd q.1 (by decide)⟩) ⟨by show X < _; omega, by show X ≠ _; omega⟩, C.2.2.1.dy L z (fun k q => absurd q.1 (by decide)) ⟨by show X < _; omega, by show X ≠ _; omega⟩, C.2.2.2.1.dy L z (fun a k _ _ o q => ?_) ⟨by show X < _; omega, by show X ≠ _; omega⟩ (fun q => absurd q (by show X ≠ _; omega)), C.2.2.2.2.1.dy L z (fun a k o q => ?_) (by show X < _; omega), C.2.2.2.2.2⟩
  · rcases o with o | o
    · exact o q.2
    · exact o q.1
  · have := q.1; omega
theorem qfr.lf (x : qfr X h g) (L : LY0 h X) : lfr X h g := x.dy.lf L ⟨by show X < _; omega, by show X ≠ _; omega, by show ah_kd h X ≠ 50; rw [ly0_k L]; decide⟩ (fun a k o q => by have := q.1; omega)
theorem CIk.qf (T : CIk G h X S tx) (L : LY0 h X) (z : qfr X h g) : CIk G g X S tx := fun u hu => by
  have e := z.ext (ly0_k L)
  have lf := z.lf L
  obtain ⟨q1, q2⟩ := T u hu
  rw [lf.2.1]
  exact ⟨fun ht => (q1 ht).lf hu rfl e lf, q2⟩
theorem qfr.po (x : qfr X h g) (L : LY0 h X) (C : CI0 h X S) {c : Int32} : cpo X h (ah_wI g X 20 c) (uI S 0 0 c) := by
  have e : ah_ext h (ah_wI g X 20 c) := (x.ext (ly0_k L)).tr ⟨Nat.le_refl _, fun a _ => ⟨rfl, rfl, fun k _ _ => rfl⟩⟩
  refine ⟨L.ext e, (C.qf L x).st (x.ly L), ?_, e, ?_, ?_, dyn.lf L x.dy.zI ⟨by show X < _; omega, by show X ≠ _; omega, by show ah_kd h X ≠ 50; rw [ly0_k L]; decide⟩ (fun a k o q => by have := q.1; omega)⟩
  · exact cfr.tr (fun a k ha => ⟨x.2.2.1 a k (by omega) (by omega), x.2.2.2.1 a k (by omega)⟩) (cfr.rf (h := g)).zI
  · show ah_rc h ≤ ah_rc g + 4000
    unfold ah_rc; rw [x.1.1]; omega
  · show ah_rs h ≤ ah_rs g + 40000
    unfold ah_rs; rw [x.1.1]; omega
end
/-! the model: what it keeps, but the status -/
def kq (S S' : MS) : Prop := (∀ a, a ∈ mk_a → S.1 a = S'.1 a ∧ S.2 a = S'.2 a) ∧ ∀ k, k ∈ mk_z → k ≠ 0 → S.1 0 k = S'.1 0 k
section
variable {G : ma_G} {d M X o : Nat} {h g g2 : ah_T} {S S' S2 : MS} {tx : Nat → List Nat × List PD} {Q : Option ma_V → ah_T → Prop} {E : Nat → ah_T → Prop}
theorem kq.tr (x : kq S S') (z : kq S' S2) : kq S S2 := ⟨fun a ha => ⟨(x.1 a ha).1.trans (z.1 a ha).1, (x.1 a ha).2.trans (z.1 a ha).2⟩, fun k hk h0 => (x.2 k hk h0).trans (z.2 k hk h0)⟩
theorem kept.q0 (x : kept S S') : kq S S' := ⟨x.1, fun k hk _ => x.2 k hk⟩
theorem kq.mc {A Z : List Nat} (x : kq S (mv h M)) (m : mch A Z M h g) (hA : ∀ a, a ∈ mk_a → a ∉ A) (h0 : 0 ∉ A) (hZ : ∀ k, k ∈ mk_z → k ∉ Z) : kq S (mv g M) := x.tr (kept.mch m hA h0 hZ).q0
theorem kq.r (x : kq S (mv h M)) (a k : Nat) (ha : a ∈ mk_a) : ah_I h (M + a) k = S.1 a k := (congrFun (x.1 a ha).1 k).symm
theorem kq.j (x : kq S (mv h M)) (a k : Nat) (ha : a ∈ mk_a) : ah_J h (M + a) k = S.2 a k := (congrFun (x.1 a ha).2 k).symm
theorem kq.z (x : kq S (mv h M)) (k : Nat) (hk : k ∈ mk_z) (h0 : k ≠ 0) : ah_I h M k = S.1 0 k := (x.2 k hk h0).symm
theorem kq.st (eS : mv h M = S) : kq S (mv (ah_wI (ah_wI h M 1 0) M 0 0) M) := by
  rw [mv_zI, mv_zI, eS]
  refine ⟨fun a ha => ?_, fun k hk h0 => ?_⟩
  · have h0 : a ≠ 0 := fun e => absurd (e ▸ ha) (by decide)
    rw [uI_n h0, uI_n h0]
    exact ⟨rfl, rfl⟩
  · rw [uI_k h0, uI_k (fun e => absurd (e ▸ hk) (by decide))]
theorem WF.q0 (w : WF S) (k : kq S S2) : WF S2 := by
  have w1 := w.1
  have n5 : nT S2 = nT S := by unfold nT; rw [k.2 56 (by decide) (by decide)]
  have n7 : nP S2 = nP S := by unfold nP; rw [k.2 44 (by decide) (by decide)]
  refine w.kt ⟨fun a ha _ => ⟨(k.1 a ha).1.symm, (k.1 a ha).2.symm⟩, fun j hj hn => (k.2 j hj (fun e => hn (by rw [e]; decide))).symm⟩ ?_ ?_
  · rw [n5, ← k.2 56 (by decide) (by decide)]; exact ⟨w1.2.2.2.2.1, w1.2.2.2.2.2.2.2.2.1⟩
  · rw [n7, ← k.2 44 (by decide) (by decide)]; exact ⟨w1.2.2.2.2.2.2.1, w1.2.2.2.2.2.2.2.1⟩
theorem TXm.q0 (T : TXm S tx) (k : kq S S2) : TXm S2 tx := by
  have n5 : nT S2 = nT S := by unfold nT; rw [k.2 56 (by decide) (by decide)]
  unfold TXm
  rw [n5, ← k.2 56 (by decide) (by decide), ← (k.1 37 (by decide)).1, ← (k.1 42 (by decide)).2, ← (k.1 39 (by decide)).1, ← (k.1 38 (by decide)).1]
  exact T
theorem brS_kq (k : kq S S2) : brS S2 tx o = brS S tx o := by
  have n5 : nT S2 = nT S := by unfold nT; rw [k.2 56 (by decide) (by decide)]
  unfold brS vbr askS
  rw [n5, ← (k.1 53 (by decide)).1, ← (k.1 54 (by decide)).1, ← (k.1 56 (by decide)).1, ← (k.1 57 (by decide)).1, ← (k.1 58 (by decide)).1, ← (k.1 59 (by decide)).1, ← (k.1 61 (by decide)).1, ← (k.1 4 (by decide)).1, ← (k.1 5 (by decide)).1, ← (k.1 6 (by decide)).1, ← (k.1 36 (by decide)).1]
theorem m_breach2 (L : LY8 g M) (kS : kq S (mv g M)) (W : WF S) (B : nF S ≤ 20) (T : TXm S tx) (ho : o < nO S) (K : ∀ g2, mch [44, 45, 46, 47, 48] [72, 108] M g g2 → Q (some (jv (brS S tx o))) g2) : MX G mi_X8_breachOf (d + 5) 0 [some (rv M), some (iv (nI o)), none, none] [] g Q E := by
  refine m_breachOf L rfl (W.q0 kS) ?_ (T.q0 kS) ?_ (fun g2 m => ?_)
  · show nF (mv g M) ≤ 20
    unfold nF
    rw [← kS.2 5 (by decide) (by decide)]; exact B
  · show o < nO (mv g M)
    unfold nO
    rw [← kS.2 88 (by decide) (by decide)]; exact ho
  · rw [brS_kq kS]; exact K g2 m
/-- told, cut, the values being laid -/
theorem m_ask3 {x : Int32} {w : Nat} {wo lo hi : Int64} {vs : Nat → Int64} (L : LY8 g M) (kS : kq S (mv g M)) (T : TXm S tx) (hw : w < 1099511627776) (e : ∀ j, j < 11 → ah_J g (M + 45) j = vs j) (h1 : lo.toInt ≤ wo.toInt) (h2 : wo.toInt ≤ hi.toInt)
    (K : ∀ g2 v, mch [44, 46, 47, 48] [72, 108] M g g2 → jCut v lo hi = askS S tx vs x w wo lo hi → Q (some (jv v)) g2) :
    MX G mi_X8_told (d + 4) 0 [some (rv M), some (jv (lN w)), none, some (iv x), some (jv wo), none, none, none, none] [] g Q E := by
  refine m_told (S := S) (tx := tx) L T hw (kS.z 56 (by decide) (by decide)) (fun a ha k => kS.r a k ?_) (fun k => kS.j 42 k (by decide)) (fun g2 z2 => K g2 _ z2 ?_)
  · simp only [List.mem_cons, List.not_mem_nil, or_false] at ha
    rcases ha with q | q | q | q <;> subst q <;> decide
  · rw [ask_cut h1 h2, tolS_vs T e]
/-- a call that asks leaves the status alone -/
theorem mpo.qy {A Z : List Nat} (eS : mv h M = S) (m : mch A Z M (ah_wI (ah_wI h M 1 0) M 0 0) g) (hB : ∀ a, a ∈ A → a < 78) (hA : ∀ a, a ∈ mk_a → a ∉ A) (h0 : 0 ∉ A) (hZ : ∀ k, k ∈ mk_z → k ∉ Z) : mpo M h g (uI S 0 0 0) := by
  refine mpo.mk (A := A) (Z := 0 :: 1 :: Z) hB (mch.tr ((mch.rf.zI (by simp)).zI (by simp)) (m.mono (fun a ha => ha) (fun a ha => by simp [ha]))) ?_
  refine kept.tr ?_ (kept.mch m hA h0 hZ)
  rw [mv_zI, mv_zI, eS]; exact (kept.rf.sI (by decide) (by decide)).cI
end
theorem x_cl {x : Int32} (h : 0 ≤ x.toInt) : (x.toNatClampNeg : Int) = x.toInt := Int.toNat_of_nonneg h
theorem mpo.s2 {M : Nat} {h : ah_T} {S : MS} {c v : Int32} (eS : mv h M = S) : mpo M h (ah_wI (ah_wI h M 1 v) M 0 c) (uI S 0 0 c) :=
  mpo.mk (A := []) (Z := [0, 1]) (by decide) ((mch.rf.zI (by decide)).zI (by decide)) (by rw [mv_zI, mv_zI, eS]; exact (kept.rf.sI (by decide) (by decide)).cI)

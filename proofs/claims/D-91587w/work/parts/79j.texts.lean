/-! ===== the texts, both sides ===== -/
/-- the text u, at L -/
def CIm (G : ma_G) (h : ah_T) (X : Nat) (S : MS) (u L : Nat) (nm : List Nat) (Ds : List PD) : Prop :=
  (X + 1576 ≤ L ∧ nmC h L nm ∧ LDs G (X + 1433) (X + 1430) L h nm Ds ∧ ah_I h L 3 = S.1 36 u) ∧
  inR (S.1 36 u) 0 519 ∧ S.1 37 u = nI nm.length ∧ (∀ i, i < nm.length → S.2 42 (10 * u + i) = lN (nm.getD i 0) ∧ nm.getD i 0 < 1099511627776) ∧ (∀ i, i < nm.length → dep i (Ds.getD i pd0)) ∧
  ∃ b, b ≤ 500 ∧ MDs (fun k => S.1 39 (1100 * u + k)) (fun k => S.1 38 (11 * u + k)) nm Ds b
def CIl (G : ma_G) (h : ah_T) (X : Nat) (S : MS) : Prop := ∀ u, u < 4 → (u < nT S → ∃ nm Ds, CIm G h X S u (ah_R h (X + 1437) u) nm Ds) ∧ (nT S ≤ u → ah_R h (X + 1437) u = 0)
/-- a state that differs in the texts alone -/
def kt (S S2 : MS) : Prop := (∀ a, a ∈ mk_a → a ∉ [36, 37, 38, 39, 42] → S2.1 a = S.1 a ∧ S2.2 a = S.2 a) ∧ ∀ k, k ∈ mk_z → k ∉ [0, 44, 46, 47, 56] → S2.1 0 k = S.1 0 k
section
variable {G : ma_G} {A W X L d u : Nat} {h h' : ah_T} {S S' S2 : MS} {nm : List Nat} {Ds : List PD} {Q : Option ma_V → ah_T → Prop} {E : Nat → ah_T → Prop} {x1 x2 : Int32}
theorem LDs.st (x : LDs G A W L h nm Ds) (hL : X + 1576 ≤ L) (e : ah_ext h h') (k1 : ∀ a k, X + 1576 ≤ a → 16 ≤ ah_kd h a → ah_kd h a ≤ 21 → ah_R h' a k = ah_R h a k ∧ (a ≠ L → ah_I h' a k = ah_I h a k) ∧ ah_J h' a k = ah_J h a k) (k2 : ∀ k, ah_R h' (L + 2) k = ah_R h (L + 2) k) : LDs G A W L h' nm Ds := by
  obtain ⟨x1, x2, x3, x4⟩ := x
  refine ⟨x1, x2, fun i hi => by rw [k2]; exact x3 i hi, fun i hi => ?_⟩
  obtain ⟨T, lo, hi', t1, t2, t3, t4⟩ := x4 i hi
  refine ⟨T, lo, hi', by rw [k2]; exact t1, t2, Nat.le_trans t3 e.1, t4.ag (fun a a1 a2 a3 => ?_)⟩
  have q := fun k => k1 a k (by omega) a3.1 a3.2
  exact ⟨(e.2 a (by have := a3.1; omega)).1, fun k _ => (q k).1, fun k _ => (q k).2.1 (by omega), fun k => (q k).2.2⟩
theorem nmC.st (x : nmC h L nm) (e : ah_ext h h') (k2 : ah_I h' L 2 = ah_I h L 2) (k3 : ∀ k, ah_J h' (L + 1) k = ah_J h (L + 1) k) : nmC h' L nm :=
  ⟨x.1.ext e, x.2.1, k2.trans x.2.2.1, fun i hi => ⟨(k3 i).trans (x.2.2.2 i hi).1, (x.2.2.2 i hi).2⟩⟩
theorem CIm.lf (x : CIm G h X S u L nm Ds) (hu : u < 4) (er : ah_R h (X + 1437) u = L) (e : ah_ext h h') (z : lfr X h h') : CIm G h' X S u L nm Ds := by
  obtain ⟨⟨x1, x2, x3, x4⟩, x5⟩ := x
  have kL := ly17_k x2.1
  refine ⟨⟨x1, x2.st e (z.1 L 2 x1 (by omega) (by omega)).2.1 (fun k => ?_), x3.st x1 e (fun a k h1 h2 h3 => ⟨(z.1 a k h1 h2 h3).1, fun _ => (z.1 a k h1 h2 h3).2.1, (z.1 a k h1 h2 h3).2.2⟩) (fun k => z.2.2.1 _ k (by omega) (ly17_K_2 x2.1)), ?_⟩, x5⟩
  · have := z.2.2.2.1 u k hu (by rw [er]; exact x1) (by rw [er]; exact ly17_K_1 x2.1)
    rwa [er] at this
  · rw [(z.1 L 3 x1 (by omega) (by omega)).2.1]; exact x4
theorem CIl.lf (x : CIl G h X S) (e : ah_ext h h') (z : lfr X h h') : CIl G h' X S := fun u hu => by
  obtain ⟨q1, q2⟩ := x u hu
  rw [z.2.1]
  refine ⟨fun ht => ?_, q2⟩
  obtain ⟨nm, Ds, q⟩ := q1 ht
  exact ⟨nm, Ds, q.lf hu rfl e z⟩
theorem CIl.kp (x : CIl G h X S) (z : kept S S') : CIl G h X S' := fun u hu => by
  obtain ⟨q1, q2⟩ := x u hu
  have n5 : nT S' = nT S := by unfold nT; rw [z.2 56 (by decide)]
  rw [n5]
  refine ⟨fun ht => ?_, q2⟩
  obtain ⟨nm, Ds, ⟨y1, y2, y3, y4⟩, y5, y6, y7, y8, b, y9, y10⟩ := q1 ht
  have a36 := (z.1 36 (by decide)).1
  have a37 := (z.1 37 (by decide)).1
  have a38 := (z.1 38 (by decide)).1
  have a39 := (z.1 39 (by decide)).1
  have a42 := (z.1 42 (by decide)).2
  refine ⟨nm, Ds, ⟨y1, y2, y3, by rw [← a36]; exact y4⟩, by rw [← a36]; exact y5, by rw [← a37]; exact y6, fun i hi => by rw [← a42]; exact y7 i hi, y8, b, y9, ?_⟩
  rw [← a38, ← a39]; exact y10
theorem CIx.lf (x : CIl G h X S) (c : CIx h X) (lv : ah_liv h) (z : lfr X h h') : CIx h' X := fun t u ht hu h0 h1 => by
  rw [z.2.1] at h1 ⊢
  rcases z.2.2.2.2 t ht with q | q
  · rw [q] at h0 ⊢; exact c t u ht hu h0 h1
  · intro e
    obtain ⟨q1, q2⟩ := x u hu
    rcases Nat.lt_or_ge u (nT S) with l | l
    · obtain ⟨nm, Ds, y⟩ := q1 l
      have := lv (ah_R h (X + 1437) u + 1) (by rw [ly17_K_1 y.1.2.1.1]; decide)
      omega
    · exact h1 (q2 l)
theorem WF.kt (w : WF S) (k : kt S S2) (n5 : S2.1 0 56 = nI (nT S2) ∧ nT S2 ≤ 4) (n7 : S2.1 0 44 = nI (nP S2) ∧ nP S2 ≤ 500) : WF S2 := by
  have a := fun a ha hb => (k.1 a ha hb).1
  have b := k.2
  obtain ⟨⟨y1, y2, y3, y4, y5, y6, y7, y8, y9, y10⟩, x7, x8, x9, x10, x11, x12⟩ := w
  have n1 : nF S2 = nF S := by unfold nF; rw [b 5 (by decide) (by decide)]
  have n2 : nE S2 = nE S := by unfold nE; rw [b 6 (by decide) (by decide)]
  have n3 : nV S2 = nV S := by unfold nV; rw [b 7 (by decide) (by decide)]
  have n4 : nG S2 = nG S := by unfold nG; rw [b 8 (by decide) (by decide)]
  have n6 : nO S2 = nO S := by unfold nO; rw [b 88 (by decide) (by decide)]
  refine ⟨⟨?_, ?_, ?_, ?_, n5.1, ?_, n7.1, n7.2, n5.2, ?_⟩, ?_, ?_, ?_, ?_, ?_, ?_⟩
  · rw [n1, b 5 (by decide) (by decide)]; exact y1
  · rw [n2, b 6 (by decide) (by decide)]; exact y2
  · rw [n3, b 7 (by decide) (by decide)]; exact y3
  · rw [n4, b 8 (by decide) (by decide)]; exact y4
  · rw [n6, b 88 (by decide) (by decide)]; exact y6
  · rw [n1, n3, b 9 (by decide) (by decide), b 107 (by decide) (by decide), b 10 (by decide) (by decide), a 17 (by decide) (by decide), a 53 (by decide) (by decide), a 54 (by decide) (by decide), a 55 (by decide) (by decide), a 61 (by decide) (by decide)]; exact y10
  · rw [n1, a 4 (by decide) (by decide), a 5 (by decide) (by decide), a 6 (by decide) (by decide), a 53 (by decide) (by decide), a 54 (by decide) (by decide), a 55 (by decide) (by decide), a 61 (by decide) (by decide)]; exact x7
  · rw [n2, a 7 (by decide) (by decide), a 8 (by decide) (by decide)]; exact x8
  · rw [n1, n2, n3, a 9 (by decide) (by decide), a 10 (by decide) (by decide), a 11 (by decide) (by decide), a 12 (by decide) (by decide), a 13 (by decide) (by decide), a 14 (by decide) (by decide), a 15 (by decide) (by decide), a 16 (by decide) (by decide), a 17 (by decide) (by decide), a 18 (by decide) (by decide)]; exact x9
  · rw [n3, n4, a 9 (by decide) (by decide), a 19 (by decide) (by decide), a 20 (by decide) (by decide), a 21 (by decide) (by decide), a 22 (by decide) (by decide)]; exact x10
  · rw [n1, n6, a 56 (by decide) (by decide), a 57 (by decide) (by decide), a 58 (by decide) (by decide), a 59 (by decide) (by decide)]; exact x11
  · rw [a 60 (by decide) (by decide), b 89 (by decide) (by decide), b 90 (by decide) (by decide)]; exact x12
theorem CI0.tx (x2 : CIf h' X (nF S) (S.1 4) (S.1 5) (S.1 6) (S.1 53) (S.1 54) (S.1 55) (S.1 61)) (x3 : CIe h' X (nE S) (S.1 7)) (x4 : CIv h' X (nV S) (S.1 9) (S.1 10) (S.1 11) (S.1 12) (S.1 13) (S.1 14) (S.1 15) (S.1 16) (S.1 17) (S.1 18)) (x5 : CIt h' X (S.1 1) (S.1 2) (S.2 3)) (q : CIs h' X S2) (w : WF S2) (k : kt S S2) : CI0 h' X S2 := by
  have a := fun a ha hb => (k.1 a ha hb).1
  have a2 := fun a ha hb => (k.1 a ha hb).2
  have b := k.2
  have n1 : nF S2 = nF S := by unfold nF; rw [b 5 (by decide) (by decide)]
  have n2 : nE S2 = nE S := by unfold nE; rw [b 6 (by decide) (by decide)]
  have n3 : nV S2 = nV S := by unfold nV; rw [b 7 (by decide) (by decide)]
  refine ⟨q, ?_, ?_, ?_, ?_, w⟩
  · rw [n1, a 4 (by decide) (by decide), a 5 (by decide) (by decide), a 6 (by decide) (by decide), a 53 (by decide) (by decide), a 54 (by decide) (by decide), a 55 (by decide) (by decide), a 61 (by decide) (by decide)]; exact x2
  · rw [n2, a 7 (by decide) (by decide)]; exact x3
  · rw [n3, a 9 (by decide) (by decide), a 10 (by decide) (by decide), a 11 (by decide) (by decide), a 12 (by decide) (by decide), a 13 (by decide) (by decide), a 14 (by decide) (by decide), a 15 (by decide) (by decide), a 16 (by decide) (by decide), a 17 (by decide) (by decide), a 18 (by decide) (by decide)]; exact x4
  · rw [a 1 (by decide) (by decide), a 2 (by decide) (by decide), a2 3 (by decide) (by decide)]; exact x5
theorem CIs.tx (x : CIs h X S) (k : kt S S2) (I : ∀ c k, c < 1498 → ¬ (c = 0 ∧ (k = 18 ∨ k = 20 ∨ k = 21 ∨ k = 22)) → c ≠ 1430 → ¬ (c = 1431 ∧ 1 ≤ k ∧ k ≤ 6) → ah_I h' (X + c) k = ah_I h (X + c) k)
    (e18 : ah_I h' X 18 = S2.1 0 56) (e20 : ah_I h' X 20 = S2.1 0 0) (e21 : ah_I h' X 21 = S2.1 0 46) (e22 : ah_I h' X 22 = S2.1 0 47) (e1 : ah_I h' (X + 1431) 1 = S2.1 0 44) : CIs h' X S2 := by
  have hA : ∀ p, p ∈ ct_A → p.1 < 1498 ∧ p.1 ≠ 0 ∧ p.1 ≠ 1430 ∧ p.1 ≠ 1431 ∧ p.2 ∈ mk_a ∧ p.2 ∉ [36, 37, 38, 39, 42] := by decide
  have hZ : ∀ p, p ∈ ct_Z → (p = (0, 18, 56) ∨ p = (0, 20, 0) ∨ p = (0, 21, 46) ∨ p = (0, 22, 47) ∨ p = (1431, 1, 44)) ∨ (p.1 = 0 ∧ p.2.1 ≠ 18 ∧ p.2.1 ≠ 20 ∧ p.2.1 ≠ 21 ∧ p.2.1 ≠ 22 ∧ p.2.2 ∈ mk_z ∧ p.2.2 ∉ [0, 44, 46, 47, 56]) := by decide
  refine ⟨fun c m hm j => ?_, fun c j m hm => ?_⟩
  · obtain ⟨q1, q2, q3, q4, q5, q6⟩ := hA _ hm
    simp only at q1 q2 q3 q4 q5 q6
    rw [I c j q1 (fun z => q2 z.1) q3 (fun z => q4 z.1), (k.1 m q5 q6).1]
    exact x.1 c m hm j
  · rcases hZ _ hm with (e | e | e | e | e) | ⟨q1, q2, q3, q4, q5, q6, q7⟩
    · injection e with r1 e; injection e with r2 r3; subst r1; subst r2; subst r3; exact e18
    · injection e with r1 e; injection e with r2 r3; subst r1; subst r2; subst r3; exact e20
    · injection e with r1 e; injection e with r2 r3; subst r1; subst r2; subst r3; exact e21
    · injection e with r1 e; injection e with r2 r3; subst r1; subst r2; subst r3; exact e22
    · injection e with r1 e; injection e with r2 r3; subst r1; subst r2; subst r3; exact e1
    · simp only at q1 q2 q3 q4 q5 q6 q7
      rw [I c j (by omega) (by omega) (by omega) (by omega), k.2 m q6 q7]
      exact x.2 c j m hm
end

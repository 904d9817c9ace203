/-! ===== acts: a def looks only at the defs before it ===== -/
def dep (m : Nat) (D : PD) : Prop := ∀ v v' ds ds', (∀ j, j < 11 → v j = v' j) → (∀ j, j < m → ds j = ds' j) → D v ds = D v' ds'
def depB (m : Nat) (B : PB) : Prop := ∀ v v' ds ds', (∀ j, j < 11 → v j = v' j) → (∀ j, j < m → ds j = ds' j) → B v ds = B v' ds'
def dps (m : Nat) (F : Nat → PR) : Prop := ∀ p q D, F p = .inr (q, D) → dep m D
section
variable {t : Nat → Nat} {n m : Nat} {nm : List Nat} {W S A : Nat → PR}
theorem dep.bin {D1 D2 : PD} {f : Option Int64 → Option Int64 → Option Int64} (x : dep m D1) (z : dep m D2) : dep m (fun v d => f (D1 v d) (D2 v d)) := fun v v' a b hv h => by
  show f (D1 v a) (D2 v a) = f (D1 v' b) (D2 v' b)
  rw [x v v' a b hv h, z v v' a b hv h]
theorem dps_few (hS : dps m S) {p q : Nat} {D : PD} (e : pFew t n S p = .inr (q, D)) : dep m D := by
  unfold pFew at e
  by_cases c1 : tC t n 40 (tE t n p)
  · rw [if_pos c1] at e
    cases h1 : S (tE t n (tE t n p)) with
    | inl x => rw [h1] at e; simp at e
    | inr x =>
      obtain ⟨q1, A1⟩ := x
      rw [h1] at e
      simp only at e
      by_cases c2 : tC t n 44 q1
      · rw [if_pos c2] at e
        cases h2 : S (tE t n q1) with
        | inl x => rw [h2] at e; simp at e
        | inr x =>
          obtain ⟨q2, B1⟩ := x
          rw [h2] at e
          simp only at e
          by_cases c3 : tC t n 41 q2
          · rw [if_pos c3] at e
            injection e with e
            injection e with e1 e2
            rw [← e2]
            exact dep.bin (hS _ _ _ h1) (hS _ _ _ h2)
          · rw [if_neg c3] at e; simp at e
      · rw [if_neg c2] at e; simp at e
  · rw [if_neg c1] at e; simp at e
theorem nix_bd2 {p : Nat} (h : 0 ≤ nix t n nm p) : (nix t n nm p).toNat < nm.length := by
  unfold nix at h ⊢
  by_cases c : tS t n p = 2 ∧ tE t n p - tF t n p ≤ 8
  · rw [if_pos c] at h ⊢
    rcases kix_bd (tW t n p) nm 0 with e | e
    · omega
    · omega
  · rw [if_neg c] at h; omega
theorem tk1_bd {p : Nat} (h : 0 ≤ tK 1 t n p) : (tK 1 t n p).toNat < 11 := by
  unfold tK at h ⊢
  by_cases c : tS t n p = 2
  · rw [if_pos c] at h ⊢
    have l : (kw 1).length = 11 := rfl
    rcases kix_bd (tW t n p) (kw 1) 0 with e | e
    · omega
    · rw [l] at e; omega
  · rw [if_neg c] at h; omega
theorem dps_atom (hW : dps nm.length W) (hS : dps nm.length S) : dps nm.length (pAtom t n nm W S) := by
  intro p q D e
  unfold pAtom at e
  by_cases c1 : tC t n 40 p
  · rw [if_pos c1] at e
    cases h1 : W (tE t n p) with
    | inl x => rw [h1] at e; simp at e
    | inr x =>
      obtain ⟨q1, A1⟩ := x
      rw [h1] at e
      simp only at e
      by_cases c2 : tC t n 41 q1
      · rw [if_pos c2] at e
        injection e with e
        injection e with e1 e2
        rw [← e2]
        exact hW _ _ _ h1
      · rw [if_neg c2] at e; simp at e
  · rw [if_neg c1] at e
    by_cases c2 : tK 0 t n p = 6 ∨ tK 0 t n p = 7
    · rw [if_pos c2] at e
      exact dps_few hS e
    · rw [if_neg c2] at e
      by_cases c3 : tS t n p = 2 ∧ tK 0 t n p = -1
      · rw [if_pos c3] at e
        by_cases c4 : 0 ≤ tK 1 t n p
        · rw [if_pos c4] at e
          injection e with e
          injection e with e1 e2
          rw [← e2]
          exact fun v v' a b hv h => by show some (v _) = some (v' _); rw [hv _ (tk1_bd c4)]
        · rw [if_neg c4] at e
          by_cases c5 : 0 ≤ nix t n nm p
          · rw [if_pos c5] at e
            injection e with e
            injection e with e1 e2
            rw [← e2]
            exact fun v v' a b hv h => h _ (nix_bd2 c5)
          · rw [if_neg c5] at e; simp at e
      · rw [if_neg c3] at e
        by_cases c4 : tS t n p = 3
        · rw [if_pos c4] at e
          injection e with e
          injection e with e1 e2
          rw [← e2]
          exact fun v v' a b hv h => rfl
        · rw [if_neg c4] at e; simp at e
theorem dps_loop {ops : List Nat} (hA : dps m A) : ∀ {f p q : Nat} {D D' : PD}, dep m D → pLoop t n ops A f p D = .inr (q, D') → dep m D'
  | 0, p, q, D, D', hp, e => by
    unfold pLoop at e
    injection e with e
    injection e with e1 e2
    rw [← e2]; exact hp
  | f + 1, p, q, D, D', hp, e => by
    unfold pLoop at e
    by_cases c : tS t n p = 4 ∧ tV t n p ∈ ops
    · rw [if_pos c] at e
      cases h1 : A (tE t n p) with
      | inl x => rw [h1] at e; simp at e
      | inr x =>
        obtain ⟨q1, A1⟩ := x
        rw [h1] at e
        simp only at e
        exact dps_loop hA (dep.bin hp (hA _ _ _ h1)) e
    · rw [if_neg c] at e
      injection e with e
      injection e with e1 e2
      rw [← e2]; exact hp
theorem dps_chain {ops : List Nat} (hA : dps m A) : dps m (pChain t n ops A) := by
  intro p q D e
  unfold pChain at e
  cases h1 : A p with
  | inl x => rw [h1] at e; simp at e
  | inr x =>
    obtain ⟨q1, A1⟩ := x
    rw [h1] at e
    simp only at e
    exact dps_loop hA (hA _ _ _ h1) e
theorem dps_sum (hW : dps nm.length W) (hS : dps nm.length S) : dps nm.length (pSum t n nm W S) := dps_chain (dps_chain (dps_atom hW hS))
theorem dps_one (hA : dps m A) {p q : Nat} {b : PB} (e : pOne t n A p = .inr (q, b)) : depB m b := by
  unfold pOne at e
  cases h1 : A (pNot t n p) with
  | inl x => rw [h1] at e; simp at e
  | inr x =>
    obtain ⟨q1, A1⟩ := x
    rw [h1] at e
    simp only at e
    by_cases c : tS t n q1 = 4 ∧ tV t n q1 ∈ [60, 62, 61]
    · rw [if_pos c] at e
      cases h2 : A (tE t n q1) with
      | inl x => rw [h2] at e; simp at e
      | inr x =>
        obtain ⟨q2, B1⟩ := x
        rw [h2] at e
        simp only at e
        injection e with e
        injection e with e1 e2
        rw [← e2]
        intro v v' a b' hv h
        show dho _ _ (A1 v a) (B1 v a) = dho _ _ (A1 v' b') (B1 v' b')
        rw [hA _ _ _ h1 v v' a b' hv h, hA _ _ _ h2 v v' a b' hv h]
    · rw [if_neg c] at e; simp at e
theorem dps_test {k : Nat} (hA : dps m A) : ∀ {f p q : Nat} {b b' : PB}, depB m b → pTest t n A k f p b = .inr (q, b') → depB m b'
  | 0, p, q, b, b', hp, e => by
    unfold pTest at e
    injection e with e
    injection e with e1 e2
    rw [← e2]; exact hp
  | f + 1, p, q, b, b', hp, e => by
    unfold pTest at e
    by_cases c : (k = 3 ∨ k = 4) ∧ tK 0 t n p = k
    · rw [if_pos c] at e
      cases h1 : pOne t n A (tE t n p) with
      | inl x => rw [h1] at e; simp at e
      | inr x =>
        obtain ⟨q1, A1⟩ := x
        rw [h1] at e
        simp only at e
        have o := dps_one hA h1
        refine dps_test hA (fun v v' a b2 hv h => ?_) e
        show (if k = 3 then b v a && A1 v a else b v a || A1 v a) = (if k = 3 then b v' b2 && A1 v' b2 else b v' b2 || A1 v' b2)
        rw [hp v v' a b2 hv h, o v v' a b2 hv h]
    · rw [if_neg c] at e
      injection e with e
      injection e with e1 e2
      rw [← e2]; exact hp
theorem dps_if (hA : dps m A) (hW : dps m W) : dps m (pIf t n A W) := by
  intro p q D e
  unfold pIf at e
  cases h1 : pOne t n A p with
  | inl x => rw [h1] at e; simp at e
  | inr x =>
    obtain ⟨q1, b1⟩ := x
    rw [h1] at e
    simp only at e
    have a1 := dps_one hA h1
    cases h2 : pTest t n A (pJoin t n q1) (n + 1) q1 b1 with
    | inl x => rw [h2] at e; simp at e
    | inr x =>
      obtain ⟨q2, b2⟩ := x
      rw [h2] at e
      simp only at e
      have a2 := dps_test hA a1 h2
      by_cases c1 : tK 0 t n q2 = 1
      · rw [if_pos c1] at e
        cases h3 : W (tE t n q2) with
        | inl x => rw [h3] at e; simp at e
        | inr x =>
          obtain ⟨q3, D3⟩ := x
          rw [h3] at e
          simp only at e
          by_cases c2 : tK 0 t n q3 = 2
          · rw [if_pos c2] at e
            cases h4 : W (tE t n q3) with
            | inl x => rw [h4] at e; simp at e
            | inr x =>
              obtain ⟨q4, D4⟩ := x
              rw [h4] at e
              simp only at e
              injection e with e
              injection e with e1 e2
              rw [← e2]
              intro v v' a b hv h
              show (if b2 v a = true then D3 v a else D4 v a) = (if b2 v' b = true then D3 v' b else D4 v' b)
              rw [a2 v v' a b hv h, hW _ _ _ h3 v v' a b hv h, hW _ _ _ h4 v v' a b hv h]
          · rw [if_neg c2] at e; simp at e
      · rw [if_neg c1] at e; simp at e
theorem dps_L : ∀ l, dps nm.length (pL t n nm l).1 ∧ dps nm.length (pL t n nm l).2
  | 0 => by
    refine ⟨fun p q D e => ?_, fun p q D e => ?_⟩
    · unfold pL at e
      simp only at e
      by_cases c : tK 0 t n p = 0 ∨ tB t n p
      · rw [if_pos c] at e; simp at e
      · rw [if_neg c] at e; simp at e
    · unfold pL at e
      simp only at e
      by_cases c : tB t n p
      · rw [if_pos c] at e; simp at e
      · rw [if_neg c] at e; simp at e
  | l + 1 => by
    obtain ⟨h1, h2⟩ := dps_L l
    have s := dps_sum (t := t) (n := n) (nm := nm) h1 h2
    refine ⟨fun p q D e => ?_, s⟩
    unfold pL at e
    simp only at e
    by_cases c : tK 0 t n p = 0
    · rw [if_pos c] at e
      exact dps_if s h1 _ _ _ e
    · rw [if_neg c] at e
      exact s p q D e
theorem dps_def {p q : Nat} {D : PD} (e : pDef t n nm p = .inr (q, D)) : dep nm.length D := by
  unfold pDef at e
  by_cases ok : pOk t n p
  · rw [if_pos ok] at e
    by_cases c1 : nm.length = 10
    · rw [if_pos c1] at e; simp at e
    · rw [if_neg c1] at e
      by_cases c2 : 0 ≤ nix t n nm p
      · rw [if_pos c2] at e; simp at e
      · rw [if_neg c2] at e
        by_cases c3 : tC t n 58 (tE t n p)
        · rw [if_pos c3] at e
          cases h1 : (pL t n nm 8).1 (tE t n (tE t n p)) with
          | inl x => rw [h1] at e; simp at e
          | inr x =>
            obtain ⟨q1, D1⟩ := x
            rw [h1] at e
            simp only at e
            by_cases c4 : tC t n 59 q1
            · rw [if_pos c4] at e
              injection e with e
              injection e with e1 e2
              rw [← e2]
              exact (dps_L 8).1 _ _ _ h1
            · rw [if_neg c4] at e; simp at e
        · rw [if_neg c3] at e; simp at e
  · rw [if_neg ok] at e; simp at e
/-- every def of a text looks at those before it alone -/
theorem dps_all : ∀ (f p : Nat) (nm : List Nat) (Ds : List PD) (nm' : List Nat) (Ds' : List PD), Ds.length = nm.length → (∀ i, i < nm.length → dep i (Ds.getD i pd0)) → pAll t n f p nm Ds = .inr (nm', Ds') → Ds'.length = nm'.length ∧ ∀ i, i < nm'.length → dep i (Ds'.getD i pd0)
  | 0, p, nm, Ds, nm', Ds', l, h, e => by
    rw [pAll] at e
    injection e with e
    injection e with e1 e2
    rw [← e1, ← e2]; exact ⟨l, h⟩
  | f + 1, p, nm, Ds, nm', Ds', l, h, e => by
    rw [pAll] at e
    by_cases c : tS t n p = 0
    · rw [if_pos c] at e
      injection e with e
      injection e with e1 e2
      rw [← e1, ← e2]; exact ⟨l, h⟩
    · rw [if_neg c] at e
      cases h1 : pDef t n nm p with
      | inl x => rw [h1] at e; simp at e
      | inr x =>
        obtain ⟨q1, D1⟩ := x
        rw [h1] at e
        simp only at e
        refine dps_all f q1 _ _ nm' Ds' (by simp [l]) (fun i hi => ?_) e
        have len : (nm ++ [tW t n p]).length = nm.length + 1 := by simp
        rw [len] at hi
        rw [gD_app, l]
        by_cases c2 : i < nm.length
        · rw [if_pos c2]; exact h i c2
        · rw [if_neg c2, if_pos (by omega)]
          have := dps_def h1
          rwa [show nm.length = i by omega] at this
end

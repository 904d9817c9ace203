/-! ===== acts: what a text says ===== -/
abbrev PD := (Nat → Int64) → (Nat → Option Int64) → Option Int64
abbrev PB := (Nat → Int64) → (Nat → Option Int64) → Bool
abbrev PR := (Nat × Nat) ⊕ (Nat × PD)
abbrev PT := (Nat × Nat) ⊕ (Nat × PB)
def dop (op : Nat) (a b : Option Int64) : Option Int64 :=
  match a, b with
  | some x, some y => if op = 43 then some (x + y) else if op = 45 then some (x - y) else if op = 42 then some (x * y) else if y = 0 then none else if op = 47 then some (x / y) else some (x - x / y * y)
  | _, _ => none
def dpk (most : Bool) (a b : Option Int64) : Option Int64 :=
  match a, b with
  | some x, some y => some (if most then jMax x y else jMin x y)
  | _, _ => none
def dcm (how : Nat) (x y : Int64) : Bool := if how = 60 then decide (x < y) else if how = 62 then decide (y < x) else decide (x = y)
def dho (no : Bool) (how : Nat) (a b : Option Int64) : Bool :=
  match a, b with
  | some x, some y => no != dcm how x y
  | _, _ => false
def tC (t : Nat → Nat) (n c p : Nat) : Prop := tS t n p = 4 ∧ tV t n p = c
/-- a fault at a token -/
def pw (t : Nat → Nat) (n p k : Nat) : Nat × Nat := (if tS t n p = 1 then 1 else k, tF t n p)
/-- which def a word names -/
def nix (t : Nat → Nat) (n : Nat) (nm : List Nat) (p : Nat) : Int := if tS t n p = 2 ∧ tE t n p - tF t n p ≤ 8 then kix (tW t n p) nm 0 else -1
noncomputable section
def pFew (t : Nat → Nat) (n : Nat) (S : Nat → PR) (p : Nat) : PR :=
  @ite PR (tC t n 40 (tE t n p)) (Classical.propDecidable _) (match S (tE t n (tE t n p)) with
    | .inl e => .inl e
    | .inr (q, A) => @ite PR (tC t n 44 q) (Classical.propDecidable _) (match S (tE t n q) with
      | .inl e => .inl e
      | .inr (q2, B) => @ite PR (tC t n 41 q2) (Classical.propDecidable _) (.inr (tE t n q2, fun v d => dpk (decide (tK 0 t n p = 7)) (A v d) (B v d))) (.inl (pw t n q2 2))) (.inl (pw t n q 2))) (.inl (pw t n (tE t n p) 2))
def pAtom (t : Nat → Nat) (n : Nat) (nm : List Nat) (W S : Nat → PR) (p : Nat) : PR :=
  @ite PR (tC t n 40 p) (Classical.propDecidable _) (match W (tE t n p) with
    | .inl e => .inl e
    | .inr (q, D) => @ite PR (tC t n 41 q) (Classical.propDecidable _) (.inr (tE t n q, D)) (.inl (pw t n q 2)))
  (if tK 0 t n p = 6 ∨ tK 0 t n p = 7 then pFew t n S p
  else if tS t n p = 2 ∧ tK 0 t n p = -1 then
    (if 0 ≤ tK 1 t n p then .inr (tE t n p, fun v _ => some (v (tK 1 t n p).toNat)) else if 0 ≤ nix t n nm p then .inr (tE t n p, fun _ d => d (nix t n nm p).toNat) else .inl (6, tF t n p))
  else if tS t n p = 3 then .inr (tE t n p, fun _ _ => some (lN (tV t n p))) else .inl (pw t n p 2))
/-- one behind the other, joined by signs -/
def pLoop (t : Nat → Nat) (n : Nat) (ops : List Nat) (A : Nat → PR) : Nat → Nat → PD → PR
  | 0, p, D => .inr (p, D)
  | f + 1, p, D => if tS t n p = 4 ∧ tV t n p ∈ ops then (match A (tE t n p) with
    | .inl e => .inl e
    | .inr (q, D2) => pLoop t n ops A f q (fun v d => dop (tV t n p) (D v d) (D2 v d))) else .inr (p, D)
def pChain (t : Nat → Nat) (n : Nat) (ops : List Nat) (A : Nat → PR) (p : Nat) : PR :=
  match A p with
  | .inl e => .inl e
  | .inr (q, D) => pLoop t n ops A (n + 1) q D
def pItem (t : Nat → Nat) (n : Nat) (nm : List Nat) (W S : Nat → PR) : Nat → PR := pChain t n [42, 47, 37] (pAtom t n nm W S)
def pSum (t : Nat → Nat) (n : Nat) (nm : List Nat) (W S : Nat → PR) : Nat → PR := pChain t n [43, 45] (pItem t n nm W S)
def pNot (t : Nat → Nat) (n p : Nat) : Nat := if tK 0 t n p = 5 then tE t n p else p
def pOne (t : Nat → Nat) (n : Nat) (U : Nat → PR) (p : Nat) : PT :=
  match U (pNot t n p) with
  | .inl e => .inl e
  | .inr (q, A) => if tS t n q = 4 ∧ tV t n q ∈ [60, 62, 61] then (match U (tE t n q) with
    | .inl e => .inl e
    | .inr (q2, B) => .inr (q2, fun v d => dho (decide (tK 0 t n p = 5)) (tV t n q) (A v d) (B v d))) else .inl (pw t n q 2)
/-- tests joined by 'and' (3) or by 'or' (4) -/
def pTest (t : Nat → Nat) (n : Nat) (U : Nat → PR) (k : Nat) : Nat → Nat → PB → PT
  | 0, p, b => .inr (p, b)
  | f + 1, p, b => if (k = 3 ∨ k = 4) ∧ tK 0 t n p = k then (match pOne t n U (tE t n p) with
    | .inl e => .inl e
    | .inr (q, c) => pTest t n U k f q (fun v d => if k = 3 then b v d && c v d else b v d || c v d)) else .inr (p, b)
def pJoin (t : Nat → Nat) (n p : Nat) : Nat := if tK 0 t n p = 3 then 3 else if tK 0 t n p = 4 then 4 else 0
def pIf (t : Nat → Nat) (n : Nat) (U W : Nat → PR) (p : Nat) : PR :=
  match pOne t n U p with
  | .inl e => .inl e
  | .inr (q, b) => match pTest t n U (pJoin t n q) (n + 1) q b with
    | .inl e => .inl e
    | .inr (q1, b1) => if tK 0 t n q1 = 1 then (match W (tE t n q1) with
      | .inl e => .inl e
      | .inr (q2, A) => if tK 0 t n q2 = 2 then (match W (tE t n q2) with
        | .inl e => .inl e
        | .inr (q3, B) => .inr (q3, fun v d => if b1 v d then A v d else B v d)) else .inl (pw t n q2 2)) else .inl (pw t n q1 2)
/-- a whole, a sum, by levels -/
def pL (t : Nat → Nat) (n : Nat) (nm : List Nat) : Nat → (Nat → PR) × (Nat → PR)
  | 0 => (fun p => @ite PR (tK 0 t n p = 0 ∨ tB t n p) (Classical.propDecidable _) (.inl (5, tF t n p)) (.inl (pw t n p 2)), fun p => @ite PR (tB t n p) (Classical.propDecidable _) (.inl (5, tF t n p)) (.inl (pw t n p 2)))
  | l + 1 => (fun p => if tK 0 t n p = 0 then pIf t n (pSum t n nm (pL t n nm l).1 (pL t n nm l).2) (pL t n nm l).1 (tE t n p) else pSum t n nm (pL t n nm l).1 (pL t n nm l).2 p, pSum t n nm (pL t n nm l).1 (pL t n nm l).2)
end
/-! where it goes on -/
/-- what comes of p goes on behind it -/
def pos (n : Nat) (F : Nat → PR) : Prop := ∀ p q D, p ≤ n → F p = .inr (q, D) → p < q ∧ q ≤ n
section
variable {t : Nat → Nat} {n : Nat} {nm : List Nat} {W S A : Nat → PR}
theorem tE_s {p : Nat} (hp : p ≤ n) (h : tS t n p ≠ 0) : p < tE t n p ∧ tE t n p ≤ n := ⟨(tE_bd hp).2.2 h, (tE_bd hp).2.1⟩
theorem tC_s {c p : Nat} (h : tC t n c p) : tS t n p ≠ 0 := by rw [h.1]; decide
theorem pos_few (hS : pos n S) {p q : Nat} {D : PD} (hp : p ≤ n) (hs : tS t n p ≠ 0) (e : pFew t n S p = .inr (q, D)) : p < q ∧ q ≤ n := by
  have a0 := tE_s hp hs
  unfold pFew at e
  by_cases c1 : tC t n 40 (tE t n p)
  · rw [if_pos c1] at e
    have a1 := tE_s a0.2 (tC_s c1)
    cases h1 : S (tE t n (tE t n p)) with
    | inl x => rw [h1] at e; simp at e
    | inr x =>
      obtain ⟨q1, A1⟩ := x
      rw [h1] at e
      simp only at e
      have b1 := hS _ _ _ a1.2 h1
      by_cases c2 : tC t n 44 q1
      · rw [if_pos c2] at e
        have a2 := tE_s b1.2 (tC_s c2)
        cases h2 : S (tE t n q1) with
        | inl x => rw [h2] at e; simp at e
        | inr x =>
          obtain ⟨q2, B1⟩ := x
          rw [h2] at e
          simp only at e
          have b2 := hS _ _ _ a2.2 h2
          by_cases c3 : tC t n 41 q2
          · rw [if_pos c3] at e
            have a3 := tE_s b2.2 (tC_s c3)
            injection e with e
            injection e with e1 e2
            omega
          · rw [if_neg c3] at e; simp at e
      · rw [if_neg c2] at e; simp at e
  · rw [if_neg c1] at e; simp at e
theorem pos_atom (hW : pos n W) (hS : pos n S) : pos n (pAtom t n nm W S) := by
  intro p q D hp e
  unfold pAtom at e
  by_cases c1 : tC t n 40 p
  · rw [if_pos c1] at e
    have a1 := tE_s hp (tC_s c1)
    cases h1 : W (tE t n p) with
    | inl x => rw [h1] at e; simp at e
    | inr x =>
      obtain ⟨q1, A1⟩ := x
      rw [h1] at e
      simp only at e
      have b1 := hW _ _ _ a1.2 h1
      by_cases c2 : tC t n 41 q1
      · rw [if_pos c2] at e
        have a2 := tE_s b1.2 (tC_s c2)
        injection e with e
        injection e with e1 e2
        omega
      · rw [if_neg c2] at e; simp at e
  · rw [if_neg c1] at e
    by_cases c2 : tK 0 t n p = 6 ∨ tK 0 t n p = 7
    · rw [if_pos c2] at e
      have : tS t n p = 2 := by
        rcases c2 with c | c
        · exact tK_2 (k := 6) c
        · exact tK_2 (k := 7) c
      exact pos_few hS hp (by rw [this]; decide) e
    · rw [if_neg c2] at e
      by_cases c3 : tS t n p = 2 ∧ tK 0 t n p = -1
      · rw [if_pos c3] at e
        have a := tE_s hp (by rw [c3.1]; decide)
        by_cases c4 : 0 ≤ tK 1 t n p
        · rw [if_pos c4] at e
          injection e with e
          injection e with e1 e2
          omega
        · rw [if_neg c4] at e
          by_cases c5 : 0 ≤ nix t n nm p
          · rw [if_pos c5] at e
            injection e with e
            injection e with e1 e2
            omega
          · rw [if_neg c5] at e; simp at e
      · rw [if_neg c3] at e
        by_cases c4 : tS t n p = 3
        · rw [if_pos c4] at e
          have a := tE_s hp (by rw [c4]; decide)
          injection e with e
          injection e with e1 e2
          omega
        · rw [if_neg c4] at e; simp at e
theorem pos_loop {ops : List Nat} (hA : pos n A) : ∀ {f p q : Nat} {D D' : PD}, p ≤ n → pLoop t n ops A f p D = .inr (q, D') → p ≤ q ∧ q ≤ n
  | 0, p, q, D, D', hp, e => by
    unfold pLoop at e
    injection e with e
    injection e with e1 e2
    omega
  | f + 1, p, q, D, D', hp, e => by
    unfold pLoop at e
    by_cases c : tS t n p = 4 ∧ tV t n p ∈ ops
    · rw [if_pos c] at e
      have a := tE_s hp (by rw [c.1]; decide)
      cases h1 : A (tE t n p) with
      | inl x => rw [h1] at e; simp at e
      | inr x =>
        obtain ⟨q1, A1⟩ := x
        rw [h1] at e
        simp only at e
        have b := hA _ _ _ a.2 h1
        have := pos_loop hA b.2 e
        omega
    · rw [if_neg c] at e
      injection e with e
      injection e with e1 e2
      omega
theorem pos_chain {ops : List Nat} (hA : pos n A) : pos n (pChain t n ops A) := by
  intro p q D hp e
  unfold pChain at e
  cases h1 : A p with
  | inl x => rw [h1] at e; simp at e
  | inr x =>
    obtain ⟨q1, A1⟩ := x
    rw [h1] at e
    simp only at e
    have b := hA _ _ _ hp h1
    have := pos_loop hA b.2 e
    omega
theorem pos_sum (hW : pos n W) (hS : pos n S) : pos n (pSum t n nm W S) := pos_chain (pos_chain (pos_atom hW hS))
theorem pNot_bd {p : Nat} (hp : p ≤ n) : p ≤ pNot t n p ∧ pNot t n p ≤ n := by
  unfold pNot
  by_cases c : tK 0 t n p = 5
  · rw [if_pos c]
    have := tE_s hp (by rw [tK_2 (k := 5) c]; decide)
    omega
  · rw [if_neg c]; omega
theorem pos_one (hA : pos n A) {p q : Nat} {b : PB} (hp : p ≤ n) (e : pOne t n A p = .inr (q, b)) : p < q ∧ q ≤ n := by
  unfold pOne at e
  have a0 := pNot_bd (t := t) hp
  cases h1 : A (pNot t n p) with
  | inl x => rw [h1] at e; simp at e
  | inr x =>
    obtain ⟨q1, A1⟩ := x
    rw [h1] at e
    simp only at e
    have b1 := hA _ _ _ a0.2 h1
    by_cases c : tS t n q1 = 4 ∧ tV t n q1 ∈ [60, 62, 61]
    · rw [if_pos c] at e
      have a := tE_s b1.2 (by rw [c.1]; decide)
      cases h2 : A (tE t n q1) with
      | inl x => rw [h2] at e; simp at e
      | inr x =>
        obtain ⟨q2, B1⟩ := x
        rw [h2] at e
        simp only at e
        have b2 := hA _ _ _ a.2 h2
        injection e with e
        injection e with e1 e2
        omega
    · rw [if_neg c] at e; simp at e
theorem pos_test {k : Nat} (hA : pos n A) : ∀ {f p q : Nat} {b b' : PB}, p ≤ n → pTest t n A k f p b = .inr (q, b') → p ≤ q ∧ q ≤ n
  | 0, p, q, b, b', hp, e => by
    unfold pTest at e
    injection e with e
    injection e with e1 e2
    omega
  | f + 1, p, q, b, b', hp, e => by
    unfold pTest at e
    by_cases c : (k = 3 ∨ k = 4) ∧ tK 0 t n p = k
    · rw [if_pos c] at e
      have a := tE_s hp (by rw [tK_2 c.2]; decide)
      cases h1 : pOne t n A (tE t n p) with
      | inl x => rw [h1] at e; simp at e
      | inr x =>
        obtain ⟨q1, A1⟩ := x
        rw [h1] at e
        simp only at e
        have b := pos_one hA a.2 h1
        have := pos_test hA b.2 e
        omega
    · rw [if_neg c] at e
      injection e with e
      injection e with e1 e2
      omega
theorem pos_if (hA : pos n A) (hW : pos n W) : pos n (pIf t n A W) := by
  intro p q D hp e
  unfold pIf at e
  cases h1 : pOne t n A p with
  | inl x => rw [h1] at e; simp at e
  | inr x =>
    obtain ⟨q1, b1⟩ := x
    rw [h1] at e
    simp only at e
    have a1 := pos_one hA hp h1
    cases h2 : pTest t n A (pJoin t n q1) (n + 1) q1 b1 with
    | inl x => rw [h2] at e; simp at e
    | inr x =>
      obtain ⟨q2, b2⟩ := x
      rw [h2] at e
      simp only at e
      have a2 := pos_test hA a1.2 h2
      by_cases c1 : tK 0 t n q2 = 1
      · rw [if_pos c1] at e
        have a3 := tE_s a2.2 (by rw [tK_2 (k := 1) c1]; decide)
        cases h3 : W (tE t n q2) with
        | inl x => rw [h3] at e; simp at e
        | inr x =>
          obtain ⟨q3, D3⟩ := x
          rw [h3] at e
          simp only at e
          have a4 := hW _ _ _ a3.2 h3
          by_cases c2 : tK 0 t n q3 = 2
          · rw [if_pos c2] at e
            have a5 := tE_s a4.2 (by rw [tK_2 (k := 2) c2]; decide)
            cases h4 : W (tE t n q3) with
            | inl x => rw [h4] at e; simp at e
            | inr x =>
              obtain ⟨q4, D4⟩ := x
              rw [h4] at e
              simp only at e
              have a6 := hW _ _ _ a5.2 h4
              injection e with e
              injection e with e1 e2
              omega
          · rw [if_neg c2] at e; simp at e
      · rw [if_neg c1] at e; simp at e
theorem pos_L : ∀ l, pos n (pL t n nm l).1 ∧ pos n (pL t n nm l).2
  | 0 => by
    refine ⟨fun p q D hp e => ?_, fun p q D hp e => ?_⟩
    · unfold pL at e
      simp only at e
      by_cases c : tK 0 t n p = 0 ∨ tB t n p
      · rw [if_pos c] at e; simp at e
      · rw [if_neg c] at e; simp at e
    · unfold pL at e
      simp only at e
      by_cases c : tB t n p
      · rw [if_pos c] at e; simp at e
      · rw [if_neg c] at e; simp at e
  | l + 1 => by
    obtain ⟨h1, h2⟩ := pos_L l
    have s := pos_sum (t := t) (nm := nm) h1 h2
    refine ⟨fun p q D hp e => ?_, s⟩
    unfold pL at e
    simp only at e
    by_cases c : tK 0 t n p = 0
    · rw [if_pos c] at e
      have a := tE_s hp (by rw [tK_2 (k := 0) c]; decide)
      have := pos_if s h1 _ _ _ a.2 e
      omega
    · rw [if_neg c] at e
      exact s p q D hp e
end

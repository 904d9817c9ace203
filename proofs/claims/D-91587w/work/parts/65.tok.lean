/-! ===== tokens of a text ===== -/
def tk_rn (P : Nat → Bool) (n : Nat) : Nat → Nat → Nat
  | 0, p => p
  | f + 1, p => if p < n ∧ P p = true then tk_rn P n f (p + 1) else p
def rn (P : Nat → Bool) (n p : Nat) : Nat := tk_rn P n (n - p) p
theorem rn_1 {P : Nat → Bool} {n p : Nat} (h : p < n) (q : P p = true) : rn P n p = rn P n (p + 1) := by
  unfold rn
  rw [show n - p = (n - (p + 1)) + 1 by omega, tk_rn, if_pos ⟨h, q⟩]
theorem rn_0 {P : Nat → Bool} {n p : Nat} (h : ¬ (p < n ∧ P p = true)) : rn P n p = p := by
  unfold rn
  generalize n - p = f
  cases f with
  | zero => rfl
  | succ f => rw [tk_rn, if_neg h]
theorem rn_all (P : Nat → Bool) (n : Nat) : ∀ m p, n - p ≤ m → p ≤ rn P n p ∧ (p ≤ n → rn P n p ≤ n) ∧ (∀ k, p ≤ k → k < rn P n p → k < n ∧ P k = true) ∧ ¬ (rn P n p < n ∧ P (rn P n p) = true) := by
  intro m
  induction m with
  | zero =>
    intro p hp
    have h : ¬ (p < n ∧ P p = true) := fun z => by have := z.1; omega
    rw [rn_0 h]
    exact ⟨Nat.le_refl _, fun h => h, fun k a b => by omega, h⟩
  | succ m ih =>
    intro p hp
    by_cases h : p < n ∧ P p = true
    · obtain ⟨a, b, c, d⟩ := ih (p + 1) (by omega)
      rw [rn_1 h.1 h.2]
      refine ⟨by omega, fun _ => b (by omega), fun k k1 k2 => ?_, d⟩
      by_cases e : k = p
      · subst e; exact h
      · exact c k (by omega) k2
    · rw [rn_0 h]
      exact ⟨Nat.le_refl _, fun h => h, fun k a b => by omega, h⟩
theorem rn_le {P : Nat → Bool} {n p : Nat} : p ≤ rn P n p := (rn_all P n _ p (Nat.le_refl _)).1
theorem rn_bd {P : Nat → Bool} {n p : Nat} (h : p ≤ n) : rn P n p ≤ n := (rn_all P n _ p (Nat.le_refl _)).2.1 h
theorem rn_in {P : Nat → Bool} {n p k : Nat} (h1 : p ≤ k) (h2 : k < rn P n p) : k < n ∧ P k = true := (rn_all P n _ p (Nat.le_refl _)).2.2.1 k h1 h2
theorem rn_no {P : Nat → Bool} {n p : Nat} : ¬ (rn P n p < n ∧ P (rn P n p) = true) := (rn_all P n _ p (Nat.le_refl _)).2.2.2
def tsp (t : Nat → Nat) (k : Nat) : Bool := t k == 32 || t k == 10
def tlt (t : Nat → Nat) (k : Nat) : Bool := decide (97 ≤ t k ∧ t k ≤ 122)
def tdg (t : Nat → Nat) (k : Nat) : Bool := decide (48 ≤ t k ∧ t k ≤ 57)
def tsg (c : Nat) : Bool := decide ((58 ≤ c ∧ c ≤ 62) ∨ (40 ≤ c ∧ c ≤ 45) ∨ c = 47 ∨ c = 37)
/-- the digits' number, a word's number -/
def tnv (t : Nat → Nat) (f : Nat) : Nat → Nat
  | 0 => 0
  | m + 1 => 10 * tnv t f m + (t (f + m) - 48)
def cw (b z : Nat) (t : Nat → Nat) (f : Nat) : Nat → Nat
  | 0 => 0
  | m + 1 => b * cw b z t f m + (t (f + m) - z)
/-- sort (0 end, 1 bad, 2 word, 3 number, 4 sign), from, end, value, word -/
def tF (t : Nat → Nat) (n p : Nat) : Nat := rn (tsp t) n p
def tE (t : Nat → Nat) (n p : Nat) : Nat := if n ≤ tF t n p then tF t n p else if tlt t (tF t n p) = true then rn (tlt t) n (tF t n p) else if tdg t (tF t n p) = true then rn (tdg t) n (tF t n p) else tF t n p + 1
def tS (t : Nat → Nat) (n p : Nat) : Nat := if n ≤ tF t n p then 0 else if tlt t (tF t n p) = true then 2 else if tdg t (tF t n p) = true then (if tE t n p - tF t n p ≤ 6 then 3 else 1) else if tsg (t (tF t n p)) = true then 4 else 1
def tV (t : Nat → Nat) (n p : Nat) : Nat := if tdg t (tF t n p) = true then tnv t (tF t n p) (tE t n p - tF t n p) else t (tF t n p)
def tW (t : Nat → Nat) (n p : Nat) : Nat := cw 32 96 t (tF t n p) (tE t n p - tF t n p)
theorem tF_bd {t : Nat → Nat} {n p : Nat} (h : p ≤ n) : p ≤ tF t n p ∧ tF t n p ≤ n := ⟨rn_le, rn_bd h⟩
theorem tE_bd {t : Nat → Nat} {n p : Nat} (h : p ≤ n) : tF t n p ≤ tE t n p ∧ tE t n p ≤ n ∧ (tS t n p ≠ 0 → p < tE t n p) := by
  have a := tF_bd (t := t) h
  unfold tS tE
  by_cases c : n ≤ tF t n p
  · rw [if_pos c, if_pos c]
    exact ⟨Nat.le_refl _, a.2, fun z => absurd rfl z⟩
  · rw [if_neg c, if_neg c]
    by_cases c1 : tlt t (tF t n p) = true
    · rw [if_pos c1]
      have e := rn_1 (n := n) (by omega) c1
      have := rn_le (P := tlt t) (n := n) (p := tF t n p + 1)
      exact ⟨rn_le, rn_bd a.2, fun _ => by omega⟩
    · rw [if_neg c1]
      by_cases c2 : tdg t (tF t n p) = true
      · rw [if_pos c2]
        have e := rn_1 (n := n) (by omega) c2
        have := rn_le (P := tdg t) (n := n) (p := tF t n p + 1)
        exact ⟨rn_le, rn_bd a.2, fun _ => by omega⟩
      · rw [if_neg c2]
        exact ⟨by omega, by omega, fun _ => by omega⟩
/-- a word tells its letters -/
theorem cw_inj {b z : Nat} {t u : Nat → Nat} {f g : Nat} : ∀ {m k : Nat}, (∀ j, j < m → z < t (f + j) ∧ t (f + j) < z + b) → (∀ j, j < k → z < u (g + j) ∧ u (g + j) < z + b) → cw b z t f m = cw b z u g k → m = k ∧ ∀ j, j < m → t (f + j) = u (g + j)
  | 0, 0, _, _, _ => ⟨rfl, fun j hj => absurd hj (Nat.not_lt_zero _)⟩
  | 0, k + 1, _, h2, e => by
    have e : 0 = b * cw b z u g k + (u (g + k) - z) := e
    have := h2 k (by omega)
    omega
  | m + 1, 0, h1, _, e => by
    have e : b * cw b z t f m + (t (f + m) - z) = 0 := e
    have := h1 m (by omega)
    omega
  | m + 1, k + 1, h1, h2, e => by
    have e : b * cw b z t f m + (t (f + m) - z) = b * cw b z u g k + (u (g + k) - z) := e
    have a1 := h1 m (by omega)
    have a2 := h2 k (by omega)
    have d1 : (b * cw b z t f m + (t (f + m) - z)) / b = cw b z t f m := by
      rw [Nat.mul_add_div (by omega), Nat.div_eq_of_lt (by omega)]; rfl
    have d2 : (b * cw b z u g k + (u (g + k) - z)) / b = cw b z u g k := by
      rw [Nat.mul_add_div (by omega), Nat.div_eq_of_lt (by omega)]; rfl
    have m1 : (b * cw b z t f m + (t (f + m) - z)) % b = t (f + m) - z := by
      rw [Nat.mul_add_mod, Nat.mod_eq_of_lt (by omega)]
    have m2 : (b * cw b z u g k + (u (g + k) - z)) % b = u (g + k) - z := by
      rw [Nat.mul_add_mod, Nat.mod_eq_of_lt (by omega)]
    have E : cw b z t f m = cw b z u g k := by rw [← d1, ← d2, e]
    have F : t (f + m) - z = u (g + k) - z := by rw [← m1, ← m2, e]
    obtain ⟨r1, r2⟩ := cw_inj (fun j hj => h1 j (by omega)) (fun j hj => h2 j (by omega)) E
    refine ⟨by omega, fun j hj => ?_⟩
    by_cases q : j = m
    · subst q; subst r1; omega
    · exact r2 j (by omega)
theorem cw_ext {b z : Nat} {t u : Nat → Nat} {f g : Nat} : ∀ {m : Nat}, (∀ j, j < m → t (f + j) = u (g + j)) → cw b z t f m = cw b z u g m
  | 0, _ => rfl
  | m + 1, h => by
    show b * cw b z t f m + (t (f + m) - z) = b * cw b z u g m + (u (g + m) - z)
    rw [cw_ext (fun j hj => h j (by omega)), h m (by omega)]
theorem cw_lt {b z : Nat} {t : Nat → Nat} {f : Nat} : ∀ {m : Nat}, (∀ j, j < m → t (f + j) < z + b) → 0 < b → cw b z t f m < b ^ m
  | 0, _, _ => by simp [cw]
  | m + 1, h, hb => by
    have a := cw_lt (m := m) (fun j hj => h j (by omega)) hb
    have c := h m (by omega)
    show b * cw b z t f m + (t (f + m) - z) < b ^ (m + 1)
    rw [Nat.pow_succ, Nat.mul_comm (b ^ m)]
    have : b * (cw b z t f m + 1) ≤ b * b ^ m := Nat.mul_le_mul_left b a
    rw [Nat.mul_add] at this
    omega
theorem cw_ge {b z : Nat} {t : Nat → Nat} {f : Nat} : ∀ {m : Nat}, (∀ j, j < m + 1 → z < t (f + j)) → b ^ m ≤ cw b z t f (m + 1)
  | 0, h => by
    have := h 0 (by omega)
    show b ^ 0 ≤ b * 0 + (t (f + 0) - z)
    rw [Nat.pow_zero]; omega
  | m + 1, h => by
    have a := cw_ge (b := b) (m := m) (fun j hj => h j (by omega))
    show b ^ (m + 1) ≤ b * cw b z t f (m + 1) + _
    rw [Nat.pow_succ, Nat.mul_comm (b ^ m)]
    have := Nat.mul_le_mul_left b a
    omega
/-- a word's letters, of the two numbers -/
def n256 : Nat → Nat → Nat
  | 0, _ => 0
  | f + 1, w => if w = 0 then 0 else 256 * n256 f (w / 32) + (w % 32 + 96)
theorem n256_cw {t : Nat → Nat} {f : Nat} : ∀ {m k : Nat}, m ≤ k → (∀ j, j < m → 96 < t (f + j) ∧ t (f + j) < 128) → n256 k (cw 32 96 t f m) = cw 256 0 t f m
  | 0, 0, _, _ => rfl
  | 0, k + 1, _, _ => by
    show (if (0 : Nat) = 0 then 0 else _) = 0
    rw [if_pos rfl]
  | m + 1, 0, h, _ => absurd h (by omega)
  | m + 1, k + 1, h, q => by
    have c := q m (by omega)
    show (if 32 * cw 32 96 t f m + (t (f + m) - 96) = 0 then 0 else 256 * n256 k ((32 * cw 32 96 t f m + (t (f + m) - 96)) / 32) + ((32 * cw 32 96 t f m + (t (f + m) - 96)) % 32 + 96)) = 256 * cw 256 0 t f m + (t (f + m) - 0)
    rw [if_neg (by omega), show (32 * cw 32 96 t f m + (t (f + m) - 96)) / 32 = cw 32 96 t f m by omega, show (32 * cw 32 96 t f m + (t (f + m) - 96)) % 32 = t (f + m) - 96 by omega, n256_cw (by omega) (fun j hj => q j (by omega))]
    omega
/-! the words that are kept, the variables -/
def kwK : List Nat := [294, 663726, 176741, 1476, 498, 14836, 12748404, 441972]
def kwV : List Nat := [7931013, 253792434, 758955, 824370, 2872317331, 1165491, 136276, 147761734772, 99923, 24159891, 17376357]
def kw (i : Nat) : List Nat := if i = 0 then kwK else kwV
/-- the number of a word in a row of words -/
def kix (w : Nat) : List Nat → Nat → Int
  | [], _ => -1
  | a :: l, n => if w = a then (n : Int) else kix w l (n + 1)
def tK (i : Nat) (t : Nat → Nat) (n p : Nat) : Int := if tS t n p = 2 then kix (tW t n p) (kw i) 0 else -1

/-! ===== plain: sets of those who did not vote ===== -/
/-- how many bits of the first n -/
def pcn (s : Nat) (n : Nat) : Nat := sN (fun k => s / 2 ^ k % 2) n
/-- how many of the first n are idle; which ones -/
def mI (v : Nat → Bool) : Nat → Nat
  | 0 => 0
  | n + 1 => if v n then mI v n + 1 else mI v n
def opL (v : Nat → Bool) : Nat → Nat → Nat
  | 0 => fun _ => 0
  | n + 1 => if v n then pwr (opL v n) (mI v n) n else opL v n
/-- a set of places among the idle as a set of the first n -/
def pdn (v : Nat → Bool) : Nat → Nat → Nat
  | 0, _ => 0
  | n + 1, t => if v n then pdn v n (t % 2 ^ mI v n) + t / 2 ^ mI v n % 2 * 2 ^ n else pdn v n t
def idl (v : Nat → Bool) : Nat → Nat
  | 0 => 0
  | n + 1 => if v n then idl v n + 2 ^ n else idl v n
/-- none but idle ones -/
def sbn (v : Nat → Bool) (n s : Nat) : Prop := s < 2 ^ n ∧ ∀ k, k < n → ¬ v k → s / 2 ^ k % 2 = 0
section
variable {v : Nat → Bool} {n s t : Nat}
theorem mI_le : ∀ n, mI v n ≤ n
  | 0 => Nat.le_refl _
  | n + 1 => by
    have := mI_le n
    show (if v n then mI v n + 1 else mI v n) ≤ n + 1
    split <;> omega
theorem p2s (n : Nat) : 2 ^ (n + 1) = 2 ^ n + 2 ^ n := by rw [Nat.pow_succ]; omega
theorem p2p (n : Nat) : 0 < 2 ^ n := Nat.two_pow_pos n
theorem dm2 {a n : Nat} (h : a < 2 ^ (n + 1)) : a / 2 ^ n % 2 = a / 2 ^ n ∧ a / 2 ^ n ≤ 1 ∧ a % 2 ^ n + a / 2 ^ n * 2 ^ n = a := by
  have q : a / 2 ^ n < 2 := by rw [Nat.div_lt_iff_lt_mul (p2p n)]; rw [p2s] at h; omega
  refine ⟨Nat.mod_eq_of_lt q, by omega, ?_⟩
  have := Nat.mod_add_div a (2 ^ n)
  rw [Nat.mul_comm] at this
  exact this
theorem pdn_lt : ∀ n t, pdn v n t < 2 ^ n
  | 0, _ => by show 0 < 1; omega
  | n + 1, t => by
    show (if v n then pdn v n (t % 2 ^ mI v n) + t / 2 ^ mI v n % 2 * 2 ^ n else pdn v n t) < _
    rw [p2s]
    split
    · have := pdn_lt n (t % 2 ^ mI v n)
      have : t / 2 ^ mI v n % 2 = 0 ∨ t / 2 ^ mI v n % 2 = 1 := by omega
      rcases this with e | e <;> rw [e] <;> omega
    · have := pdn_lt n t; omega
theorem pdn_mono : ∀ n a b, a < b → b < 2 ^ mI v n → pdn v n a < pdn v n b
  | 0, a, b, h, q => by
    have q : b < 1 := q
    omega
  | n + 1, a, b, h, q => by
    have ih := pdn_mono n
    show (if v n then pdn v n (a % 2 ^ mI v n) + a / 2 ^ mI v n % 2 * 2 ^ n else pdn v n a) < (if v n then pdn v n (b % 2 ^ mI v n) + b / 2 ^ mI v n % 2 * 2 ^ n else pdn v n b)
    have q : b < 2 ^ (if v n then mI v n + 1 else mI v n) := q
    split
    · rename_i c
      rw [if_pos c] at q
      obtain ⟨a1, a2, a3⟩ := dm2 (a := a) (n := mI v n) (by omega)
      obtain ⟨b1, b2, b3⟩ := dm2 q
      have am := Nat.mod_lt a (p2p (mI v n))
      have bm := Nat.mod_lt b (p2p (mI v n))
      rw [a1, b1]
      have u := pdn_lt (v := v) n (a % 2 ^ mI v n)
      have w := pdn_lt (v := v) n (b % 2 ^ mI v n)
      have a2' : a / 2 ^ mI v n = 0 ∨ a / 2 ^ mI v n = 1 := by omega
      have b2' : b / 2 ^ mI v n = 0 ∨ b / 2 ^ mI v n = 1 := by omega
      rcases a2' with e | e <;> rcases b2' with f | f <;> rw [e, f] <;> rw [e] at a3 <;> rw [f] at b3
      · have := ih (a % 2 ^ mI v n) (b % 2 ^ mI v n) (by omega) bm; omega
      · omega
      · omega
      · have := ih (a % 2 ^ mI v n) (b % 2 ^ mI v n) (by omega) bm; omega
    · rename_i c
      rw [if_neg c] at q
      exact ih a b h q
theorem bit_low {a b k n : Nat} (hk : k < n) : (a + b * 2 ^ n) / 2 ^ k % 2 = a / 2 ^ k % 2 := by
  have e : b * 2 ^ n = 2 ^ k * (b * 2 ^ (n - k - 1) * 2) := by
    rw [show n = k + ((n - k - 1) + 1) by omega, Nat.pow_add, Nat.pow_succ, show k + (n - k - 1 + 1) - k - 1 = n - k - 1 by omega]
    rw [← Nat.mul_assoc, ← Nat.mul_assoc, ← Nat.mul_assoc, Nat.mul_comm b (2 ^ k), Nat.mul_assoc (2 ^ k) b]
  rw [e, Nat.add_mul_div_left _ _ (p2p k), Nat.add_mul_mod_self_right]
theorem bit_mod {a k n : Nat} (hk : k < n) : a % 2 ^ n / 2 ^ k % 2 = a / 2 ^ k % 2 := by
  have := bit_low (a := a % 2 ^ n) (b := a / 2 ^ n) hk
  rw [← this, Nat.mul_comm]
  rw [Nat.mod_add_div]
theorem bit_top {a b n : Nat} (ha : a < 2 ^ n) (hb : b < 2) : (a + b * 2 ^ n) / 2 ^ n % 2 = b := by
  rw [Nat.add_mul_div_right _ _ (p2p n), Nat.div_eq_of_lt ha, Nat.zero_add, Nat.mod_eq_of_lt hb]
theorem bit_hi {a k n : Nat} (ha : a < 2 ^ n) (hk : n ≤ k) : a / 2 ^ k % 2 = 0 := by
  rw [Nat.div_eq_of_lt (Nat.lt_of_lt_of_le ha (Nat.pow_le_pow_right (by decide) hk))]
/-- they are all the subsets -/
theorem pdn_sub : ∀ n t, sbn v n (pdn v n t)
  | 0, t => ⟨by show 0 < 1; omega, fun k hk => by omega⟩
  | n + 1, t => by
    refine ⟨pdn_lt _ _, fun k hk hv => ?_⟩
    show (if v n then pdn v n (t % 2 ^ mI v n) + t / 2 ^ mI v n % 2 * 2 ^ n else pdn v n t) / 2 ^ k % 2 = 0
    by_cases c : k = n
    · subst c
      rw [if_neg hv]
      exact bit_hi (pdn_lt _ _) (Nat.le_refl _)
    · split
      · rw [bit_low (by omega)]; exact (pdn_sub n _).2 k (by omega) hv
      · exact (pdn_sub n _).2 k (by omega) hv
theorem pdn_sur : ∀ n s, sbn v n s → ∃ t, t < 2 ^ mI v n ∧ pdn v n t = s
  | 0, s, h => ⟨0, by show 0 < 1; omega, by have : s < 1 := h.1; show 0 = s; omega⟩
  | n + 1, s, h => by
    obtain ⟨b1, b2, b3⟩ := dm2 h.1
    have s0 : sbn v n (s % 2 ^ n) := ⟨Nat.mod_lt _ (p2p n), fun k hk hv => by rw [bit_mod hk]; exact h.2 k (by omega) hv⟩
    obtain ⟨t, t1, t2⟩ := pdn_sur n _ s0
    by_cases c : v n
    · refine ⟨t + s / 2 ^ n * 2 ^ mI v n, ?_, ?_⟩
      · show _ < 2 ^ (if v n then mI v n + 1 else mI v n)
        rw [if_pos c, p2s]
        have : s / 2 ^ n = 0 ∨ s / 2 ^ n = 1 := by omega
        rcases this with e | e <;> rw [e] <;> omega
      · show (if v n then pdn v n ((t + s / 2 ^ n * 2 ^ mI v n) % 2 ^ mI v n) + (t + s / 2 ^ n * 2 ^ mI v n) / 2 ^ mI v n % 2 * 2 ^ n else _) = s
        rw [if_pos c, Nat.add_mul_mod_self_right, Nat.mod_eq_of_lt t1, bit_top t1 (by omega), t2, b3]
    · refine ⟨t, ?_, ?_⟩
      · show _ < 2 ^ (if v n then mI v n + 1 else mI v n)
        rw [if_neg c]; exact t1
      · show (if v n then _ else pdn v n t) = s
        have := h.2 n (by omega) c
        rw [if_neg c, t2]
        rw [b1] at this
        rw [this] at b3; omega
theorem pdn_0 : ∀ n, pdn v n 0 = 0
  | 0 => rfl
  | n + 1 => by
    show (if v n then pdn v n (0 % 2 ^ mI v n) + 0 / 2 ^ mI v n % 2 * 2 ^ n else pdn v n 0) = 0
    rw [Nat.zero_mod, Nat.zero_div, pdn_0 n]
    split
    · rw [Nat.zero_mod, Nat.zero_mul]
    · rfl
theorem pdn_top : ∀ n, pdn v n (2 ^ mI v n - 1) = idl v n
  | 0 => rfl
  | n + 1 => by
    have ih := pdn_top n
    have q := p2p (mI v n)
    show (if v n then pdn v n ((2 ^ (if v n then mI v n + 1 else mI v n) - 1) % 2 ^ mI v n) + (2 ^ (if v n then mI v n + 1 else mI v n) - 1) / 2 ^ mI v n % 2 * 2 ^ n else pdn v n (2 ^ (if v n then mI v n + 1 else mI v n) - 1)) = if v n then idl v n + 2 ^ n else idl v n
    by_cases c : v n
    · simp only [if_pos c]
      rw [p2s, show 2 ^ mI v n + 2 ^ mI v n - 1 = (2 ^ mI v n - 1) + 1 * 2 ^ mI v n by omega, Nat.add_mul_mod_self_right, Nat.mod_eq_of_lt (by omega), bit_top (by omega) (by decide), ih, Nat.one_mul]
    · simp only [if_neg c]; exact ih
/-- the bits are as many -/
theorem pcn_cut {a n k : Nat} (ha : a < 2 ^ n) (h : n ≤ k) : pcn a k = pcn a n := sN_cut h (fun i h1 _ => bit_hi ha h1)
theorem pcn_add {a b n : Nat} (ha : a < 2 ^ n) (hb : b < 2) : pcn (a + b * 2 ^ n) (n + 1) = pcn a n + b := by
  show sN (fun k => (a + b * 2 ^ n) / 2 ^ k % 2) n + (a + b * 2 ^ n) / 2 ^ n % 2 = _
  rw [bit_top ha hb, sN_ext (g := fun k => a / 2 ^ k % 2) (fun k hk => bit_low hk)]; rfl
theorem pcn_pd : ∀ n t, t < 2 ^ mI v n → pcn (pdn v n t) n = pcn t (mI v n)
  | 0, t, _ => rfl
  | n + 1, t, h => by
    have h : t < 2 ^ (if v n then mI v n + 1 else mI v n) := h
    show pcn (if v n then pdn v n (t % 2 ^ mI v n) + t / 2 ^ mI v n % 2 * 2 ^ n else pdn v n t) (n + 1) = pcn t (if v n then mI v n + 1 else mI v n)
    by_cases c : v n
    · simp only [if_pos c] at h ⊢
      obtain ⟨b1, b2, b3⟩ := dm2 h
      have tm := Nat.mod_lt t (p2p (mI v n))
      rw [b1, pcn_add (pdn_lt _ _) (by omega), pcn_pd n _ tm]
      have := pcn_add (a := t % 2 ^ mI v n) (b := t / 2 ^ mI v n) (n := mI v n) tm (by omega)
      rw [b3] at this
      exact this.symm
    · simp only [if_neg c] at h ⊢
      rw [pcn_cut (pdn_lt n t) (by omega)]
      exact pcn_pd n t h
theorem pcn_le : ∀ n, pcn s n ≤ n
  | 0 => Nat.le_refl _
  | n + 1 => by
    have := pcn_le n
    show pcn s n + s / 2 ^ n % 2 ≤ n + 1
    omega
/-- sums over a set: by places, by farms -/
theorem opL_lt : ∀ n j, j < mI v n → opL v n j < n ∧ v (opL v n j)
  | 0, j, h => by have h : j < 0 := h; omega
  | n + 1, j, h => by
    have h : j < (if v n then mI v n + 1 else mI v n) := h
    show (if v n then pwr (opL v n) (mI v n) n else opL v n) j < n + 1 ∧ v ((if v n then pwr (opL v n) (mI v n) n else opL v n) j)
    by_cases c : v n
    · simp only [if_pos c] at h ⊢
      by_cases e : j = mI v n
      · rw [e, pw_s]; exact ⟨by omega, c⟩
      · rw [pw_n e]; have := opL_lt n j (by omega); exact ⟨by omega, this.2⟩
    · simp only [if_neg c] at h ⊢
      have := opL_lt n j h; exact ⟨by omega, this.2⟩
theorem opL_sum (F : Nat → Nat) : ∀ n t, t < 2 ^ mI v n → sN (fun j => if t / 2 ^ j % 2 = 1 then F (opL v n j) else 0) (mI v n) = sN (fun f => if v f ∧ pdn v n t / 2 ^ f % 2 = 1 then F f else 0) n
  | 0, t, _ => rfl
  | n + 1, t, h => by
    have h : t < 2 ^ (if v n then mI v n + 1 else mI v n) := h
    have ih := opL_sum F n
    show sN (fun j => if t / 2 ^ j % 2 = 1 then F ((if v n then pwr (opL v n) (mI v n) n else opL v n) j) else 0) (if v n then mI v n + 1 else mI v n) = sN (fun f => if v f ∧ (if v n then pdn v n (t % 2 ^ mI v n) + t / 2 ^ mI v n % 2 * 2 ^ n else pdn v n t) / 2 ^ f % 2 = 1 then F f else 0) (n + 1)
    by_cases c : v n
    · simp only [if_pos c] at h ⊢
      obtain ⟨b1, b2, b3⟩ := dm2 h
      have tm := Nat.mod_lt t (p2p (mI v n))
      have e1 : sN (fun j => if t / 2 ^ j % 2 = 1 then F (pwr (opL v n) (mI v n) n j) else 0) (mI v n) = sN (fun j => if t % 2 ^ mI v n / 2 ^ j % 2 = 1 then F (opL v n j) else 0) (mI v n) := sN_ext (fun j hj => by
        rw [bit_mod hj, pw_n (by omega)])
      have e2 : sN (fun f => if v f ∧ (pdn v n (t % 2 ^ mI v n) + t / 2 ^ mI v n % 2 * 2 ^ n) / 2 ^ f % 2 = 1 then F f else 0) n = sN (fun f => if v f ∧ pdn v n (t % 2 ^ mI v n) / 2 ^ f % 2 = 1 then F f else 0) n := sN_ext (fun f hf => by rw [bit_low hf])
      show sN _ (mI v n) + (if t / 2 ^ mI v n % 2 = 1 then F (pwr (opL v n) (mI v n) n (mI v n)) else 0) = sN _ n + (if v n ∧ (pdn v n (t % 2 ^ mI v n) + t / 2 ^ mI v n % 2 * 2 ^ n) / 2 ^ n % 2 = 1 then F n else 0)
      rw [e1, e2, ih _ tm, pw_s, bit_top (pdn_lt _ _) (by omega)]
      congr 1
      by_cases d : t / 2 ^ mI v n % 2 = 1
      · rw [if_pos d, if_pos ⟨c, d⟩]
      · rw [if_neg d, if_neg (fun q => d q.2)]
    · simp only [if_neg c] at h ⊢
      show _ = sN _ n + (if v n ∧ pdn v n t / 2 ^ n % 2 = 1 then F n else 0)
      rw [if_neg (fun q => c q.1)]
      exact ih t h
/-- the set of farms, as the places' bits shifted tell it -/
theorem opL_set : ∀ n t, t < 2 ^ mI v n → sN (fun j => t / 2 ^ j % 2 * 2 ^ opL v n j) (mI v n) = pdn v n t
  | 0, t, _ => rfl
  | n + 1, t, h => by
    have h : t < 2 ^ (if v n then mI v n + 1 else mI v n) := h
    have ih := opL_set n
    show sN (fun j => t / 2 ^ j % 2 * 2 ^ ((if v n then pwr (opL v n) (mI v n) n else opL v n) j)) (if v n then mI v n + 1 else mI v n) = (if v n then pdn v n (t % 2 ^ mI v n) + t / 2 ^ mI v n % 2 * 2 ^ n else pdn v n t)
    by_cases c : v n
    · simp only [if_pos c] at h ⊢
      have tm := Nat.mod_lt t (p2p (mI v n))
      have e1 : sN (fun j => t / 2 ^ j % 2 * 2 ^ (pwr (opL v n) (mI v n) n j)) (mI v n) = sN (fun j => t % 2 ^ mI v n / 2 ^ j % 2 * 2 ^ opL v n j) (mI v n) := sN_ext (fun j hj => by rw [bit_mod hj, pw_n (by omega)])
      show sN _ (mI v n) + t / 2 ^ mI v n % 2 * 2 ^ (pwr (opL v n) (mI v n) n (mI v n)) = _
      rw [e1, ih _ tm, pw_s]
    · simp only [if_neg c] at h ⊢
      exact ih t h
/-- what is told of the first places lies below the next one's bit -/
theorem opL_low : ∀ n t j, j < mI v n → sN (fun i => t / 2 ^ i % 2 * 2 ^ opL v n i) j < 2 ^ opL v n j
  | 0, t, j, h => by have h : j < 0 := h; omega
  | n + 1, t, j, h => by
    have h : j < (if v n then mI v n + 1 else mI v n) := h
    show sN (fun i => t / 2 ^ i % 2 * 2 ^ ((if v n then pwr (opL v n) (mI v n) n else opL v n) i)) j < 2 ^ ((if v n then pwr (opL v n) (mI v n) n else opL v n) j)
    by_cases c : v n
    · simp only [if_pos c] at h ⊢
      have e1 : sN (fun i => t / 2 ^ i % 2 * 2 ^ (pwr (opL v n) (mI v n) n i)) j = sN (fun i => t / 2 ^ i % 2 * 2 ^ opL v n i) j := sN_ext (fun i hi => by rw [pw_n (by omega)])
      rw [e1]
      by_cases e : j = mI v n
      · rw [e, pw_s]
        have := opL_set (v := v) n (t % 2 ^ mI v n) (Nat.mod_lt _ (p2p _))
        have e2 : sN (fun i => t % 2 ^ mI v n / 2 ^ i % 2 * 2 ^ opL v n i) (mI v n) = sN (fun i => t / 2 ^ i % 2 * 2 ^ opL v n i) (mI v n) := sN_ext (fun i hi => by rw [bit_mod hi])
        rw [← e2, this]
        exact pdn_lt _ _
      · rw [pw_n e]; exact opL_low n t j (by omega)
    · simp only [if_neg c] at h ⊢
      exact opL_low n t j h
/-- the least of the smallest sets that flip: by sets of farms, by sets of places -/
def szo (m : Nat) (o : Option Nat) : Nat := match o with
  | none => m + 1
  | some b => pcn b m
def cbs (v : Nat → Bool) (n : Nat) (fl : Nat → Bool) : Nat → Option Nat
  | 0 => none
  | s + 1 => if (∀ k, k < n → ¬ v k → s / 2 ^ k % 2 = 0) ∧ pcn s n < szo n (cbs v n fl s) ∧ fl s = true then some s else cbs v n fl s
def mbs (m : Nat) (fl : Nat → Bool) : Nat → Option Nat
  | 0 => none
  | t + 1 => if pcn t m < szo m (mbs m fl t) ∧ fl t = true then some t else mbs m fl t
theorem cbs_skip {fl : Nat → Bool} {a : Nat} : ∀ b, (∀ s, a ≤ s → s < a + b → ¬ sbn v n s) → a + b ≤ 2 ^ n → cbs v n fl (a + b) = cbs v n fl a
  | 0, _, _ => rfl
  | b + 1, h, q => by
    have ih := cbs_skip (fl := fl) b (fun s h1 h2 => h s h1 (by omega)) (by omega)
    show (if (∀ k, k < n → ¬ v k → (a + b) / 2 ^ k % 2 = 0) ∧ _ then some (a + b) else cbs v n fl (a + b)) = _
    rw [if_neg (fun w => h (a + b) (by omega) (by omega) ⟨by omega, w.1⟩)]
    exact ih
theorem mbs_lt {m : Nat} {fl : Nat → Bool} : ∀ t b, mbs m fl t = some b → b < t
  | 0, b, h => (op_nn h).elim
  | t + 1, b, h => by
    have h : (if pcn t m < szo m (mbs m fl t) ∧ fl t = true then some t else mbs m fl t) = some b := h
    split at h
    · have := Option.some.inj h; omega
    · have := mbs_lt t b h; omega
/-- both ways find the same -/
theorem cbs_mbs {fl : Nat → Bool} : ∀ t, t < 2 ^ mI v n → cbs v n fl (pdn v n t + 1) = (mbs (mI v n) (fun t => fl (pdn v n t)) (t + 1)).map (pdn v n) := by
  have key : ∀ t, t < 2 ^ mI v n → cbs v n fl (pdn v n t) = (mbs (mI v n) (fun t => fl (pdn v n t)) t).map (pdn v n) → cbs v n fl (pdn v n t + 1) = (mbs (mI v n) (fun t => fl (pdn v n t)) (t + 1)).map (pdn v n) := fun t ht ih => by
    have ez : szo n (cbs v n fl (pdn v n t)) = szo n ((mbs (mI v n) (fun t => fl (pdn v n t)) t).map (pdn v n)) := by rw [ih]
    have c1 : pcn (pdn v n t) n < szo n (cbs v n fl (pdn v n t)) ↔ pcn t (mI v n) < szo (mI v n) (mbs (mI v n) (fun t => fl (pdn v n t)) t) := by
      rw [ez]
      cases q : mbs (mI v n) (fun t => fl (pdn v n t)) t with
      | none =>
        have a := pcn_le (s := pdn v n t) n
        have b := pcn_le (s := t) (mI v n)
        exact ⟨fun _ => Nat.lt_succ_of_le b, fun _ => Nat.lt_succ_of_le a⟩
      | some b =>
        have := mbs_lt t b q
        show pcn (pdn v n t) n < pcn (pdn v n b) n ↔ pcn t (mI v n) < pcn b (mI v n)
        rw [pcn_pd n t ht, pcn_pd n b (by omega)]
    show (if (∀ k, k < n → ¬ v k → pdn v n t / 2 ^ k % 2 = 0) ∧ pcn (pdn v n t) n < szo n (cbs v n fl (pdn v n t)) ∧ fl (pdn v n t) = true then some (pdn v n t) else cbs v n fl (pdn v n t)) = Option.map (pdn v n) (if pcn t (mI v n) < szo (mI v n) (mbs (mI v n) (fun t => fl (pdn v n t)) t) ∧ fl (pdn v n t) = true then some t else mbs (mI v n) (fun t => fl (pdn v n t)) t)
    by_cases c : pcn t (mI v n) < szo (mI v n) (mbs (mI v n) (fun t => fl (pdn v n t)) t) ∧ fl (pdn v n t) = true
    · rw [if_pos c, if_pos ⟨(pdn_sub n t).2, c1.mpr c.1, c.2⟩]; rfl
    · rw [if_neg c, if_neg (fun w => c ⟨c1.mp w.2.1, w.2.2⟩)]; exact ih
  intro t
  induction t with
  | zero =>
    intro h
    refine key 0 h ?_
    rw [pdn_0]; rfl
  | succ t ih =>
    intro h
    refine key (t + 1) h ?_
    have i := ih (by omega)
    have mo := pdn_mono (v := v) n t (t + 1) (by omega) h
    have lt := pdn_lt (v := v) n (t + 1)
    rw [← i]
    have := cbs_skip (v := v) (n := n) (fl := fl) (a := pdn v n t + 1) (pdn v n (t + 1) - (pdn v n t + 1)) (fun s h1 h2 hs => ?_) (by omega)
    · rw [show pdn v n t + 1 + (pdn v n (t + 1) - (pdn v n t + 1)) = pdn v n (t + 1) by omega] at this
      exact this
    · obtain ⟨u, u1, u2⟩ := pdn_sur n s hs
      have a : t < u := Nat.lt_of_not_le (fun q => by
        rcases Nat.lt_or_eq_of_le q with q | q
        · have := pdn_mono (v := v) n u t q (by omega); omega
        · rw [q] at u2; omega)
      have b : u < t + 1 := Nat.lt_of_not_le (fun q => by
        rcases Nat.lt_or_eq_of_le q with q | q
        · have := pdn_mono (v := v) n (t + 1) u q u1; omega
        · rw [← q] at u2; omega)
      omega
theorem cbs_all {fl : Nat → Bool} : cbs v n fl (idl v n + 1) = (mbs (mI v n) (fun t => fl (pdn v n t)) (2 ^ mI v n)).map (pdn v n) := by
  have q := p2p (mI v n)
  have := cbs_mbs (v := v) (n := n) (fl := fl) (2 ^ mI v n - 1) (by omega)
  rw [pdn_top, show 2 ^ mI v n - 1 + 1 = 2 ^ mI v n by omega] at this
  exact this
theorem idl_lt : ∀ n, idl v n < 2 ^ n
  | 0 => by show 0 < 1; omega
  | n + 1 => by
    have := idl_lt n
    show (if v n then idl v n + 2 ^ n else idl v n) < _
    rw [p2s]
    split <;> omega
theorem idl_bit : ∀ n k, k < n → idl v n / 2 ^ k % 2 = if v k then 1 else 0
  | 0, k, h => by omega
  | n + 1, k, h => by
    show (if v n then idl v n + 2 ^ n else idl v n) / 2 ^ k % 2 = _
    by_cases c : k = n
    · subst c
      by_cases d : v k
      · rw [if_pos d, if_pos d]
        have := bit_top (a := idl v k) (b := 1) (idl_lt k) (by decide)
        rw [Nat.one_mul] at this; exact this
      · rw [if_neg d, if_neg d]; exact bit_hi (idl_lt k) (Nat.le_refl _)
    · have ih := idl_bit n k (by omega)
      split
      · have := bit_low (a := idl v n) (b := 1) (k := k) (n := n) (by omega)
        rw [Nat.one_mul] at this; rw [this]; exact ih
      · exact ih
theorem cbs_lt {fl : Nat → Bool} : ∀ s b, cbs v n fl s = some b → b < s
  | 0, b, h => (op_nn h).elim
  | s + 1, b, h => by
    have h : (if (∀ k, k < n → ¬ v k → s / 2 ^ k % 2 = 0) ∧ pcn s n < szo n (cbs v n fl s) ∧ fl s = true then some s else cbs v n fl s) = some b := h
    split at h
    · have := Option.some.inj h; omega
    · have := cbs_lt s b h; omega
end

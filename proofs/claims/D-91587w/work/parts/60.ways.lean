/-! ===== ways: the least costs, by going through all arcs again and again ===== -/
abbrev bf_S := (Nat → Int) × (Nat → Int)
abbrev bf_A := Nat × Nat × Int
def bf_up {α : Type} (f : Nat → α) (v : Nat) (x : α) : Nat → α := fun k => if k = v then x else f k
theorem bf_up_same {α : Type} (f : Nat → α) (v : Nat) (x : α) : bf_up f v x v = x := if_pos rfl
theorem bf_up_ne {α : Type} (f : Nat → α) {v k : Nat} (x : α) (e : k ≠ v) : bf_up f v x k = f k := if_neg e
def bf_on (s : bf_S) (a : bf_A) : Prop := s.1 a.1 < 100000 ∧ s.1 a.1 + a.2.2 < s.1 a.2.1
noncomputable def bf_rx (s : bf_S) (a : bf_A) : bf_S := @ite bf_S (bf_on s a) (Classical.propDecidable _) (bf_up s.1 a.2.1 (s.1 a.1 + a.2.2), bf_up s.2 a.2.1 a.1) s
theorem bf_rx_on {s : bf_S} {a : bf_A} (c : bf_on s a) : bf_rx s a = (bf_up s.1 a.2.1 (s.1 a.1 + a.2.2), bf_up s.2 a.2.1 a.1) := if_pos c
theorem bf_rx_off {s : bf_S} {a : bf_A} (c : ¬ bf_on s a) : bf_rx s a = s := if_neg c
noncomputable def bf_rd (A : List bf_A) (s : bf_S) : bf_S := A.foldl bf_rx s
noncomputable def bf_it (A : List bf_A) (s : bf_S) : Nat → bf_S
  | 0 => s
  | n + 1 => bf_rd A (bf_it A s n)
def bf_ch (via : Nat → Int) : Nat → List Nat → Prop
  | v, [] => via v = -1
  | v, y :: l => via v = (y : Int) ∧ bf_ch via y l
theorem bf_ch_uniq {via : Nat → Int} : ∀ {l1 l2 : List Nat} {v : Nat}, bf_ch via v l1 → bf_ch via v l2 → l1 = l2
  | [], [], _, _, _ => rfl
  | [], y :: l, v, h1, h2 => by have := h2.1; rw [show via v = -1 from h1] at this; omega
  | y :: l, [], v, h1, h2 => by have := h1.1; rw [show via v = -1 from h2] at this; omega
  | y :: l, z :: k, v, h1, h2 => by
    have e : y = z := by have a := h1.1; have b := h2.1; omega
    subst e
    rw [bf_ch_uniq h1.2 h2.2]
theorem bf_ch_suf {via : Nat → Int} : ∀ {l : List Nat} {v x : Nat}, bf_ch via v l → x ∈ l → ∃ k, bf_ch via x k ∧ k.length < l.length
  | [], _, _, _, hx => absurd hx (List.not_mem_nil)
  | y :: l, v, x, h, hx => by
    rcases List.mem_cons.1 hx with e | e
    · subst e; exact ⟨l, h.2, by simp⟩
    · obtain ⟨k, a, b⟩ := bf_ch_suf h.2 e
      exact ⟨k, a, by simp; omega⟩
theorem bf_ch_nd {via : Nat → Int} : ∀ {l : List Nat} {v : Nat}, bf_ch via v l → (v :: l).Nodup
  | [], v, _ => by simp
  | y :: l, v, h => by
    refine List.nodup_cons.2 ⟨fun c => ?_, bf_ch_nd h.2⟩
    obtain ⟨k, a, b⟩ := bf_ch_suf h c
    rw [bf_ch_uniq a h] at b
    omega
theorem bf_pig : ∀ {N : Nat} {l : List Nat}, l.Nodup → (∀ x ∈ l, x < N) → l.length ≤ N
  | 0, l, _, h => by
    cases l with
    | nil => simp
    | cons x l => exact absurd (h x (by simp)) (Nat.not_lt_zero _)
  | N + 1, l, nd, h => by
    by_cases m : N ∈ l
    · have := bf_pig (N := N) (nd.erase N) (fun x hx => by
        have h1 := h x (List.mem_of_mem_erase hx)
        have h2 : x ≠ N := fun e => by
          subst e
          exact nd.not_mem_erase hx
        omega)
      rw [List.length_erase_of_mem m] at this
      omega
    · have := bf_pig (N := N) nd (fun x hx => by
        have h1 := h x hx
        have h2 : x ≠ N := fun e => m (e ▸ hx)
        omega)
      omega
theorem bf_ch_le {via : Nat → Int} {r : Nat → Int} {N : Nat} (H : ∀ x (y : Nat), x < N → via x = (y : Int) → y < N ∧ r y ≤ r x) : ∀ {l : List Nat} {v : Nat}, v < N → bf_ch via v l → ∀ x ∈ l, x < N ∧ r x ≤ r v
  | [], _, _, _, x, hx => absurd hx List.not_mem_nil
  | y :: l, v, hv, h, x, hx => by
    have a := H v y hv h.1
    rcases List.mem_cons.1 hx with e | e
    · subst e; exact a
    · have b := bf_ch_le H a.1 h.2 x e
      exact ⟨b.1, Int.le_trans b.2 a.2⟩
theorem bf_ch_up {via : Nat → Int} {v : Nat} {a : Int} : ∀ {l : List Nat} {x : Nat}, bf_ch via x l → v ∉ x :: l → bf_ch (bf_up via v a) x l
  | [], x, h, n => by
    have e : x ≠ v := fun e => n (by simp [e])
    show bf_up via v a x = -1
    rw [bf_up_ne _ _ e]; exact h
  | y :: l, x, h, n => by
    have e : x ≠ v := fun e => n (by simp [e])
    refine ⟨?_, bf_ch_up h.2 (fun c => n (List.mem_cons_of_mem _ c))⟩
    rw [bf_up_ne _ _ e]; exact h.1
theorem bf_ch_re {via : Nat → Int} {v u : Nat} {k : List Nat} (hu : bf_ch (bf_up via v u) u k) : ∀ {l : List Nat} {x : Nat}, bf_ch via x l → ∃ l', bf_ch (bf_up via v u) x l'
  | l, x, h => by
    by_cases e : x = v
    · subst e; exact ⟨u :: k, bf_up_same _ _ _, hu⟩
    · cases l with
      | nil => exact ⟨[], (bf_up_ne _ _ e).trans h⟩
      | cons y l =>
        obtain ⟨l', q⟩ := bf_ch_re hu h.2
        exact ⟨y :: l', (bf_up_ne _ _ e).trans h.1, q⟩
/-- what holds of the arcs: nodes below N, no loop, weights small; and a potential, so that no way round costs below nothing -/
def bf_ar (N : Nat) (A : List bf_A) (p : Nat → Int) : Prop := ∀ a ∈ A, a.1 < N ∧ a.2.1 < N ∧ -100 ≤ a.2.2 ∧ a.2.2 ≤ 100 ∧ p a.2.1 ≤ p a.1 + a.2.2
/-- what holds at each step -/
def bf_ok (N : Nat) (A : List bf_A) (f0 : Nat → Int) (s : bf_S) : Prop :=
  (∀ v, v < N → s.1 v ≤ 100000) ∧
  (∀ v, v < N → (s.2 v = -1 ∧ s.1 v = f0 v) ∨ (∃ u w, (u, v, w) ∈ A ∧ s.2 v = (u : Int) ∧ s.1 u < 100000 ∧ s.1 u + w ≤ s.1 v ∧ s.1 v < 100000)) ∧
  (∀ v, v < N → ∃ l, bf_ch s.2 v l)
theorem bf_ok_0 {N : Nat} {A : List bf_A} {f0 : Nat → Int} (h : ∀ v, v < N → f0 v = 0 ∨ f0 v = 100000) {w : Nat → Int} (hw : ∀ v, v < N → w v = -1) : bf_ok N A f0 (f0, w) :=
  ⟨fun v hv => by rcases h v hv with e | e <;> simp [e], fun v hv => Or.inl ⟨hw v hv, rfl⟩, fun v hv => ⟨[], hw v hv⟩⟩
theorem bf_ok_rx {N : Nat} {A : List bf_A} {p f0 : Nat → Int} {s : bf_S} (P : bf_ar N A p) (K : bf_ok N A f0 s) {a : bf_A} (ha : a ∈ A) : bf_ok N A f0 (bf_rx s a) := by
  by_cases c : bf_on s a
  · rw [bf_rx_on c]
    obtain ⟨u, v, w⟩ := a
    obtain ⟨c1, c2⟩ := c
    obtain ⟨b1, b2, b3, b4, b5⟩ := P _ ha
    try simp only at c1 c2 b1 b2 b3 b4 b5
    obtain ⟨k1, k2, k3⟩ := K
    have huv : u ≠ v := fun e => by
      subst e; omega
    have loc : ∀ x (y : Nat), x < N → s.2 x = (y : Int) → y < N ∧ (fun x => s.1 x - p x) y ≤ (fun x => s.1 x - p x) x := fun x y hx e => by
      rcases k2 x hx with ⟨q, -⟩ | ⟨u', w', q1, q2, q3, q4, q5⟩
      · omega
      · have e' : u' = y := by omega
        subst e'
        obtain ⟨r1, r2, r3, r4, r5⟩ := P _ q1
        try simp only at r1 r2 r3 r4 r5
        exact ⟨r1, by simp only; omega⟩
    obtain ⟨l, hl⟩ := k3 u b1
    have nv : v ∉ u :: l := fun m => by
      rcases List.mem_cons.1 m with e | e
      · exact huv e.symm
      · have := (bf_ch_le loc b1 hl v e).2
        try simp only at this
        omega
    have hu := bf_ch_up (a := (u : Int)) hl nv
    have kv := k1 v b2
    refine ⟨fun x hx => ?_, fun x hx => ?_, fun x hx => ?_⟩
    · show bf_up s.1 v (s.1 u + w) x ≤ 100000
      by_cases e : x = v
      · subst e; rw [bf_up_same]; omega
      · rw [bf_up_ne _ _ e]; exact k1 x hx
    · show (bf_up s.2 v u x = -1 ∧ bf_up s.1 v (s.1 u + w) x = f0 x) ∨ (∃ u' w', (u', x, w') ∈ A ∧ bf_up s.2 v u x = (u' : Int) ∧ bf_up s.1 v (s.1 u + w) u' < 100000 ∧ bf_up s.1 v (s.1 u + w) u' + w' ≤ bf_up s.1 v (s.1 u + w) x ∧ bf_up s.1 v (s.1 u + w) x < 100000)
      by_cases e : x = v
      · subst e
        refine Or.inr ⟨u, w, ha, bf_up_same _ _ _, ?_, ?_, ?_⟩
        · rw [bf_up_ne _ _ huv]; exact c1
        · rw [bf_up_ne _ _ huv, bf_up_same]; omega
        · rw [bf_up_same]; omega
      · rw [bf_up_ne _ _ e, bf_up_ne _ _ e]
        rcases k2 x hx with q | ⟨u', w', q1, q2, q3, q4, q5⟩
        · exact Or.inl q
        · refine Or.inr ⟨u', w', q1, q2, ?_, ?_, q5⟩
          · by_cases e' : u' = v
            · subst e'; rw [bf_up_same]; omega
            · rw [bf_up_ne _ _ e']; exact q3
          · by_cases e' : u' = v
            · subst e'; rw [bf_up_same]; omega
            · rw [bf_up_ne _ _ e']; exact q4
    · obtain ⟨lx, hx'⟩ := k3 x hx
      exact bf_ch_re hu hx'
  · rw [bf_rx_off c]; exact K
theorem bf_fold {P : bf_S → Prop} : ∀ {A : List bf_A} {s : bf_S}, (∀ s, ∀ a ∈ A, P s → P (bf_rx s a)) → P s → P (A.foldl bf_rx s)
  | [], _, _, h => h
  | a :: A, s, H, h => bf_fold (A := A) (fun s b hb => H s b (List.mem_cons_of_mem _ hb)) (H s a (List.mem_cons_self) h)
theorem bf_ok_it {N : Nat} {A : List bf_A} {p f0 : Nat → Int} {s : bf_S} (P : bf_ar N A p) (K : bf_ok N A f0 s) : ∀ n, bf_ok N A f0 (bf_it A s n)
  | 0 => K
  | n + 1 => bf_fold (fun _ _ ha q => bf_ok_rx P q ha) (bf_ok_it P K n)
/-- chains are short, so nothing falls far -/
theorem bf_ch_low {N : Nat} {A : List bf_A} {p f0 : Nat → Int} {s : bf_S} (P : bf_ar N A p) (f00 : ∀ v, v < N → 0 ≤ f0 v) (K : bf_ok N A f0 s) : ∀ {l : List Nat} {v : Nat}, v < N → bf_ch s.2 v l → -100 * (l.length : Int) ≤ s.1 v ∧ (∀ x ∈ l, x < N)
  | [], v, hv, h => by
    refine ⟨?_, fun x hx => absurd hx List.not_mem_nil⟩
    rcases K.2.1 v hv with ⟨q1, q2⟩ | ⟨u, w, q1, q2, -⟩
    · rw [q2]; simpa using f00 v hv
    · have : s.2 v = -1 := h
      omega
  | y :: l, v, hv, h => by
    have h1 := h.1
    rcases K.2.1 v hv with ⟨q1, q2⟩ | ⟨u, w, q1, q2, q3, q4, q5⟩
    · omega
    · have e' : u = y := by omega
      subst e'
      obtain ⟨r1, r2, r3, r4, r5⟩ := P _ q1
      try simp only at r1 r2 r3 r4 r5
      have ih := bf_ch_low P f00 K r1 h.2
      refine ⟨?_, fun x hx => ?_⟩
      · simp only [List.length_cons]; omega
      · rcases List.mem_cons.1 hx with e | e
        · subst e; exact r1
        · exact ih.2 x e
theorem bf_ch_len {N : Nat} {A : List bf_A} {p f0 : Nat → Int} {s : bf_S} (P : bf_ar N A p) (f00 : ∀ v, v < N → 0 ≤ f0 v) (K : bf_ok N A f0 s) {l : List Nat} {v : Nat} (hv : v < N) (h : bf_ch s.2 v l) : l.length + 1 ≤ N := by
  have a := bf_ch_nd h
  have b := bf_ch_low P f00 K hv h
  have := bf_pig a (fun x hx => by
    rcases List.mem_cons.1 hx with e | e
    · subst e; exact hv
    · exact b.2 x e)
  simpa using this
theorem bf_low {N : Nat} {A : List bf_A} {p f0 : Nat → Int} {s : bf_S} (P : bf_ar N A p) (f00 : ∀ v, v < N → 0 ≤ f0 v) (K : bf_ok N A f0 s) {v : Nat} (hv : v < N) : -100 * (N : Int) ≤ s.1 v := by
  obtain ⟨l, hl⟩ := K.2.2 v hv
  have a := (bf_ch_low P f00 K hv hl).1
  have b := bf_ch_len P f00 K hv hl
  omega
/-! it ends -/
def bf_sum (f : Nat → Int) : Nat → Int
  | 0 => 0
  | n + 1 => bf_sum f n + f n
theorem bf_sum_up {f : Nat → Int} {v : Nat} {x : Int} : ∀ N, bf_sum (bf_up f v x) N = bf_sum f N + (if v < N then x - f v else 0)
  | 0 => by simp [bf_sum]
  | N + 1 => by
    show bf_sum (bf_up f v x) N + bf_up f v x N = bf_sum f N + f N + _
    rw [bf_sum_up N]
    by_cases e : N = v
    · subst e
      rw [bf_up_same, if_neg (Nat.lt_irrefl _), if_pos (Nat.lt_succ_self _)]; omega
    · rw [bf_up_ne _ _ e]
      by_cases c : v < N
      · rw [if_pos c, if_pos (by omega)]; omega
      · rw [if_neg c, if_neg (by omega)]; omega
theorem bf_sum_ge {f : Nat → Int} {c : Int} : ∀ N, (∀ v, v < N → c ≤ f v) → c * N ≤ bf_sum f N
  | 0, _ => by simp [bf_sum]
  | N + 1, h => by
    have a := bf_sum_ge N (fun v hv => h v (by omega))
    have b := h N (by omega)
    show c * ((N + 1 : Nat) : Int) ≤ bf_sum f N + f N
    rw [Int.natCast_add, Int.mul_add]
    simp
    omega
theorem bf_rx_sum {N : Nat} {A : List bf_A} {p : Nat → Int} (P : bf_ar N A p) {a : bf_A} (ha : a ∈ A) (s : bf_S) : bf_sum (bf_rx s a).1 N ≤ bf_sum s.1 N ∧ (bf_on s a → bf_sum (bf_rx s a).1 N < bf_sum s.1 N) := by
  by_cases c : bf_on s a
  · have := (P a ha).2.1
    have c2 := c.2
    have e : bf_sum (bf_rx s a).1 N < bf_sum s.1 N := by
      rw [bf_rx_on c]
      show bf_sum (bf_up s.1 a.2.1 (s.1 a.1 + a.2.2)) N < _
      rw [bf_sum_up, if_pos this]
      omega
    exact ⟨Int.le_of_lt e, fun _ => e⟩
  · rw [bf_rx_off c]
    exact ⟨Int.le_refl _, fun q => absurd q c⟩
/-- no arc is on -/
def bf_fix (A : List bf_A) (s : bf_S) : Prop := ∀ a ∈ A, ¬ bf_on s a
theorem bf_fix_rd : ∀ {A : List bf_A} {s : bf_S}, bf_fix A s → bf_rd A s = s
  | [], _, _ => rfl
  | a :: A, s, h => by
    show bf_rd A (bf_rx s a) = s
    rw [bf_rx_off (h a List.mem_cons_self)]
    exact bf_fix_rd (fun b hb => h b (List.mem_cons_of_mem _ hb))
theorem bf_rd_sum {N : Nat} {B : List bf_A} {p : Nat → Int} (P : bf_ar N B p) : ∀ {A : List bf_A} (s : bf_S), (∀ a ∈ A, a ∈ B) → bf_sum (bf_rd A s).1 N ≤ bf_sum s.1 N ∧ (¬ bf_fix A s → bf_sum (bf_rd A s).1 N < bf_sum s.1 N)
  | [], s, _ => ⟨Int.le_refl _, fun q => absurd (fun a ha => absurd ha List.not_mem_nil) q⟩
  | a :: A, s, h => by
    have x := bf_rx_sum P (h a List.mem_cons_self) s
    have y := bf_rd_sum P (A := A) (bf_rx s a) (fun b hb => h b (List.mem_cons_of_mem _ hb))
    refine ⟨Int.le_trans y.1 x.1, fun q => ?_⟩
    show bf_sum (bf_rd A (bf_rx s a)).1 N < _
    by_cases c : bf_on s a
    · have := x.2 c; omega
    · rw [bf_rx_off c] at y ⊢
      refine y.2 (fun z => q (fun b hb => ?_))
      rcases List.mem_cons.1 hb with e | e
      · subst e; exact c
      · exact z b e
theorem bf_ends {N : Nat} {A : List bf_A} {p f0 : Nat → Int} (P : bf_ar N A p) (f00 : ∀ v, v < N → 0 ≤ f0 v) {s : bf_S} (K : bf_ok N A f0 s) : ∃ R, bf_fix A (bf_it A s R) := by
  have B : ∀ n, -100 * (N : Int) * N ≤ bf_sum (bf_it A s n).1 N := fun n => bf_sum_ge N (fun v hv => bf_low P f00 (bf_ok_it P K n) hv)
  apply Classical.byContradiction
  intro c
  have c' : ∀ R, ¬ bf_fix A (bf_it A s R) := fun R q => c ⟨R, q⟩
  have D : ∀ n : Nat, bf_sum (bf_it A s n).1 N ≤ bf_sum s.1 N - n := by
    intro n
    induction n with
    | zero => show bf_sum s.1 N ≤ _; omega
    | succ n ih =>
      have := (bf_rd_sum P (bf_it A s n) (fun _ h => h)).2 (c' n)
      show bf_sum (bf_rd A (bf_it A s n)).1 N ≤ _
      omega
  have x := B (bf_sum s.1 N - -100 * (N : Int) * N).toNat.succ
  have y := D (bf_sum s.1 N - -100 * (N : Int) * N).toNat.succ
  have z := B 0
  have z' : -100 * (N : Int) * N ≤ bf_sum s.1 N := z
  generalize -100 * (N : Int) * N = q at *
  omega
/-! far only falls -/
theorem bf_rx_le (s : bf_S) (a : bf_A) (v : Nat) : (bf_rx s a).1 v ≤ s.1 v := by
  by_cases c : bf_on s a
  · rw [bf_rx_on c]
    show bf_up s.1 a.2.1 (s.1 a.1 + a.2.2) v ≤ s.1 v
    by_cases e : v = a.2.1
    · subst e; rw [bf_up_same]; exact Int.le_of_lt c.2
    · rw [bf_up_ne _ _ e]; exact Int.le_refl _
  · rw [bf_rx_off c]; exact Int.le_refl _
theorem bf_rd_le : ∀ (A : List bf_A) (s : bf_S) (v : Nat), (bf_rd A s).1 v ≤ s.1 v
  | [], _, _ => Int.le_refl _
  | a :: A, s, v => Int.le_trans (bf_rd_le A (bf_rx s a) v) (bf_rx_le s a v)
theorem bf_it_le (A : List bf_A) (s : bf_S) (v : Nat) : ∀ n k, (bf_it A s (n + k)).1 v ≤ (bf_it A s n).1 v
  | _, 0 => Int.le_refl _
  | n, k + 1 => Int.le_trans (bf_rd_le A _ v) (bf_it_le A s v n k)
theorem bf_it_fix {A : List bf_A} {s : bf_S} {n : Nat} (h : bf_fix A (bf_it A s n)) : ∀ k, bf_it A s (n + k) = bf_it A s n
  | 0 => rfl
  | k + 1 => by
    show bf_rd A (bf_it A s (n + k)) = _
    rw [bf_it_fix h k]
    exact bf_fix_rd h
/-- a round lets each arc work -/
theorem bf_rd_on : ∀ {A : List bf_A} {s : bf_S} {u v : Nat} {w c : Int}, (u, v, w) ∈ A → s.1 u ≤ c → c < 100000 → (bf_rd A s).1 v ≤ c + w
  | [], _, _, _, _, _, h, _, _ => absurd h List.not_mem_nil
  | a :: A, s, u, v, w, c, h, hu, hc => by
    show (bf_rd A (bf_rx s a)).1 v ≤ _
    rcases List.mem_cons.1 h with e | e
    · refine Int.le_trans (bf_rd_le _ _ _) ?_
      subst e
      by_cases q : bf_on s (u, v, w)
      · rw [bf_rx_on q]
        show bf_up s.1 v (s.1 u + w) v ≤ _
        rw [bf_up_same]; omega
      · rw [bf_rx_off q]
        have : ¬ (s.1 u < 100000 ∧ s.1 u + w < s.1 v) := q
        omega
    · exact bf_rd_on e (Int.le_trans (bf_rx_le s a u) hu) hc
/-- N - 1 rounds are enough -/
theorem bf_conv {N : Nat} {A : List bf_A} {p f0 : Nat → Int} (P : bf_ar N A p) (f00 : ∀ v, v < N → f0 v = 0 ∨ f0 v = 100000) {w : Nat → Int} (hw : ∀ v, v < N → w v = -1) : bf_fix A (bf_it A (f0, w) (N - 1)) := by
  have f0' : ∀ v, v < N → 0 ≤ f0 v := fun v hv => by rcases f00 v hv with e | e <;> omega
  have K := bf_ok_0 (A := A) f00 hw
  obtain ⟨R, hR⟩ := bf_ends P f0' K
  have KR := bf_ok_it P K R
  have low : ∀ n v, (bf_it A (f0, w) R).1 v ≤ (bf_it A (f0, w) n).1 v := fun n v => by
    have := bf_it_le A (f0, w) v n R
    rwa [Nat.add_comm, bf_it_fix hR n] at this
  have S : ∀ (l : List Nat) v, v < N → bf_ch (bf_it A (f0, w) R).2 v l → ∀ n, l.length ≤ n → (bf_it A (f0, w) n).1 v ≤ (bf_it A (f0, w) R).1 v := by
    intro l
    induction l with
    | nil =>
      intro v hv h n _
      rcases KR.2.1 v hv with ⟨q1, q2⟩ | ⟨u, w, q1, q2, -⟩
      · rw [q2]
        have := bf_it_le A (f0, w) v 0 n
        rwa [Nat.zero_add] at this
      · have : (bf_it A _ R).2 v = -1 := h
        omega
    | cons y l ih =>
      intro v hv h n hn
      have h1 := h.1
      rcases KR.2.1 v hv with ⟨q1, q2⟩ | ⟨u, w', q1, q2, q3, q4, q5⟩
      · omega
      · have e' : u = y := by omega
        subst e'
        cases n with
        | zero => simp at hn
        | succ n =>
          have a := ih u (P _ q1).1 h.2 n (by simpa using hn)
          have := bf_rd_on (A := A) q1 a q3
          show (bf_rd A (bf_it A (f0, w) n)).1 v ≤ _
          omega
  have E : ∀ v, v < N → (bf_it A (f0, w) (N - 1)).1 v = (bf_it A (f0, w) R).1 v := fun v hv => by
    obtain ⟨l, hl⟩ := KR.2.2 v hv
    have a := bf_ch_len P f0' KR hv hl
    exact Int.le_antisymm (S l v hv hl _ (by omega)) (low _ _)
  intro a ha c
  obtain ⟨b1, b2, -⟩ := P a ha
  refine hR a ha ?_
  unfold bf_on at c ⊢
  rwa [E _ b1, E _ b2] at c
/-! ===== bins sent to orders: what both reckon ===== -/
def sn_a (b o : Nat) (c fl : Nat → Nat → Int) (k : Nat) : List bf_A := (k / o, b + k % o, c (k / o) (k % o)) :: (if 0 < fl (k / o) (k % o) then [(b + k % o, k / o, - c (k / o) (k % o))] else [])
def sn_A (b o : Nat) (c fl : Nat → Nat → Int) : Nat → List bf_A
  | 0 => []
  | k + 1 => sn_A b o c fl k ++ sn_a b o c fl k
theorem sn_A_mem {b o : Nat} {c fl : Nat → Nat → Int} {a : bf_A} : ∀ {n : Nat}, a ∈ sn_A b o c fl n ↔ ∃ k, k < n ∧ a ∈ sn_a b o c fl k
  | 0 => ⟨fun h => absurd h List.not_mem_nil, fun ⟨k, h, _⟩ => absurd h (Nat.not_lt_zero _)⟩
  | n + 1 => by
    show a ∈ sn_A b o c fl n ++ sn_a b o c fl n ↔ _
    rw [List.mem_append, sn_A_mem]
    constructor
    · rintro (⟨k, h, q⟩ | q)
      · exact ⟨k, by omega, q⟩
      · exact ⟨n, by omega, q⟩
    · rintro ⟨k, h, q⟩
      rcases Nat.lt_or_ge k n with e | e
      · exact Or.inl ⟨k, e, q⟩
      · have : k = n := by omega
        subst this; exact Or.inr q
theorem sn_A_sub {b o : Nat} {c fl : Nat → Nat → Int} {a : bf_A} {k n : Nat} (h : k ≤ n) (q : a ∈ sn_A b o c fl k) : a ∈ sn_A b o c fl n := by
  obtain ⟨m, x, y⟩ := sn_A_mem.1 q
  exact sn_A_mem.2 ⟨m, by omega, y⟩
theorem sn_ij {o i j : Nat} (h : j < o) : (o * i + j) / o = i ∧ (o * i + j) % o = j := by
  constructor
  · rw [Nat.mul_add_div (by omega), Nat.div_eq_of_lt h]; rfl
  · rw [Nat.mul_add_mod, Nat.mod_eq_of_lt h]
theorem sn_ij_lt {b o i j : Nat} (hi : i < b) (h : j < o) : o * i + j < b * o := by
  have : o * (i + 1) ≤ o * b := Nat.mul_le_mul_left o (by omega)
  rw [Nat.mul_add] at this
  rw [Nat.mul_comm b o]; omega
theorem sn_k {b o k : Nat} (h : k < b * o) : k / o < b ∧ k % o < o ∧ 0 < o := by
  have h0 : 0 < o := by
    rcases Nat.eq_zero_or_pos o with e | e
    · subst e; simp at h
    · exact e
  exact ⟨(Nat.div_lt_iff_lt_mul h0).2 h, Nat.mod_lt _ h0, h0⟩
theorem sn_A_in {b o : Nat} {c fl : Nat → Nat → Int} {u v : Nat} {w : Int} (h : (u, v, w) ∈ sn_A b o c fl (b * o)) : (∃ i j, i < b ∧ j < o ∧ u = i ∧ v = b + j ∧ w = c i j) ∨ (∃ i j, i < b ∧ j < o ∧ u = b + j ∧ v = i ∧ w = - c i j ∧ 0 < fl i j) := by
  obtain ⟨k, hk, q⟩ := sn_A_mem.1 h
  obtain ⟨k1, k2, k3⟩ := sn_k hk
  rcases List.mem_cons.1 q with e | e
  · injection e with e1 e2
    injection e2 with e2 e3
    exact Or.inl ⟨_, _, k1, k2, e1, e2, e3⟩
  · by_cases z : 0 < fl (k / o) (k % o)
    · rw [if_pos z] at e
      have e := List.mem_singleton.1 e
      injection e with e1 e2
      injection e2 with e2 e3
      exact Or.inr ⟨_, _, k1, k2, e1, e2, e3, z⟩
    · rw [if_neg z] at e
      exact absurd e List.not_mem_nil
theorem sn_A_1 {b o i j : Nat} {c fl : Nat → Nat → Int} (hi : i < b) (hj : j < o) : (i, b + j, c i j) ∈ sn_A b o c fl (b * o) := by
  refine sn_A_mem.2 ⟨o * i + j, sn_ij_lt hi hj, ?_⟩
  unfold sn_a
  rw [(sn_ij hj).1, (sn_ij hj).2]
  exact List.mem_cons_self
theorem sn_A_2 {b o i j : Nat} {c fl : Nat → Nat → Int} (hi : i < b) (hj : j < o) (h : 0 < fl i j) : (b + j, i, - c i j) ∈ sn_A b o c fl (b * o) := by
  refine sn_A_mem.2 ⟨o * i + j, sn_ij_lt hi hj, ?_⟩
  unfold sn_a
  rw [(sn_ij hj).1, (sn_ij hj).2, if_pos h]
  simp
/-- a potential -/
def sn_P (b o : Nat) (c fl : Nat → Nat → Int) (p : Nat → Int) : Prop := ∀ i j, i < b → j < o → p (b + j) ≤ p i + c i j ∧ (0 < fl i j → p i + c i j ≤ p (b + j))
def sn_C (b o : Nat) (c : Nat → Nat → Int) : Prop := ∀ i j, i < b → j < o → 0 ≤ c i j ∧ c i j ≤ 100
theorem sn_ar {b o : Nat} {c fl : Nat → Nat → Int} {p : Nat → Int} (C : sn_C b o c) (P : sn_P b o c fl p) : bf_ar (b + o) (sn_A b o c fl (b * o)) p := by
  rintro ⟨u, v, w⟩ h
  show u < b + o ∧ v < b + o ∧ -100 ≤ w ∧ w ≤ 100 ∧ p v ≤ p u + w
  rcases sn_A_in h with ⟨i, j, hi, hj, e1, e2, e3⟩ | ⟨i, j, hi, hj, e1, e2, e3, e4⟩
  · subst e1; subst e2; subst e3
    have := C _ _ hi hj
    have := P _ _ hi hj
    omega
  · subst e1; subst e2; subst e3
    have := C _ _ hi hj
    have := (P _ _ hi hj).2 e4
    omega
def sn_f0 (b : Nat) (hv : Nat → Int) : Nat → Int := fun v => if v < b ∧ 0 < hv v then 0 else 100000
theorem sn_f00 (b : Nat) (hv : Nat → Int) (v : Nat) : sn_f0 b hv v = 0 ∨ sn_f0 b hv v = 100000 := by
  unfold sn_f0
  by_cases h : v < b ∧ 0 < hv v
  · rw [if_pos h]; exact Or.inl rfl
  · rw [if_neg h]; exact Or.inr rfl
/-- after r rounds and k steps more -/
noncomputable def sn_s (b o : Nat) (c fl : Nat → Nat → Int) (hv : Nat → Int) (r k : Nat) : bf_S := bf_rd (sn_A b o c fl k) (bf_it (sn_A b o c fl (b * o)) (sn_f0 b hv, fun _ => -1) r)
theorem sn_s0 {b o : Nat} {c fl : Nat → Nat → Int} {hv : Nat → Int} (r : Nat) : sn_s b o c fl hv r 0 = bf_it (sn_A b o c fl (b * o)) (sn_f0 b hv, fun _ => -1) r := rfl
theorem sn_sn {b o : Nat} {c fl : Nat → Nat → Int} {hv : Nat → Int} (r : Nat) : sn_s b o c fl hv r (b * o) = sn_s b o c fl hv (r + 1) 0 := rfl
theorem sn_sk {b o : Nat} {c fl : Nat → Nat → Int} {hv : Nat → Int} (r k : Nat) : sn_s b o c fl hv r (k + 1) = bf_rd (sn_a b o c fl k) (sn_s b o c fl hv r k) := by
  unfold sn_s bf_rd
  show List.foldl bf_rx _ (sn_A b o c fl k ++ sn_a b o c fl k) = _
  rw [List.foldl_append]
theorem bf_hi_rx {N : Nat} {A : List bf_A} {p : Nat → Int} (P : bf_ar N A p) {m : Int} {s : bf_S} {a : bf_A} (ha : a ∈ A) (h : ∀ v, v < N → s.1 v < 100000 → s.1 v ≤ m) : ∀ v, v < N → (bf_rx s a).1 v < 100000 → (bf_rx s a).1 v ≤ m + 100 := by
  intro v hv c
  obtain ⟨b1, b2, b3, b4, b5⟩ := P a ha
  by_cases q : bf_on s a
  · rw [bf_rx_on q] at c ⊢
    show bf_up s.1 a.2.1 (s.1 a.1 + a.2.2) v ≤ m + 100
    have c : bf_up s.1 a.2.1 (s.1 a.1 + a.2.2) v < 100000 := c
    by_cases e : v = a.2.1
    · subst e
      rw [bf_up_same]
      have := h a.1 b1 q.1
      omega
    · rw [bf_up_ne _ _ e] at c ⊢
      have := h v hv c
      omega
  · rw [bf_rx_off q] at c ⊢
    have := h v hv c
    omega
theorem bf_hi_fold {N : Nat} {A : List bf_A} {p : Nat → Int} (P : bf_ar N A p) : ∀ {B : List bf_A} {m : Int} {s : bf_S}, (∀ a ∈ B, a ∈ A) → (∀ v, v < N → s.1 v < 100000 → s.1 v ≤ m) → ∀ v, v < N → (bf_rd B s).1 v < 100000 → (bf_rd B s).1 v ≤ m + 100 * B.length
  | [], m, s, _, h => fun v hv c => by
    have := h v hv c
    show s.1 v ≤ m + 100 * ((0 : Nat) : Int)
    omega
  | a :: B, m, s, hB, h => fun v hv c => by
    have := bf_hi_fold P (B := B) (m := m + 100) (fun b hb => hB b (List.mem_cons_of_mem _ hb)) (bf_hi_rx P (hB a List.mem_cons_self) h) v hv c
    have e : bf_rd (a :: B) s = bf_rd B (bf_rx s a) := rfl
    rw [e]
    simp only [List.length_cons]
    omega
theorem sn_a_len {b o : Nat} {c fl : Nat → Nat → Int} (k : Nat) : (sn_a b o c fl k).length ≤ 2 := by
  unfold sn_a
  by_cases h : 0 < fl (k / o) (k % o)
  · rw [if_pos h]; simp
  · rw [if_neg h]; simp
theorem sn_A_len {b o : Nat} {c fl : Nat → Nat → Int} : ∀ k, (sn_A b o c fl k).length ≤ 2 * k
  | 0 => Nat.le_refl _
  | k + 1 => by
    show (sn_A b o c fl k ++ sn_a b o c fl k).length ≤ _
    rw [List.length_append]
    have := sn_A_len (b := b) (o := o) (c := c) (fl := fl) k
    have := sn_a_len (b := b) (o := o) (c := c) (fl := fl) k
    omega
theorem bf_hi_it {N : Nat} {A : List bf_A} {p : Nat → Int} (P : bf_ar N A p) {s : bf_S} (h : ∀ v, v < N → s.1 v < 100000 → s.1 v ≤ 0) {m : Nat} (hA : A.length ≤ m) : ∀ n : Nat, ∀ v, v < N → (bf_it A s n).1 v < 100000 → (bf_it A s n).1 v ≤ 100 * m * n
  | 0 => fun v hv c => by
    have := h v hv c
    show s.1 v ≤ 100 * (m : Int) * ((0 : Nat) : Int)
    simpa using this
  | n + 1 => fun v hv c => by
    have := bf_hi_fold P (B := A) (fun _ h => h) (bf_hi_it P h hA n) v hv c
    have e : bf_it A s (n + 1) = bf_rd A (bf_it A s n) := rfl
    rw [e]
    have e2 : 100 * (m : Int) * ((n + 1 : Nat) : Int) = 100 * (m : Int) * n + 100 * m := by
      rw [Int.natCast_add, Int.mul_add]; simp
    rw [e2]
    omega
/-- all that the two need at each step -/
theorem sn_bd {b o : Nat} {c fl : Nat → Nat → Int} {hv p : Nat → Int} (C : sn_C b o c) (P : sn_P b o c fl p) (hb : b ≤ 5) (ho : o ≤ 4) {r k : Nat} (hr : r ≤ 9) (hk : k ≤ b * o) :
    bf_ok (b + o) (sn_A b o c fl (b * o)) (sn_f0 b hv) (sn_s b o c fl hv r k) ∧ ∀ v, v < b + o → -900 ≤ (sn_s b o c fl hv r k).1 v ∧ (sn_s b o c fl hv r k).1 v ≤ 100000 ∧ ((sn_s b o c fl hv r k).1 v < 100000 → (sn_s b o c fl hv r k).1 v ≤ 50000) := by
  have A := sn_ar C P
  have K0 := bf_ok_it A (bf_ok_0 (A := sn_A b o c fl (b * o)) (f0 := sn_f0 b hv) (w := fun _ => -1) (fun v _ => sn_f00 b hv v) (fun _ _ => rfl)) r
  have K : bf_ok (b + o) (sn_A b o c fl (b * o)) (sn_f0 b hv) (sn_s b o c fl hv r k) := bf_fold (fun _ _ ha q => bf_ok_rx A q (sn_A_sub hk ha)) K0
  have f00 : ∀ v, v < b + o → 0 ≤ sn_f0 b hv v := fun v _ => by rcases sn_f00 b hv v with e | e <;> omega
  refine ⟨K, fun v hv' => ⟨?_, K.1 v hv', fun q => ?_⟩⟩
  · have := bf_low A f00 K hv'
    omega
  · have bo : b * o ≤ 20 := Nat.mul_le_mul hb ho
    have x := bf_hi_it A (s := (sn_f0 b hv, fun _ => -1)) (fun v _ q => by
      have q : sn_f0 b hv v < 100000 := q
      show sn_f0 b hv v ≤ 0
      rcases sn_f00 b hv v with e | e <;> omega) (m := 40) (Nat.le_trans (sn_A_len _) (by omega)) r
    have y := bf_hi_fold A (B := sn_A b o c fl k) (fun _ h => sn_A_sub hk h) x v hv' q
    have z := sn_A_len (b := b) (o := o) (c := c) (fl := fl) k
    show (bf_rd (sn_A b o c fl k) _).1 v ≤ 50000
    omega
theorem sn_fix {b o : Nat} {c fl : Nat → Nat → Int} {hv p : Nat → Int} (C : sn_C b o c) (P : sn_P b o c fl p) : bf_fix (sn_A b o c fl (b * o)) (sn_s b o c fl hv (b + o - 1) 0) := by
  rw [sn_s0]
  exact bf_conv (sn_ar C P) (fun v _ => sn_f00 b hv v) (fun _ _ => rfl)
/-- once still, it stays -/
theorem sn_stay {b o : Nat} {c fl : Nat → Nat → Int} {hv : Nat → Int} {r r' : Nat} (h : bf_fix (sn_A b o c fl (b * o)) (sn_s b o c fl hv r 0)) (q : r ≤ r') : sn_s b o c fl hv r' 0 = sn_s b o c fl hv r 0 := by
  rw [sn_s0] at h ⊢
  rw [sn_s0]
  have := bf_it_fix h (r' - r)
  rwa [show r + (r' - r) = r' by omega] at this
noncomputable def sn_F (b o : Nat) (c fl : Nat → Nat → Int) (hv : Nat → Int) : bf_S := sn_s b o c fl hv (b + o) 0
theorem sn_F_fix {b o : Nat} {c fl : Nat → Nat → Int} {hv p : Nat → Int} (C : sn_C b o c) (P : sn_P b o c fl p) : bf_fix (sn_A b o c fl (b * o)) (sn_F b o c fl hv) := by
  have := sn_fix (hv := hv) C P
  unfold sn_F
  rw [sn_stay this (by omega)]
  exact this
/-! the best order -/
def sn_b (b : Nat) (wt f : Nat → Int) : Nat → Int
  | 0 => -1
  | j + 1 => if 0 < wt j ∧ (sn_b b wt f j < 0 ∨ f (b + j) < f (b + (sn_b b wt f j).toNat)) then (j : Int) else sn_b b wt f j
theorem sn_b_in {b : Nat} {wt f : Nat → Int} : ∀ n, sn_b b wt f n = -1 ∨ (0 ≤ sn_b b wt f n ∧ sn_b b wt f n < n ∧ 0 < wt (sn_b b wt f n).toNat)
  | 0 => Or.inl rfl
  | n + 1 => by
    have ih := sn_b_in (b := b) (wt := wt) (f := f) n
    unfold sn_b
    by_cases h : 0 < wt n ∧ (sn_b b wt f n < 0 ∨ f (b + n) < f (b + (sn_b b wt f n).toNat))
    · rw [if_pos h]
      exact Or.inr ⟨by omega, by omega, by simpa using h.1⟩
    · rw [if_neg h]
      rcases ih with e | ⟨e1, e2, e3⟩
      · exact Or.inl e
      · exact Or.inr ⟨e1, by omega, e3⟩
theorem sn_b_ok {b : Nat} {wt f : Nat → Int} : ∀ n, (∃ j, j < n ∧ 0 < wt j) → 0 ≤ sn_b b wt f n
  | 0, ⟨j, h, _⟩ => absurd h (Nat.not_lt_zero _)
  | n + 1, ⟨j, h, q⟩ => by
    unfold sn_b
    by_cases z : 0 < wt n ∧ (sn_b b wt f n < 0 ∨ f (b + n) < f (b + (sn_b b wt f n).toNat))
    · rw [if_pos z]; omega
    · rw [if_neg z]
      rcases Nat.lt_or_ge j n with e | e
      · exact sn_b_ok n ⟨j, e, q⟩
      · have e : j = n := by omega
        subst e
        have : ¬ sn_b b wt f j < 0 := fun y => z ⟨q, Or.inl y⟩
        omega
/-! the way back -/
noncomputable def sn_l (via : Nat → Int) (v : Nat) : List Nat := @dite (List Nat) (∃ l, bf_ch via v l) (Classical.propDecidable _) (fun h => Classical.choose h) (fun _ => [])
theorem sn_l_ch {via : Nat → Int} {v : Nat} (h : ∃ l, bf_ch via v l) : bf_ch via v (sn_l via v) := by
  unfold sn_l
  rw [dif_pos h]
  exact Classical.choose_spec h
def sn_u2 (fl : Nat → Nat → Int) (i j : Nat) (x : Int) : Nat → Nat → Int := fun a b => if a = i ∧ b = j then fl a b + x else fl a b
def sn_g (b : Nat) : Nat → List Nat → (Nat → Nat → Int) → Nat → Nat → Int
  | _, [], fl => fl
  | v, y :: l, fl => sn_g b y l (if b ≤ v then sn_u2 fl y (v - b) 1 else sn_u2 fl v (y - b) (-1))
def sn_r : Nat → List Nat → Nat
  | v, [] => v
  | _, y :: l => sn_r y l
theorem sn_r_in : ∀ (v : Nat) (l : List Nat), sn_r v l = v ∨ sn_r v l ∈ l
  | v, [] => Or.inl rfl
  | v, y :: l => by
    rcases sn_r_in y l with e | e
    · exact Or.inr (by show sn_r y l ∈ _; rw [e]; exact List.mem_cons_self)
    · exact Or.inr (List.mem_cons_of_mem _ e)
theorem sn_r_ch {via : Nat → Int} : ∀ {l : List Nat} {v : Nat}, bf_ch via v l → via (sn_r v l) = -1
  | [], _, h => h
  | y :: l, v, h => by
    show via (sn_r y l) = -1
    exact sn_r_ch h.2
/-- two sides: from an order back to a bin, from a bin back to an order -/
def sn_bi (b o : Nat) (via : Nat → Int) : Prop := ∀ v (y : Nat), v < b + o → via v = (y : Int) → y < b + o ∧ (b ≤ v → y < b) ∧ (v < b → b ≤ y)
theorem sn_g_eq {b o : Nat} {via : Nat → Int} (B : sn_bi b o via) {i j : Nat} (hi : i < b) (hj : j < o) : ∀ {l : List Nat} {v : Nat} {fl : Nat → Nat → Int}, v < b + o → bf_ch via v l →
    sn_g b v l fl i j = fl i j + (if b + j ∈ v :: l ∧ via (b + j) = i then 1 else 0) - (if i ∈ v :: l ∧ via i = (b + j : Nat) then 1 else 0)
  | [], v, fl, hv, h => by
    have h : via v = -1 := h
    show fl i j = _
    rw [if_neg, if_neg]
    · omega
    · rintro ⟨q1, q2⟩
      have := List.mem_singleton.1 q1
      subst this; omega
    · rintro ⟨q1, q2⟩
      have := List.mem_singleton.1 q1
      subst this; omega
  | y :: l, v, fl, hv, h => by
    obtain ⟨b1, b2, b3⟩ := B v y hv h.1
    have nd := bf_ch_nd h
    have nv : v ∉ y :: l := (List.nodup_cons.1 nd).1
    show sn_g b y l (if b ≤ v then sn_u2 fl y (v - b) 1 else sn_u2 fl v (y - b) (-1)) i j = _
    rw [sn_g_eq B hi hj b1 h.2]
    by_cases q : b ≤ v
    · rw [if_pos q]
      have b2 := b2 q
      have z2 : (i ∈ v :: y :: l ∧ via i = (b + j : Nat)) ↔ (i ∈ y :: l ∧ via i = (b + j : Nat)) := by
        constructor
        · rintro ⟨m, e⟩
          rcases List.mem_cons.1 m with e' | e'
          · omega
          · exact ⟨e', e⟩
        · rintro ⟨m, e⟩
          exact ⟨List.mem_cons_of_mem _ m, e⟩
      have z3 : (if i ∈ v :: y :: l ∧ via i = (b + j : Nat) then (1 : Int) else 0) = if i ∈ y :: l ∧ via i = (b + j : Nat) then 1 else 0 := by
        by_cases w : i ∈ y :: l ∧ via i = (b + j : Nat)
        · rw [if_pos w, if_pos (z2.2 w)]
        · rw [if_neg w, if_neg (fun k => w (z2.1 k))]
      rw [z3]
      unfold sn_u2
      by_cases e : v = b + j
      · subst e
        have n1 : ¬ (b + j ∈ y :: l ∧ via (b + j) = i) := fun k => nv k.1
        rw [if_neg n1]
        by_cases e2 : i = y
        · subst e2
          rw [if_pos ⟨rfl, by omega⟩, if_pos (c := b + j ∈ (b + j) :: i :: l ∧ via (b + j) = i) ⟨List.mem_cons_self, h.1⟩]; omega
        · have n2 : ¬ (b + j ∈ (b + j) :: y :: l ∧ via (b + j) = i) := fun k => by
            have := k.2; have := h.1; omega
          rw [if_neg (fun k => e2 k.1), if_neg n2]
      · rw [if_neg (fun k => e (by omega))]
        by_cases w : b + j ∈ y :: l ∧ via (b + j) = i
        · rw [if_pos w, if_pos (c := b + j ∈ v :: y :: l ∧ via (b + j) = i) ⟨List.mem_cons_of_mem _ w.1, w.2⟩]
        · rw [if_neg w, if_neg (c := b + j ∈ v :: y :: l ∧ via (b + j) = i)]
          rintro ⟨m, e'⟩
          rcases List.mem_cons.1 m with k | k
          · exact e k.symm
          · exact w ⟨k, e'⟩
    · rw [if_neg q]
      have b3 := b3 (by omega)
      have z3 : (if b + j ∈ v :: y :: l ∧ via (b + j) = i then (1 : Int) else 0) = if b + j ∈ y :: l ∧ via (b + j) = i then 1 else 0 := by
        by_cases w : b + j ∈ y :: l ∧ via (b + j) = i
        · rw [if_pos w, if_pos ⟨List.mem_cons_of_mem _ w.1, w.2⟩]
        · rw [if_neg w, if_neg]
          rintro ⟨m, e'⟩
          rcases List.mem_cons.1 m with k | k
          · omega
          · exact w ⟨k, e'⟩
      rw [z3]
      unfold sn_u2
      by_cases e : i = v
      · subst e
        have n1 : ¬ (i ∈ y :: l ∧ via i = (b + j : Nat)) := fun k => nv k.1
        rw [if_neg n1]
        by_cases e2 : y = b + j
        · subst e2
          rw [if_pos ⟨rfl, by omega⟩, if_pos (c := i ∈ i :: (b + j) :: l ∧ via i = (b + j : Nat)) ⟨List.mem_cons_self, h.1⟩]; omega
        · have n2 : ¬ (i ∈ i :: y :: l ∧ via i = (b + j : Nat)) := fun k => by
            have := k.2; have := h.1; omega
          rw [if_neg (fun k => e2 (by omega)), if_neg n2]
      · rw [if_neg (fun k => e k.1)]
        by_cases w : i ∈ y :: l ∧ via i = (b + j : Nat)
        · rw [if_pos w, if_pos (c := i ∈ v :: y :: l ∧ via i = (b + j : Nat)) ⟨List.mem_cons_of_mem _ w.1, w.2⟩]
        · rw [if_neg w, if_neg (c := i ∈ v :: y :: l ∧ via i = (b + j : Nat))]
          rintro ⟨m, e'⟩
          rcases List.mem_cons.1 m with k | k
          · exact e k
          · exact w ⟨k, e'⟩
theorem sn_ok_bi {b o : Nat} {c fl : Nat → Nat → Int} {f0 : Nat → Int} {s : bf_S} (K : bf_ok (b + o) (sn_A b o c fl (b * o)) f0 s) : sn_bi b o s.2 := by
  intro v y hv e
  rcases K.2.1 v hv with ⟨q1, q2⟩ | ⟨u, w, q1, q2, q3, q4, q5⟩
  · omega
  · have e' : u = y := by omega
    subst e'
    rcases sn_A_in q1 with ⟨i, j, hi, hj, e1, e2, e3⟩ | ⟨i, j, hi, hj, e1, e2, e3, e4⟩
    · omega
    · omega
/-! one bushel more -/
abbrev sn_T := (Nat → Int) × (Nat → Int) × (Nat → Nat → Int)
noncomputable def sn_B (b o : Nat) (c : Nat → Nat → Int) (t : sn_T) : Nat := (sn_b b t.2.1 (sn_F b o c t.2.2 t.1).1 o).toNat
noncomputable def sn_L (b o : Nat) (c : Nat → Nat → Int) (t : sn_T) : List Nat := sn_l (sn_F b o c t.2.2 t.1).2 (b + sn_B b o c t)
noncomputable def sn_n (b o : Nat) (c : Nat → Nat → Int) (t : sn_T) : sn_T :=
  (bf_up t.1 (sn_r (b + sn_B b o c t) (sn_L b o c t)) (t.1 (sn_r (b + sn_B b o c t) (sn_L b o c t)) - 1), bf_up t.2.1 (sn_B b o c t) (t.2.1 (sn_B b o c t) - 1), sn_g b (b + sn_B b o c t) (sn_L b o c t) t.2.2)
noncomputable def sn_c (b o : Nat) (c : Nat → Nat → Int) (t : sn_T) : Int := (sn_F b o c t.2.2 t.1).1 (b + sn_B b o c t)
def sn_I (b o : Nat) (c : Nat → Nat → Int) (m q : Int) (n : Nat) (t : sn_T) : Prop :=
  (∀ i, i < b → 0 ≤ t.1 i ∧ t.1 i ≤ 30) ∧ (∀ j, j < o → 0 ≤ t.2.1 j ∧ t.2.1 j ≤ 30) ∧ (∀ i j, i < b → j < o → 0 ≤ t.2.2 i j ∧ t.2.2 i j ≤ n) ∧ bf_sum t.1 b = m - n ∧ bf_sum t.2.1 o = q - n ∧ ∃ p, sn_P b o c t.2.2 p
theorem bf_sum_pos {f : Nat → Int} : ∀ {N}, 0 < bf_sum f N → ∃ v, v < N ∧ 0 < f v
  | 0, h => by simp [bf_sum] at h
  | N + 1, h => by
    have h : 0 < bf_sum f N + f N := h
    by_cases q : 0 < f N
    · exact ⟨N, by omega, q⟩
    · obtain ⟨v, a, b⟩ := bf_sum_pos (f := f) (N := N) (by omega)
      exact ⟨v, by omega, b⟩
theorem sn_step {b o : Nat} {c : Nat → Nat → Int} {m q : Int} {n : Nat} {t : sn_T} (C : sn_C b o c) (hb : b ≤ 5) (ho : o ≤ 4) (I : sn_I b o c m q n t) (hq : q ≤ m) (hn : n < q) :
    sn_b b t.2.1 (sn_F b o c t.2.2 t.1).1 o = sn_B b o c t ∧ sn_B b o c t < o ∧ 0 < t.2.1 (sn_B b o c t) ∧ (∀ j, j < o → (sn_F b o c t.2.2 t.1).1 (b + j) < 100000) ∧
    bf_ch (sn_F b o c t.2.2 t.1).2 (b + sn_B b o c t) (sn_L b o c t) ∧ sn_bi b o (sn_F b o c t.2.2 t.1).2 ∧ sn_r (b + sn_B b o c t) (sn_L b o c t) < b ∧ 0 < t.1 (sn_r (b + sn_B b o c t) (sn_L b o c t)) ∧
    (∀ v, v < b + o → (sn_F b o c t.2.2 t.1).1 v < 100000 → b ≤ v → (sn_F b o c t.2.2 t.1).2 v ≠ -1) ∧ sn_I b o c m q (n + 1) (sn_n b o c t) := by
  obtain ⟨I1, I2, I3, I4, I5, p, P⟩ := I
  have hbo : b + o ≤ 9 := by omega
  obtain ⟨K, BD⟩ := sn_bd (hv := t.1) C P hb ho (r := b + o) hbo (Nat.zero_le (b * o))
  have FX := sn_F_fix (hv := t.1) C P
  change bf_ok (b + o) _ (sn_f0 b t.1) (sn_F b o c t.2.2 t.1) at K
  change ∀ v, v < b + o → -900 ≤ (sn_F b o c t.2.2 t.1).1 v ∧ (sn_F b o c t.2.2 t.1).1 v ≤ 100000 ∧ ((sn_F b o c t.2.2 t.1).1 v < 100000 → (sn_F b o c t.2.2 t.1).1 v ≤ 50000) at BD
  generalize hF : sn_F b o c t.2.2 t.1 = F at *
  have BI := sn_ok_bi K
  obtain ⟨i0, hi0, s0⟩ := bf_sum_pos (f := t.1) (N := b) (by omega)
  have w0 := bf_sum_pos (f := t.2.1) (N := o) (by omega)
  have B1 := sn_b_ok (b := b) (f := F.1) o w0
  have B2 : sn_b b t.2.1 F.1 o = (sn_B b o c t : Nat) := by unfold sn_B; rw [hF]; omega
  have B3 := sn_b_in (b := b) (wt := t.2.1) (f := F.1) o
  have B4 : sn_B b o c t < o ∧ 0 < t.2.1 (sn_B b o c t) := by
    rcases B3 with e | ⟨e1, e2, e3⟩
    · omega
    · refine ⟨by omega, ?_⟩
      unfold sn_B; rw [hF]; exact e3
  generalize hB : sn_B b o c t = B at *
  have src : F.1 i0 < 100000 := by
    rcases K.2.1 i0 (by omega) with ⟨q1, q2⟩ | ⟨u, w, q1, q2, q3, q4, q5⟩
    · rw [q2]; unfold sn_f0; rw [if_pos ⟨hi0, s0⟩]; decide
    · exact q5
  have R : ∀ j, j < o → F.1 (b + j) < 100000 := fun j hj => by
    have := FX _ (sn_A_1 hi0 hj)
    have h1 : ¬ (F.1 i0 < 100000 ∧ F.1 i0 + c i0 j < F.1 (b + j)) := this
    have h2 := C i0 j hi0 hj
    have h3 := (BD i0 (by omega)).2.2 src
    omega
  have hL := sn_l_ch (K.2.2 (b + B) (by omega))
  have hL' : sn_L b o c t = sn_l F.2 (b + B) := by unfold sn_L; rw [hF, hB]
  rw [← hL'] at hL
  generalize hl : sn_L b o c t = l at *
  have ord : ∀ v, v < b + o → F.1 v < 100000 → b ≤ v → F.2 v ≠ -1 := fun v hv q1 q2 e => by
    rcases K.2.1 v hv with ⟨r1, r2⟩ | ⟨u, w, r1, r2, r3, r4, r5⟩
    · rw [r2] at q1
      unfold sn_f0 at q1
      rw [if_neg (by omega)] at q1
      omega
    · omega
  have rch : ∀ {l : List Nat} {v : Nat}, v < b + o → F.1 v < 100000 → bf_ch F.2 v l → ∀ x ∈ v :: l, x < b + o ∧ F.1 x < 100000 := by
    intro l
    induction l with
    | nil => intro v hv q _ x hx; rw [List.mem_singleton.1 hx]; exact ⟨hv, q⟩
    | cons y l ih =>
      intro v hv q h x hx
      rcases List.mem_cons.1 hx with e | e
      · rw [e]; exact ⟨hv, q⟩
      · have h1 := h.1
        rcases K.2.1 v hv with ⟨r1, r2⟩ | ⟨u, w, r1, r2, r3, r4, r5⟩
        · omega
        · have e' : u = y := by omega
          subst e'
          exact ih (BI v u hv r2).1 r3 h.2 x e
  have rt : sn_r (b + B) l ∈ (b + B) :: l := by
    rcases sn_r_in (b + B) l with e | e
    · rw [e]; exact List.mem_cons_self
    · exact List.mem_cons_of_mem _ e
  have rt1 := rch (by omega) (R B B4.1) hL _ rt
  have rt2 := sn_r_ch hL
  have rt3 : sn_r (b + B) l < b := by
    rcases Nat.lt_or_ge (sn_r (b + B) l) b with e | e
    · exact e
    · exact absurd rt2 (ord _ rt1.1 rt1.2 e)
  have rt4 : 0 < t.1 (sn_r (b + B) l) := by
    rcases K.2.1 _ rt1.1 with ⟨r1, r2⟩ | ⟨u, w, r1, r2, -⟩
    · have := rt1.2
      rw [r2] at this
      unfold sn_f0 at this
      by_cases z : sn_r (b + B) l < b ∧ 0 < t.1 (sn_r (b + B) l)
      · exact z.2
      · rw [if_neg z] at this; omega
    · omega
  have arc1 : ∀ i j, i < b → j < o → F.2 (b + j) = (i : Int) → F.1 i < 100000 ∧ F.1 i + c i j ≤ F.1 (b + j) := fun i j hi hj e => by
    rcases K.2.1 (b + j) (by omega) with ⟨r1, r2⟩ | ⟨u, w, r1, r2, r3, r4, r5⟩
    · omega
    · have e' : u = i := by omega
      subst e'
      rcases sn_A_in r1 with ⟨i', j', hi', hj', e1, e2, e3⟩ | ⟨i', j', hi', hj', e1, e2, e3, e4⟩
      · have e4 : j' = j := by omega
        subst e1; subst e4; subst e3
        exact ⟨r3, r4⟩
      · omega
  have arc2 : ∀ i j, i < b → j < o → F.2 i = (b + j : Nat) → 0 < t.2.2 i j := fun i j hi hj e => by
    rcases K.2.1 i (by omega) with ⟨r1, r2⟩ | ⟨u, w, r1, r2, r3, r4, r5⟩
    · omega
    · have e' : u = b + j := by omega
      subst e'
      rcases sn_A_in r1 with ⟨i', j', hi', hj', e1, e2, e3⟩ | ⟨i', j', hi', hj', e1, e2, e3, e4⟩
      · omega
      · have e5 : j' = j := by omega
        subst e2; subst e5
        exact e4
  refine ⟨B2, B4.1, B4.2, R, hL, BI, rt3, rt4, ord, ?_⟩
  have N1 : (sn_n b o c t).1 = bf_up t.1 (sn_r (b + B) l) (t.1 (sn_r (b + B) l) - 1) := by unfold sn_n; rw [hB, hl]
  have N2 : (sn_n b o c t).2.1 = bf_up t.2.1 B (t.2.1 B - 1) := by unfold sn_n; rw [hB]
  have N3 : (sn_n b o c t).2.2 = sn_g b (b + B) l t.2.2 := by unfold sn_n; rw [hB, hl]
  unfold sn_I
  rw [N1, N2, N3]
  refine ⟨fun i hi => ?_, fun j hj => ?_, fun i j hi hj => ?_, ?_, ?_, F.1, fun i j hi hj => ?_⟩
  · by_cases e : i = sn_r (b + B) l
    · subst e; rw [bf_up_same]
      have := I1 _ hi; omega
    · rw [bf_up_ne _ _ e]; exact I1 i hi
  · by_cases e : j = B
    · subst e; rw [bf_up_same]
      have := I2 _ hj; omega
    · rw [bf_up_ne _ _ e]; exact I2 j hj
  · rw [sn_g_eq BI hi hj (by omega) hL]
    have := I3 i j hi hj
    by_cases z2 : i ∈ (b + B) :: l ∧ F.2 i = (b + j : Nat)
    · have := arc2 i j hi hj z2.2
      rw [if_pos z2]
      by_cases z1 : b + j ∈ (b + B) :: l ∧ F.2 (b + j) = i
      · rw [if_pos z1]; omega
      · rw [if_neg z1]; omega
    · rw [if_neg z2]
      by_cases z1 : b + j ∈ (b + B) :: l ∧ F.2 (b + j) = i
      · rw [if_pos z1]; omega
      · rw [if_neg z1]; omega
  · rw [bf_sum_up, if_pos rt3]; omega
  · rw [bf_sum_up, if_pos B4.1]; omega
  · have hc := C i j hi hj
    have hj1 := R j hj
    have hj2 := (BD (b + j) (by omega)).2.2 hj1
    have hi1 := BD i (by omega)
    constructor
    · by_cases z : F.1 i < 100000
      · have h1 : ¬ (F.1 i < 100000 ∧ F.1 i + c i j < F.1 (b + j)) := FX _ (sn_A_1 hi hj)
        omega
      · omega
    · intro z
      rw [sn_g_eq BI hi hj (by omega) hL] at z
      have h2 := I3 i j hi hj
      by_cases z1 : b + j ∈ (b + B) :: l ∧ F.2 (b + j) = i
      · exact (arc1 i j hi hj z1.2).2
      · rw [if_neg z1] at z
        have z' : 0 < t.2.2 i j := by
          by_cases z2 : i ∈ (b + B) :: l ∧ F.2 i = (b + j : Nat)
          · exact arc2 i j hi hj z2.2
          · rw [if_neg z2] at z; omega
        have h1 : ¬ (F.1 (b + j) < 100000 ∧ F.1 (b + j) + - c i j < F.1 i) := FX _ (sn_A_2 hi hj z')
        omega

/-! ===== the events of a state ===== -/
def evS (S : MS) (tx : Nat → List Nat × List PD) (kn : Int32) : Nat → Nat → Nat := fun i k =>
  if i = 0 then (S.1 9 k).toNatClampNeg else if i = 1 then (S.1 10 k).toNatClampNeg else if i = 2 then (S.1 11 k).toNatClampNeg else if i = 3 then (S.1 12 k).toNatClampNeg
  else if i = 4 then (if S.1 9 k = 0 then 10 * (grS S tx k kn).toNatClampNeg + (S.1 14 k).toNatClampNeg else 10 * (S.1 13 k).toNatClampNeg + (S.1 14 k).toNatClampNeg)
  else if i = 5 then (S.1 15 k).toNatClampNeg else if i = 6 then (S.1 15 k).toNatClampNeg - (S.1 15 k).toNatClampNeg * (S.1 16 k).toNatClampNeg / 1000
  else if i = 7 then (S.1 16 k).toNatClampNeg else if S.1 18 k ≤ kn then 1 else 0
def roS (S : MS) : Nat → Nat := fun e => (S.1 8 e).toNatClampNeg
def PLS (S : MS) (tx : Nat → List Nat × List PD) (kn : Int32) (n : Nat) : PS := PL (roS S) (evS S tx kn) n
section
variable {S : MS} {tx : Nat → List Nat × List PD} {kn : Int32} {k n : Nat}
theorem inR.u {x : Int32} {a : Nat} (h : inR x 0 a) : x = nI x.toNatClampNeg ∧ x.toNatClampNeg ≤ a := x_nI h.1 h.2
theorem inR.l {x : Int32} {a : Nat} (h : inR x 0 ((a : Int) - 1)) (ha : a < 2147483648) : x = nI x.toNatClampNeg ∧ x.toNatClampNeg < a := by
  obtain ⟨q1, q2⟩ := x_nI (x := x) (n := a) h.1 (by have := h.2; omega)
  exact ⟨q1, cl_lt h.1 h.2⟩
theorem inR.p {x : Int32} {a : Nat} (h : inR x 1 a) : x = nI x.toNatClampNeg ∧ x.toNatClampNeg ≤ a := x_nI (by have := h.1; omega) h.2
theorem ev_kn : evS S tx kn 8 k ≠ 0 ↔ S.1 18 k ≤ kn := by
  show (if S.1 18 k ≤ kn then 1 else 0) ≠ 0 ↔ _
  split
  · rename_i c; exact ⟨fun _ => c, fun _ => by decide⟩
  · rename_i c; exact ⟨fun q => absurd rfl q, fun q => absurd q c⟩
/-- a load -/
theorem ev_ld (W : WF S) (B : WB S) (hk : k < nV S) (h0 : S.1 9 k = 0) : evS S tx kn 0 k = 0 ∧ S.1 10 k = nI (evS S tx kn 1 k) ∧ evS S tx kn 1 k < nF S ∧ S.1 11 k = nI (evS S tx kn 2 k) ∧ evS S tx kn 2 k < nE S ∧ S.1 15 k = nI (evS S tx kn 5 k) ∧ evS S tx kn 5 k ≤ 10000 ∧ nt S k = nI (evS S tx kn 6 k) ∧ evS S tx kn 6 k ≤ evS S tx kn 5 k ∧ S.1 14 k = nI (S.1 14 k).toNatClampNeg ∧ (S.1 14 k).toNatClampNeg < 10 ∧ S.1 14 k = S.1 17 k / (52 : Int32) ∧ evS S tx kn 4 k = 10 * (grS S tx k kn).toNatClampNeg + (S.1 14 k).toNatClampNeg ∧ grS S tx k kn = nI (grS S tx k kn).toNatClampNeg ∧ (grS S tx k kn).toNatClampNeg < 6 ∧ S.1 16 k = nI (S.1 16 k).toNatClampNeg ∧ (S.1 16 k).toNatClampNeg ≤ 1000 := by
  have wv := W.2.2.2.1 k hk
  obtain ⟨w1, w2, w3⟩ := wv
  have w : inR (S.1 10 k) 0 ((nF S : Int) - 1) ∧ inR (S.1 11 k) 0 ((nE S : Int) - 1) ∧ inR (S.1 15 k) 1 10000 ∧ inR (S.1 16 k) 0 1000 ∧ S.1 14 k = S.1 17 k / 52 := by
    rcases w3 with q | q | q | q
    · exact q.2
    all_goals rw [h0] at q; exact absurd q.1 (by decide)
  obtain ⟨a1, a2, a3, a4, a5⟩ := w
  have f := a1.l (by have := B.1; omega)
  have e := a2.l (by have := B.2.1; omega)
  have b := a3.p (a := 10000)
  have x := a4.u (a := 1000)
  have y := y52 w1
  have g := (grS_in (tx := tx) (k := k) (kn := kn) W).u (a := 5)
  have y1 : S.1 14 k = nI ((S.1 17 k).toNatClampNeg / 52) := a5.trans y.1
  have y2 : (S.1 14 k).toNatClampNeg = (S.1 17 k).toNatClampNeg / 52 := by rw [y1, nI_clamp (by omega)]
  refine ⟨?_, f.1, f.2, e.1, e.2, b.1, b.2, ?_, ?_, by rw [y2]; exact y1, by rw [y2]; exact y.2, a5, ?_, g.1, by have := g.2; omega, x.1, x.2⟩
  · show (S.1 9 k).toNatClampNeg = 0
    rw [h0]; decide
  · show S.1 15 k - S.1 15 k * S.1 16 k / (1000 : Int32) = nI ((S.1 15 k).toNatClampNeg - (S.1 15 k).toNatClampNeg * (S.1 16 k).toNatClampNeg / 1000)
    have m : (S.1 15 k).toNatClampNeg * (S.1 16 k).toNatClampNeg ≤ 10000 * 1000 := Nat.mul_le_mul b.2 x.2
    have m2 : (S.1 15 k).toNatClampNeg * (S.1 16 k).toNatClampNeg ≤ (S.1 15 k).toNatClampNeg * 1000 := Nat.mul_le_mul_left _ x.2
    generalize (S.1 15 k).toNatClampNeg = u at *
    generalize (S.1 16 k).toNatClampNeg = v at *
    rw [b.1, x.1, pk_mul, show (1000 : Int32) = nI 1000 from rfl, pk_div (by omega) (by decide) (by decide), pk_sub (by omega)]
  · show (S.1 15 k).toNatClampNeg - (S.1 15 k).toNatClampNeg * (S.1 16 k).toNatClampNeg / 1000 ≤ (S.1 15 k).toNatClampNeg
    omega
  · show (if S.1 9 k = 0 then _ else _) = _
    rw [if_pos h0]
/-- one that takes: a car (1), a sale (2), a spoil (3) -/
theorem ev_tk (W : WF S) (B : WB S) (hk : k < nV S) (h0 : S.1 9 k ≠ 0) : S.1 9 k = nI (evS S tx kn 0 k) ∧ S.1 11 k = nI (evS S tx kn 2 k) ∧ S.1 15 k = nI (evS S tx kn 5 k) ∧ evS S tx kn 5 k ≤ 100000 ∧ S.1 13 k = nI (S.1 13 k).toNatClampNeg ∧ (S.1 13 k).toNatClampNeg < 6 ∧ S.1 14 k = nI (S.1 14 k).toNatClampNeg ∧ (S.1 14 k).toNatClampNeg < 10 ∧ evS S tx kn 4 k = 10 * (S.1 13 k).toNatClampNeg + (S.1 14 k).toNatClampNeg ∧
    ((S.1 9 k = 1 ∧ evS S tx kn 0 k = 1 ∧ evS S tx kn 2 k < nE S ∧ S.1 12 k = nI (evS S tx kn 3 k) ∧ evS S tx kn 3 k < 2) ∨ (S.1 9 k = 2 ∧ evS S tx kn 0 k = 2 ∧ evS S tx kn 2 k < 2 ∧ S.1 16 k = nI (evS S tx kn 7 k) ∧ evS S tx kn 7 k ≤ 1000) ∨ (S.1 9 k = 3 ∧ evS S tx kn 0 k = 3 ∧ evS S tx kn 2 k < nE S)) := by
  have e4 : evS S tx kn 4 k = 10 * (S.1 13 k).toNatClampNeg + (S.1 14 k).toNatClampNeg := by
    show (if S.1 9 k = 0 then _ else _) = _
    rw [if_neg h0]
  have e0 : evS S tx kn 0 k = (S.1 9 k).toNatClampNeg := rfl
  have wv := W.2.2.2.1 k hk
  obtain ⟨w1, w2, w3⟩ := wv
  have b8 := B.2.1
  rcases w3 with q | ⟨q0, q1, q2, q3, q4, q5⟩ | ⟨q0, q1, q2, q3, q4, q5⟩ | ⟨q0, q1, q2, q3, q4⟩
  · exact absurd q.1 h0
  · have a := q1.l (by omega)
    have b := q2.u (a := 1)
    have c := q3.u (a := 5)
    have d := q4.u (a := 9)
    have e := q5.p (a := 100000)
    exact ⟨by rw [e0, q0]; rfl, a.1, e.1, e.2, c.1, by have := c.2; omega, d.1, by have := d.2; omega, e4, Or.inl ⟨q0, by rw [e0, q0]; rfl, a.2, b.1, by have := b.2; show (S.1 12 k).toNatClampNeg < 2; omega⟩⟩
  · have a := q1.u (a := 1)
    have b := q5.u (a := 1000)
    have c := q2.u (a := 5)
    have d := q3.u (a := 9)
    have e := q4.p (a := 100000)
    exact ⟨by rw [e0, q0]; rfl, a.1, e.1, e.2, c.1, by have := c.2; omega, d.1, by have := d.2; omega, e4, Or.inr (Or.inl ⟨q0, by rw [e0, q0]; rfl, by have := a.2; show (S.1 11 k).toNatClampNeg < 2; omega, b.1, b.2⟩)⟩
  · have a := q1.l (by omega)
    have c := q2.u (a := 5)
    have d := q3.u (a := 9)
    have e := q4.p (a := 100000)
    exact ⟨by rw [e0, q0]; rfl, a.1, e.1, e.2, c.1, by have := c.2; omega, d.1, by have := d.2; omega, e4, Or.inr (Or.inr ⟨q0, by rw [e0, q0]; rfl, a.2⟩)⟩
theorem evS_0 (W : WF S) (B : WB S) (hk : k < nV S) : evS S tx kn 0 k = 0 ↔ S.1 9 k = 0 := by
  by_cases c : S.1 9 k = 0
  · exact ⟨fun _ => c, fun _ => (ev_ld (tx := tx) (kn := kn) W B hk c).1⟩
  · refine ⟨fun q => ?_, fun q => absurd q c⟩
    have := (ev_tk (tx := tx) (kn := kn) W B hk c).1
    rw [q] at this
    exact this
theorem evS_w (W : WF S) (B : WB S) : ∀ k, k < nV S → EVk (nF S) (evS S tx kn) k := fun k hk h8 => by
  have b8 := B.2.1
  by_cases c : S.1 9 k = 0
  · obtain ⟨x0, -, x1, -, x2, -, x5, -, x6, -, y, -, x4, -, g, -⟩ := ev_ld (tx := tx) (kn := kn) W B hk c
    exact ⟨by omega, Or.inl ⟨x0, x1, by omega, x6, x5⟩⟩
  · obtain ⟨-, -, -, x5, -, g, -, y, x4, o⟩ := ev_tk (tx := tx) (kn := kn) W B hk c
    refine ⟨by omega, ?_⟩
    rcases o with ⟨-, o1, o2, -, o3⟩ | ⟨-, o1, o2, -, o3⟩ | ⟨-, o1, o2⟩
    · exact Or.inr (Or.inl ⟨o1, by omega, o3, x5⟩)
    · exact Or.inr (Or.inr (Or.inl ⟨o1, o2, x5, o3⟩))
    · exact Or.inr (Or.inr (Or.inr ⟨o1, by omega, x5⟩))
theorem roS_b (W : WF S) {e : Nat} (he : e < nE S) : S.1 8 e = nI (roS S e) ∧ roS S e ≤ 1000000 := (W.2.2.1 e he).2.p (a := 1000000)
theorem PLS_i (W : WF S) (B : WB S) (hk : k ≤ nV S) : PI (nF S) (roS S) k (PLS S tx kn k) := PL_i B.1 (evS_w W B) k hk
/-- all heaps are small -/
theorem PLS_s (W : WF S) (B : WB S) (hk : k ≤ nV S) {e y : Nat} (he : e < nE S ∨ (8 ≤ e ∧ e < 10)) (hy : y < 60) : sN (PLS S tx kn k e y) 20 ≤ 12000000 := by
  have I := PLS_i (tx := tx) (kn := kn) W B hk
  have v := B.2.2
  rcases he with he | he
  · have a := I.1 e (by have := B.2.1; omega)
    have b := (roS_b W he).2
    have c := inA_ge (P := PLS S tx kn k) (e := e) hy
    omega
  · have := I.2.2.1 e y he.1 he.2 hy
    omega
end

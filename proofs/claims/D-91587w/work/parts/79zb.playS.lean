/-! ===== plain: events played one behind the other ===== -/
abbrev PS : Type := Nat → Nat → Nat → Nat
def pr (P : PS) (i j : Nat) (r : Nat → Nat) : PS := fun a b => if a = i ∧ b = j then r else P a b
/-- all of an elevator -/
def inA (P : PS) (e : Nat) : Nat := sN (fun y => sN (P e y) 20) 60
def rad (r : Nat → Nat) (f v : Nat) : Nat → Nat := pwr r f (r f + v)
/-- P: 0 .. 7 bins, 8, 9 ports, 10 brought (by grade and year, farm); 11 docked, 12 turned, 13 sold, 14 spoilt (0, farm); 15 lacks (0, 0); 16 came (grade and year, 0); 17 turned of an event, 18 taken by it (0, event).
    EV: 0 kind, 1 farm, 2 where from, 3 where to, 4 grade and year, 5 bushels, 6 net, 7 docked or pence, 8 whether it is known -/
def ldT (ro : Nat → Nat) (EV : Nat → Nat → Nat) (k : Nat) (P : PS) : Nat := inA P (EV 2 k) + EV 6 k - ro (EV 2 k)
def ldP (ro : Nat → Nat) (EV : Nat → Nat → Nat) (k : Nat) (P : PS) : PS :=
  pr (pr (pr (pr (pr P 11 0 (rad (P 11 0) (EV 1 k) (EV 5 k - EV 6 k))) 12 0 (rad (P 12 0) (EV 1 k) (ldT ro EV k P))) (EV 2 k) (EV 4 k) (rad (P (EV 2 k) (EV 4 k)) (EV 1 k) (EV 6 k - ldT ro EV k P))) 10 (EV 4 k) (rad (P 10 (EV 4 k)) (EV 1 k) (EV 6 k - ldT ro EV k P))) 17 0 (pwr (P 17 0) k (ldT ro EV k P))
def tkS (EV : Nat → Nat → Nat) (k : Nat) : Nat := if EV 0 k = 2 then 8 + EV 2 k else EV 2 k
def tkN (EV : Nat → Nat → Nat) (k : Nat) (P : PS) : Nat := min (EV 5 k) (sN (P (tkS EV k) (EV 4 k)) 20)
def tkR (EV : Nat → Nat → Nat) (k : Nat) (P : PS) : Nat → Nat := spl 20 (P (tkS EV k) (EV 4 k)) (tkN EV k P)
def tk1 (EV : Nat → Nat → Nat) (k : Nat) (P : PS) : PS := pr P (tkS EV k) (EV 4 k) (fun f => P (tkS EV k) (EV 4 k) f - tkR EV k P f)
def tk2 (EV : Nat → Nat → Nat) (k : Nat) (P : PS) : PS :=
  if EV 0 k = 1 then pr (tk1 EV k P) (8 + EV 3 k) (EV 4 k) (fun f => P (8 + EV 3 k) (EV 4 k) f + tkR EV k P f)
  else if EV 0 k = 2 then pr (pr (tk1 EV k P) 13 0 (fun f => P 13 0 f + tkR EV k P f)) 16 (EV 4 k) (rad (P 16 (EV 4 k)) 0 (tkN EV k P * EV 7 k))
  else pr (tk1 EV k P) 14 0 (fun f => P 14 0 f + tkR EV k P f)
def tkP (EV : Nat → Nat → Nat) (k : Nat) (P : PS) : PS := pr (pr (tk2 EV k P) 15 0 (rad (P 15 0) 0 (EV 5 k - tkN EV k P))) 18 0 (pwr (P 18 0) k (tkN EV k P))
def PL (ro : Nat → Nat) (EV : Nat → Nat → Nat) : Nat → PS
  | 0 => fun _ _ _ => 0
  | k + 1 => if EV 8 k = 0 then PL ro EV k else if EV 0 k = 0 then ldP ro EV k (PL ro EV k) else tkP EV k (PL ro EV k)
def EVk (m : Nat) (EV : Nat → Nat → Nat) (k : Nat) : Prop := EV 8 k ≠ 0 → EV 4 k < 60 ∧ ((EV 0 k = 0 ∧ EV 1 k < m ∧ EV 2 k < 8 ∧ EV 6 k ≤ EV 5 k ∧ EV 5 k ≤ 10000) ∨ (EV 0 k = 1 ∧ EV 2 k < 8 ∧ EV 3 k < 2 ∧ EV 5 k ≤ 100000) ∨ (EV 0 k = 2 ∧ EV 2 k < 2 ∧ EV 5 k ≤ 100000 ∧ EV 7 k ≤ 1000) ∨ (EV 0 k = 3 ∧ EV 2 k < 8 ∧ EV 5 k ≤ 100000))
def PI (m : Nat) (ro : Nat → Nat) (k : Nat) (P : PS) : Prop := (∀ e, e < 8 → inA P e ≤ ro e) ∧ (∀ e j f, e < 15 → m ≤ f → f < 20 → P e j f = 0) ∧ (∀ e y, 8 ≤ e → e < 10 → y < 60 → sN (P e y) 20 ≤ 100000 * k) ∧ inA P 10 ≤ 10000 * k ∧ (∀ i f, i < 4 → f < 20 → P (11 + i) 0 f ≤ 100000 * k) ∧ P 15 0 0 ≤ 100000 * k ∧ ∀ y, P 16 y 0 ≤ 100000000 * k
section
variable {ro : Nat → Nat} {EV : Nat → Nat → Nat} {k m n i j e f v : Nat} {P : PS} {r : Nat → Nat}
theorem pr_s : pr P i j r i j = r := if_pos ⟨rfl, rfl⟩
theorem pr_n {a b : Nat} (h : ¬ (a = i ∧ b = j)) : pr P i j r a b = P a b := if_neg h
theorem sN_rad {n : Nat} (h : f < n) : sN (rad r f v) n = sN r n + v := by
  have := sN_pw (f := r) (v := r f + v) h
  unfold rad
  omega
theorem inA_pr (hj : j < 60) : inA (pr P i j r) i + sN (P i j) 20 = inA P i + sN r 20 := by
  have e : inA (pr P i j r) i = sN (pwr (fun y => sN (P i y) 20) j (sN r 20)) 60 := sN_ext (fun y _ => by
    by_cases c : y = j
    · rw [c, pr_s, pw_s]
    · rw [pr_n (fun q => c q.2), pw_n c])
  rw [e]
  exact sN_pw (f := fun y => sN (P i y) 20) hj
theorem inA_pn (h : e ≠ i) : inA (pr P i j r) e = inA P e := sN_ext (fun y _ => by rw [pr_n (fun q => h q.1)])
theorem inA_ge {y : Nat} (h : y < 60) : sN (P e y) 20 ≤ inA P e := sN_ge (f := fun y => sN (P e y) 20) h
theorem rad_n {g : Nat} (h : g ≠ f) : rad r f v g = r g := pw_n h
theorem rad_s : rad r f v f = r f + v := pw_s
theorem PI.ld (I : PI m ro k P) (m20 : m ≤ 20) (h8 : EV 8 k ≠ 0) (h0 : EV 0 k = 0) (W : EVk m EV k) : PI m ro (k + 1) (ldP ro EV k P) := by
  obtain ⟨w4, w⟩ := W h8
  have w : EV 1 k < m ∧ EV 2 k < 8 ∧ EV 6 k ≤ EV 5 k ∧ EV 5 k ≤ 10000 := by omega
  obtain ⟨w1, w2, w3, w5⟩ := w
  obtain ⟨i1, i2, i3, i4, i5, i6, i7⟩ := I
  have a2 := i1 _ w2
  have tn : ldT ro EV k P ≤ EV 6 k := by unfold ldT; omega
  have tn2 : inA P (EV 2 k) + (EV 6 k - ldT ro EV k P) ≤ ro (EV 2 k) := by unfold ldT; omega
  unfold ldP
  generalize ldT ro EV k P = t at tn tn2
  have q1 : EV 6 k - t ≤ 10000 := by omega
  generalize EV 6 k - t = q at tn2 q1
  refine ⟨fun e he => ?_, fun e j f he hm hf => ?_, fun e y h1 h2 hy => ?_, ?_, fun i f hi hf => ?_, ?_, fun y => ?_⟩
  · rw [inA_pn (by omega), inA_pn (by omega)]
    by_cases c : e = EV 2 k
    · rw [c]
      have a := inA_pr (P := pr (pr P 11 0 (rad (P 11 0) (EV 1 k) (EV 5 k - EV 6 k))) 12 0 (rad (P 12 0) (EV 1 k) t)) (i := EV 2 k) (r := rad (P (EV 2 k) (EV 4 k)) (EV 1 k) q) w4
      have b : inA (pr (pr P 11 0 (rad (P 11 0) (EV 1 k) (EV 5 k - EV 6 k))) 12 0 (rad (P 12 0) (EV 1 k) t)) (EV 2 k) = inA P (EV 2 k) := by rw [inA_pn (by omega), inA_pn (by omega)]
      rw [sN_rad (by omega), pr_n (a := EV 2 k) (b := EV 4 k) (by omega), pr_n (a := EV 2 k) (b := EV 4 k) (by omega), b] at a
      omega
    · rw [inA_pn c, inA_pn (by omega), inA_pn (by omega)]; exact i1 e he
  · have key : ∀ (r : Nat → Nat) v, r f = 0 → rad r (EV 1 k) v f = 0 := fun r v h => by rw [rad_n (by omega)]; exact h
    rw [pr_n (by omega)]
    unfold pr
    repeat' split
    all_goals first | exact key _ _ (i2 _ _ _ (by omega) hm hf) | exact i2 _ _ _ (by omega) hm hf
  · rw [pr_n (by omega), pr_n (by omega), pr_n (by omega), pr_n (by omega), pr_n (by omega)]
    have := i3 e y h1 h2 hy
    omega
  · rw [inA_pn (by omega)]
    have a := inA_pr (P := pr (pr (pr P 11 0 (rad (P 11 0) (EV 1 k) (EV 5 k - EV 6 k))) 12 0 (rad (P 12 0) (EV 1 k) t)) (EV 2 k) (EV 4 k) (rad (P (EV 2 k) (EV 4 k)) (EV 1 k) q)) (i := 10) (r := rad (P 10 (EV 4 k)) (EV 1 k) q) w4
    have b : inA (pr (pr (pr P 11 0 (rad (P 11 0) (EV 1 k) (EV 5 k - EV 6 k))) 12 0 (rad (P 12 0) (EV 1 k) t)) (EV 2 k) (EV 4 k) (rad (P (EV 2 k) (EV 4 k)) (EV 1 k) q)) 10 = inA P 10 := by rw [inA_pn (by omega), inA_pn (by omega), inA_pn (by omega)]
    rw [sN_rad (by omega), pr_n (a := 10) (b := EV 4 k) (by omega), pr_n (a := 10) (b := EV 4 k) (by omega), pr_n (a := 10) (b := EV 4 k) (by omega), b] at a
    omega
  · rw [pr_n (by omega), pr_n (by omega), pr_n (by omega)]
    have b1 := i5 i f hi hf
    by_cases c : i = 1
    · subst c
      have b1 : P 12 0 f ≤ 100000 * k := b1
      rw [pr_s]
      by_cases d : f = EV 1 k
      · rw [d, rad_s]; rw [d] at b1; omega
      · rw [rad_n d]; omega
    · rw [pr_n (by omega)]
      by_cases c2 : i = 0
      · subst c2
        have b1 : P 11 0 f ≤ 100000 * k := b1
        rw [pr_s]
        by_cases d : f = EV 1 k
        · rw [d, rad_s]; rw [d] at b1; omega
        · rw [rad_n d]; omega
      · rw [pr_n (by omega)]; omega
  · rw [pr_n (by omega), pr_n (by omega), pr_n (by omega), pr_n (by omega), pr_n (by omega)]; omega
  · rw [pr_n (by omega), pr_n (by omega), pr_n (by omega), pr_n (by omega), pr_n (by omega)]
    have := i7 y
    omega
theorem tkS_lt (W : EVk m EV k) (h8 : EV 8 k ≠ 0) (h0 : EV 0 k ≠ 0) : tkS EV k < 10 ∧ (EV 0 k ≠ 2 → tkS EV k < 8) := by
  have w := (W h8).2
  unfold tkS
  split <;> omega
theorem tkN_le : tkN EV k P ≤ EV 5 k ∧ tkN EV k P ≤ sN (P (tkS EV k) (EV 4 k)) 20 := by unfold tkN; omega
theorem tkR_le (hf : f < 20) : tkR EV k P f ≤ P (tkS EV k) (EV 4 k) f := spl_le tkN_le.2 hf
theorem tkR_s : sN (tkR EV k P) 20 = tkN EV k P := spl_s0 tkN_le.2
theorem tkR_f (hf : f < 20) : tkR EV k P f ≤ EV 5 k := by
  have := sN_ge (f := tkR EV k P) hf
  rw [tkR_s] at this
  have := (tkN_le (EV := EV) (k := k) (P := P)).1
  omega
theorem sN_sub {q : Nat → Nat} (h : ∀ f, f < n → q f ≤ r f) : sN (fun f => r f - q f) n + sN q n = sN r n := by
  rw [← sN_add]
  exact sN_ext (fun i hi => by have := h i hi; omega)
/-- what lies is all that is there, less what is taken -/
theorem tk1_s : sN (fun f => P (tkS EV k) (EV 4 k) f - tkR EV k P f) 20 + tkN EV k P = sN (P (tkS EV k) (EV 4 k)) 20 := by
  have := sN_sub (r := P (tkS EV k) (EV 4 k)) (q := tkR EV k P) (n := 20) (fun f hf => tkR_le hf)
  rw [tkR_s] at this
  exact this
theorem tk1_in (h4 : EV 4 k < 60) : inA (tk1 EV k P) (tkS EV k) + tkN EV k P = inA P (tkS EV k) := by
  have a := inA_pr (P := P) (i := tkS EV k) (j := EV 4 k) (r := fun f => P (tkS EV k) (EV 4 k) f - tkR EV k P f) h4
  have b := tk1_s (EV := EV) (k := k) (P := P)
  unfold tk1
  omega
theorem PI.tk (I : PI m ro k P) (m20 : m ≤ 20) (h8 : EV 8 k ≠ 0) (h0 : EV 0 k ≠ 0) (W : EVk m EV k) : PI m ro (k + 1) (tkP EV k P) := by
  obtain ⟨w4, w⟩ := W h8
  obtain ⟨s1, s2⟩ := tkS_lt W h8 h0
  obtain ⟨i1, i2, i3, i4, i5, i6, i7⟩ := I
  have t1 := tk1_in (EV := EV) (k := k) (P := P) w4
  have t2 := tk1_s (EV := EV) (k := k) (P := P)
  have n1 := (tkN_le (EV := EV) (k := k) (P := P)).1
  have z0 : ∀ f, m ≤ f → f < 20 → tkR EV k P f = 0 := fun f hm hf => by
    have := tkR_le (EV := EV) (k := k) (P := P) hf
    have := i2 (tkS EV k) (EV 4 k) f (by omega) hm hf
    omega
  -- one step behind the taking
  have J1 : ∀ e, e < 8 → inA (tk1 EV k P) e ≤ ro e := fun e he => by
    by_cases c : e = tkS EV k
    · rw [c] at he ⊢; have := i1 _ he; omega
    · unfold tk1; rw [inA_pn c]; exact i1 e he
  have J2 : ∀ e j f, e < 15 → m ≤ f → f < 20 → tk1 EV k P e j f = 0 := fun e j f he hm hf => by
    unfold tk1 pr
    split
    · show P (tkS EV k) (EV 4 k) f - _ = 0
      rw [i2 _ _ _ (by omega) hm hf]; omega
    · exact i2 _ _ _ he hm hf
  have J3 : ∀ e y, 8 ≤ e → e < 10 → y < 60 → sN (tk1 EV k P e y) 20 ≤ 100000 * k := fun e y h1 h2 hy => by
    have := i3 e y h1 h2 hy
    by_cases c : e = tkS EV k ∧ y = EV 4 k
    · rw [c.1, c.2] at this ⊢
      unfold tk1
      rw [pr_s]; omega
    · unfold tk1; rw [pr_n c]; exact this
  have J4 : ∀ e, 10 ≤ e → ∀ y, tk1 EV k P e y = P e y := fun e he y => pr_n (by omega)
  have J5 : inA (tk1 EV k P) 10 = inA P 10 := inA_pn (by omega)
  clear t1 t2
  unfold tkP
  have K : PI m ro (k + 1) (tk2 EV k P) := by
    unfold tk2
    split
    · rename_i c
      have w : EV 3 k < 2 ∧ EV 5 k ≤ 100000 := by omega
      have hs : sN (fun f => P (8 + EV 3 k) (EV 4 k) f + tkR EV k P f) 20 = sN (P (8 + EV 3 k) (EV 4 k)) 20 + tkN EV k P := by rw [sN_add, tkR_s]
      have hi := i3 (8 + EV 3 k) (EV 4 k) (by omega) (by omega) w4
      refine ⟨fun e he => by rw [inA_pn (by omega)]; exact J1 e he, fun e j f he hm hf => ?_, fun e y h1 h2 hy => ?_, ?_, fun i f hi hf => ?_, ?_, fun y => ?_⟩
      · unfold pr
        split
        · show P (8 + EV 3 k) (EV 4 k) f + tkR EV k P f = 0
          rw [z0 f hm hf, i2 _ _ _ (by omega) hm hf]
        · exact J2 e j f he hm hf
      · by_cases d : e = 8 + EV 3 k ∧ y = EV 4 k
        · rw [d.1, d.2, pr_s, hs]; omega
        · rw [pr_n d]; have := J3 e y h1 h2 hy; omega
      · rw [inA_pn (by omega), J5]; omega
      · rw [pr_n (by omega), J4 _ (by omega)]; have := i5 i f hi hf; omega
      · rw [pr_n (by omega), J4 _ (by omega)]; omega
      · rw [pr_n (by omega), J4 _ (by omega)]; have := i7 y; omega
    · split
      · rename_i c0 c
        have w : EV 7 k ≤ 1000 ∧ EV 5 k ≤ 100000 := by omega
        refine ⟨fun e he => by rw [inA_pn (by omega), inA_pn (by omega)]; exact J1 e he, fun e j f he hm hf => ?_, fun e y h1 h2 hy => ?_, ?_, fun i f hi hf => ?_, ?_, fun y => ?_⟩
        · rw [pr_n (by omega)]
          unfold pr
          split
          · show P 13 0 f + tkR EV k P f = 0
            rw [z0 f hm hf, i2 _ _ _ (by omega) hm hf]
          · exact J2 e j f he hm hf
        · rw [pr_n (by omega), pr_n (by omega)]; have := J3 e y h1 h2 hy; omega
        · rw [inA_pn (by omega), inA_pn (by omega), J5]; omega
        · rw [pr_n (by omega)]
          have b1 := i5 i f hi hf
          by_cases d : i = 2
          · subst d
            have b1 : P 13 0 f ≤ 100000 * k := b1
            rw [pr_s]
            show P 13 0 f + tkR EV k P f ≤ _
            have := tkR_f (EV := EV) (k := k) (P := P) hf
            omega
          · rw [pr_n (by omega), J4 _ (by omega)]; omega
        · rw [pr_n (by omega), pr_n (by omega), J4 _ (by omega)]; omega
        · have b1 := i7 y
          by_cases d : y = EV 4 k
          · subst d
            rw [pr_s, rad_s]
            have : tkN EV k P * EV 7 k ≤ 100000 * 1000 := Nat.mul_le_mul (by omega) w.1
            omega
          · rw [pr_n (fun q => d q.2), pr_n (by omega), J4 _ (by omega)]; omega
      · rename_i c0 c1
        have w : EV 5 k ≤ 100000 := by omega
        refine ⟨fun e he => by rw [inA_pn (by omega)]; exact J1 e he, fun e j f he hm hf => ?_, fun e y h1 h2 hy => ?_, ?_, fun i f hi hf => ?_, ?_, fun y => ?_⟩
        · unfold pr
          split
          · show P 14 0 f + tkR EV k P f = 0
            rw [z0 f hm hf, i2 _ _ _ (by omega) hm hf]
          · exact J2 e j f he hm hf
        · rw [pr_n (by omega)]; have := J3 e y h1 h2 hy; omega
        · rw [inA_pn (by omega), J5]; omega
        · have b1 := i5 i f hi hf
          by_cases d : i = 3
          · subst d
            have b1 : P 14 0 f ≤ 100000 * k := b1
            rw [pr_s]
            show P 14 0 f + tkR EV k P f ≤ _
            have := tkR_f (EV := EV) (k := k) (P := P) hf
            omega
          · rw [pr_n (by omega), J4 _ (by omega)]; omega
        · rw [pr_n (by omega), J4 _ (by omega)]; omega
        · rw [pr_n (by omega), J4 _ (by omega)]; have := i7 y; omega
  obtain ⟨k1, k2, k3, k4, k5, k6, k7⟩ := K
  refine ⟨fun e he => by rw [inA_pn (by omega), inA_pn (by omega)]; exact k1 e he, fun e j f he hm hf => by rw [pr_n (by omega), pr_n (by omega)]; exact k2 e j f he hm hf, fun e y h1 h2 hy => by rw [pr_n (by omega), pr_n (by omega)]; exact k3 e y h1 h2 hy, by rw [inA_pn (by omega), inA_pn (by omega)]; exact k4, fun i f hi hf => by rw [pr_n (by omega), pr_n (by omega)]; exact k5 i f hi hf, ?_, fun y => by rw [pr_n (by omega), pr_n (by omega)]; exact k7 y⟩
  rw [pr_n (by omega), pr_s, rad_s]
  have : EV 5 k ≤ 100000 := by omega
  omega
theorem PI.up (I : PI m ro k P) : PI m ro (k + 1) P := by
  obtain ⟨i1, i2, i3, i4, i5, i6, i7⟩ := I
  exact ⟨i1, i2, fun e y h1 h2 hy => by have := i3 e y h1 h2 hy; omega, by omega, fun i f hi hf => by have := i5 i f hi hf; omega, by omega, fun y => by have := i7 y; omega⟩
theorem PL_i (m20 : m ≤ 20) (W : ∀ k, k < n → EVk m EV k) : ∀ k, k ≤ n → PI m ro k (PL ro EV k)
  | 0, _ => ⟨fun e _ => by rw [show inA (PL ro EV 0) e = 0 from sN_0 (fun y _ => sN_0 (fun f _ => rfl))]; exact Nat.zero_le _, fun _ _ _ _ _ _ => rfl, fun e y _ _ _ => by rw [show sN (PL ro EV 0 e y) 20 = 0 from sN_0 (fun f _ => rfl)]; exact Nat.zero_le _, by rw [show inA (PL ro EV 0) 10 = 0 from sN_0 (fun y _ => sN_0 (fun f _ => rfl))]; exact Nat.zero_le _, fun _ _ _ _ => Nat.zero_le _, Nat.zero_le _, fun _ => Nat.zero_le _⟩
  | k + 1, h => by
    have ih := PL_i m20 W k (by omega)
    show PI m ro (k + 1) (if EV 8 k = 0 then PL ro EV k else if EV 0 k = 0 then ldP ro EV k (PL ro EV k) else tkP EV k (PL ro EV k))
    split
    · exact ih.up
    · rename_i c
      split
      · rename_i c2; exact ih.ld m20 c c2 (W k (by omega))
      · rename_i c2; exact ih.tk m20 c c2 (W k (by omega))
end

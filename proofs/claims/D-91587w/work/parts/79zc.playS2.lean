/-! ===== plain: what is read of a play ===== -/
section
variable {ro : Nat → Nat} {EV : Nat → Nat → Nat} {k m n y f : Nat} {P : PS}
theorem ldP_o {a b : Nat} (w2 : EV 2 k < 8) (h : a = 8 ∨ a = 9 ∨ 13 ≤ a ∧ a ≠ 17) : ldP ro EV k P a b = P a b := by
  unfold ldP
  rw [pr_n (by omega), pr_n (by omega), pr_n (by omega), pr_n (by omega), pr_n (by omega)]
theorem ldP_17 : ldP ro EV k P 17 0 = pwr (P 17 0) k (ldT ro EV k P) := pr_s
theorem ldP_10 (w2 : EV 2 k < 8) : ldP ro EV k P 10 y = if y = EV 4 k then rad (P 10 y) (EV 1 k) (EV 6 k - ldT ro EV k P) else P 10 y := by
  unfold ldP
  rw [pr_n (by omega)]
  by_cases c : y = EV 4 k
  · rw [if_pos c, c, pr_s]
  · rw [if_neg c, pr_n (fun q => c q.2), pr_n (by omega), pr_n (by omega), pr_n (by omega)]
theorem tkP_18 : tkP EV k P 18 0 = pwr (P 18 0) k (tkN EV k P) := pr_s
theorem tk2_o {a b : Nat} (hS : tkS EV k < 10) (h3 : EV 0 k = 1 → EV 3 k < 2) (h : a = 10 ∨ a = 11 ∨ a = 12 ∨ 17 ≤ a) : tk2 EV k P a b = P a b := by
  unfold tk2 tk1
  split
  · rename_i c; have := h3 c; rw [pr_n (by omega), pr_n (by omega)]
  · split
    · rw [pr_n (by omega), pr_n (by omega), pr_n (by omega)]
    · rw [pr_n (by omega), pr_n (by omega)]
theorem tkP_o {a b : Nat} (hS : tkS EV k < 10) (h3 : EV 0 k = 1 → EV 3 k < 2) (h : a = 10 ∨ a = 11 ∨ a = 12 ∨ a = 17) : tkP EV k P a b = P a b := by
  unfold tkP
  rw [pr_n (by omega), pr_n (by omega)]
  exact tk2_o hS h3 (by omega)
theorem tkP_16 (hS : tkS EV k < 10) (h3 : EV 0 k = 1 → EV 3 k < 2) : tkP EV k P 16 y = if EV 0 k = 2 ∧ y = EV 4 k then rad (P 16 y) 0 (tkN EV k P * EV 7 k) else P 16 y := by
  unfold tkP
  rw [pr_n (by omega), pr_n (by omega)]
  unfold tk2 tk1
  by_cases c1 : EV 0 k = 1
  · have := h3 c1
    rw [if_pos c1, if_neg (by omega), pr_n (by omega), pr_n (by omega)]
  · rw [if_neg c1]
    by_cases c2 : EV 0 k = 2
    · rw [if_pos c2]
      by_cases c3 : y = EV 4 k
      · rw [if_pos ⟨c2, c3⟩, c3, pr_s]
      · rw [if_neg (fun q => c3 q.2), pr_n (fun q => c3 q.2), pr_n (by omega), pr_n (by omega)]
    · rw [if_neg c2, if_neg (fun q => c2 q.1), pr_n (by omega), pr_n (by omega)]
theorem EVk.l (W : EVk m EV k) (h8 : EV 8 k ≠ 0) (h0 : EV 0 k = 0) : EV 2 k < 8 ∧ EV 1 k < m ∧ EV 4 k < 60 := by have := W h8; omega
theorem EVk.t (W : EVk m EV k) (h8 : EV 8 k ≠ 0) (h0 : EV 0 k ≠ 0) : tkS EV k < 10 ∧ (EV 0 k = 1 → EV 3 k < 2) := ⟨(tkS_lt W h8 h0).1, fun c => by have := W h8; omega⟩
theorem PL_17 (W : ∀ k, k < n → EVk m EV k) (h8 : EV 8 k ≠ 0) (h0 : EV 0 k = 0) : ∀ j, j ≤ n → k < j → PL ro EV j 17 0 k = ldT ro EV k (PL ro EV k)
  | 0, _, h => by omega
  | j + 1, hj, h => by
    have ih := PL_17 W h8 h0 j (by omega)
    show (if EV 8 j = 0 then PL ro EV j else if EV 0 j = 0 then ldP ro EV j (PL ro EV j) else tkP EV j (PL ro EV j)) 17 0 k = _
    by_cases c : k = j
    · subst c
      rw [if_neg h8, if_pos h0, ldP_17, pw_s]
    · have ih := ih (by omega)
      split
      · exact ih
      · rename_i c8
        split
        · rw [ldP_17, pw_n c]; exact ih
        · rename_i c0
          have w := (W j (by omega)).t c8 c0
          rw [tkP_o w.1 w.2 (by omega)]; exact ih
theorem PL_18 (W : ∀ k, k < n → EVk m EV k) (h8 : EV 8 k ≠ 0) (h0 : EV 0 k ≠ 0) : ∀ j, j ≤ n → k < j → PL ro EV j 18 0 k = tkN EV k (PL ro EV k)
  | 0, _, h => by omega
  | j + 1, hj, h => by
    have ih := PL_18 W h8 h0 j (by omega)
    show (if EV 8 j = 0 then PL ro EV j else if EV 0 j = 0 then ldP ro EV j (PL ro EV j) else tkP EV j (PL ro EV j)) 18 0 k = _
    by_cases c : k = j
    · subst c
      rw [if_neg h8, if_neg h0, tkP_18, pw_s]
    · have ih := ih (by omega)
      split
      · exact ih
      · rename_i c8
        split
        · rename_i c0
          rw [ldP_o ((W j (by omega)).l c8 c0).1 (by omega)]; exact ih
        · rw [tkP_18, pw_n c]; exact ih
theorem PL_c (W : ∀ k, k < n → EVk m EV k) (hk : k < n) : PL ro EV (k + 1) 16 y 0 = PL ro EV k 16 y 0 + (if EV 8 k ≠ 0 ∧ EV 0 k = 2 ∧ EV 4 k = y then PL ro EV n 18 0 k * EV 7 k else 0) := by
  show (if EV 8 k = 0 then PL ro EV k else if EV 0 k = 0 then ldP ro EV k (PL ro EV k) else tkP EV k (PL ro EV k)) 16 y 0 = _
  by_cases c8 : EV 8 k = 0
  · rw [if_pos c8, if_neg (fun q => q.1 c8)]; rfl
  · rw [if_neg c8]
    by_cases c0 : EV 0 k = 0
    · rw [if_pos c0, if_neg (by omega), ldP_o ((W k hk).l c8 c0).1 (by omega)]; rfl
    · have w := (W k hk).t c8 c0
      rw [if_neg c0, tkP_16 w.1 w.2, PL_18 W c8 c0 n (Nat.le_refl _) hk]
      by_cases c2 : EV 0 k = 2 ∧ y = EV 4 k
      · rw [if_pos c2, if_pos ⟨c8, c2.1, c2.2.symm⟩, rad_s]
      · rw [if_neg c2, if_neg (fun q => c2 ⟨q.2.1, q.2.2.symm⟩)]; rfl
theorem PL_b (W : ∀ k, k < n → EVk m EV k) (hk : k < n) : PL ro EV (k + 1) 10 y f = PL ro EV k 10 y f + (if EV 8 k ≠ 0 ∧ EV 0 k = 0 ∧ EV 4 k = y ∧ EV 1 k = f then EV 6 k - PL ro EV n 17 0 k else 0) := by
  show (if EV 8 k = 0 then PL ro EV k else if EV 0 k = 0 then ldP ro EV k (PL ro EV k) else tkP EV k (PL ro EV k)) 10 y f = _
  by_cases c8 : EV 8 k = 0
  · rw [if_pos c8, if_neg (fun q => q.1 c8)]; rfl
  · rw [if_neg c8]
    by_cases c0 : EV 0 k = 0
    · rw [if_pos c0, ldP_10 ((W k hk).l c8 c0).1, PL_17 W c8 c0 n (Nat.le_refl _) hk]
      by_cases c4 : y = EV 4 k
      · rw [if_pos c4]
        by_cases c1 : f = EV 1 k
        · rw [if_pos ⟨c8, c0, c4.symm, c1.symm⟩, c1, rad_s]
        · rw [if_neg (fun q => c1 q.2.2.2.symm), rad_n c1]; rfl
      · rw [if_neg c4, if_neg (fun q => c4 q.2.2.1.symm)]; rfl
    · have w := (W k hk).t c8 c0
      rw [if_neg c0, tkP_o w.1 w.2 (by omega), if_neg (fun q => c0 q.2.1)]; rfl
theorem sN_one {q : Nat → Nat} {g v : Nat} (hg : g < n) (e : ∀ i, i < n → q i = if i = g then v else 0) : sN q n = v := by
  have a := sN_pw (f := fun _ => 0) (v := v) (n := n) hg
  have b : sN (fun _ => 0) n = 0 := sN_0 (fun _ _ => rfl)
  rw [sN_ext (g := pwr (fun _ => 0) g v) (fun i hi => by rw [e i hi]; rfl)]
  omega
theorem PL_bs (W : ∀ k, k < n → EVk m EV k) (m20 : m ≤ 20) (hk : k < n) : sN (PL ro EV (k + 1) 10 y) 20 = sN (PL ro EV k 10 y) 20 + (if EV 8 k ≠ 0 ∧ EV 0 k = 0 ∧ EV 4 k = y then EV 6 k - PL ro EV n 17 0 k else 0) := by
  rw [sN_ext (g := fun f => PL ro EV k 10 y f + (if EV 8 k ≠ 0 ∧ EV 0 k = 0 ∧ EV 4 k = y ∧ EV 1 k = f then EV 6 k - PL ro EV n 17 0 k else 0)) (fun f _ => PL_b W hk), sN_add]
  congr 1
  by_cases c : EV 8 k ≠ 0 ∧ EV 0 k = 0 ∧ EV 4 k = y
  · have w := (W k hk).l c.1 c.2.1
    rw [if_pos c]
    refine sN_one (g := EV 1 k) (by omega) (fun i _ => ?_)
    by_cases d : i = EV 1 k
    · rw [if_pos d, if_pos ⟨c.1, c.2.1, c.2.2, d.symm⟩]
    · rw [if_neg d, if_neg (fun q => d q.2.2.2.symm)]
  · rw [if_neg c]
    exact sN_0 (fun i _ => if_neg (fun q => c ⟨q.1, q.2.1, q.2.2.1⟩))
theorem PL_bg (W : ∀ k, k < n → EVk m EV k) (hk : k < n) (hy : y < 10) : sN (fun g => PL ro EV (k + 1) 10 (10 * g + y) f) 6 = sN (fun g => PL ro EV k 10 (10 * g + y) f) 6 + (if EV 8 k ≠ 0 ∧ EV 0 k = 0 ∧ EV 4 k % 10 = y ∧ EV 1 k = f then EV 6 k - PL ro EV n 17 0 k else 0) := by
  rw [sN_ext (g := fun g => PL ro EV k 10 (10 * g + y) f + (if EV 8 k ≠ 0 ∧ EV 0 k = 0 ∧ EV 4 k = 10 * g + y ∧ EV 1 k = f then EV 6 k - PL ro EV n 17 0 k else 0)) (fun g _ => PL_b W hk), sN_add]
  congr 1
  by_cases c : EV 8 k ≠ 0 ∧ EV 0 k = 0 ∧ EV 4 k % 10 = y ∧ EV 1 k = f
  · have w := (W k hk).l c.1 c.2.1
    rw [if_pos c]
    refine sN_one (g := EV 4 k / 10) (by omega) (fun i _ => ?_)
    by_cases d : i = EV 4 k / 10
    · rw [if_pos d, if_pos ⟨c.1, c.2.1, by omega, c.2.2.2⟩]
    · rw [if_neg d, if_neg (fun q => d (by omega))]
  · rw [if_neg c]
    exact sN_0 (fun i _ => if_neg (fun q => c ⟨q.1, q.2.1, by omega, q.2.2.2⟩))
end
section
variable {ro : Nat → Nat} {EV : Nat → Nat → Nat} {k m n y e f : Nat} {P : PS}
/-- the rows behind an event -/
theorem ldP_h (w2 : EV 2 k < 8) (he : e < 11) : ldP ro EV k P e y = pr (pr P (EV 2 k) (EV 4 k) (rad (P (EV 2 k) (EV 4 k)) (EV 1 k) (EV 6 k - ldT ro EV k P))) 10 (EV 4 k) (rad (P 10 (EV 4 k)) (EV 1 k) (EV 6 k - ldT ro EV k P)) e y := by
  unfold ldP
  rw [pr_n (by omega)]
  by_cases c : e = 10 ∧ y = EV 4 k
  · rw [c.1, c.2, pr_s, pr_s]
  · rw [pr_n c, pr_n c]
    by_cases c2 : e = EV 2 k ∧ y = EV 4 k
    · rw [c2.1, c2.2, pr_s, pr_s]
    · rw [pr_n c2, pr_n c2, pr_n (by omega), pr_n (by omega)]
theorem ldP_in (w2 : EV 2 k < 8) (w4 : EV 4 k < 60) (w1 : EV 1 k < 20) (he : e < 8) : inA (ldP ro EV k P) e = if e = EV 2 k then inA P e + (EV 6 k - ldT ro EV k P) else inA P e := by
  have q : inA (ldP ro EV k P) e = inA (pr P (EV 2 k) (EV 4 k) (rad (P (EV 2 k) (EV 4 k)) (EV 1 k) (EV 6 k - ldT ro EV k P))) e := by
    refine sN_ext (fun z _ => ?_)
    rw [ldP_h w2 (by omega), pr_n (by omega)]
  rw [q]
  by_cases c : e = EV 2 k
  · rw [if_pos c, c]
    have a := inA_pr (P := P) (i := EV 2 k) (r := rad (P (EV 2 k) (EV 4 k)) (EV 1 k) (EV 6 k - ldT ro EV k P)) w4
    rw [sN_rad w1] at a
    omega
  · rw [if_neg c, inA_pn c]
theorem ldP_11 (w2 : EV 2 k < 8) : ldP ro EV k P 11 0 = rad (P 11 0) (EV 1 k) (EV 5 k - EV 6 k) := by
  unfold ldP
  rw [pr_n (by omega), pr_n (by omega), pr_n (by omega), pr_n (by omega), pr_s]
theorem ldP_12 (w2 : EV 2 k < 8) : ldP ro EV k P 12 0 = rad (P 12 0) (EV 1 k) (ldT ro EV k P) := by
  unfold ldP
  rw [pr_n (by omega), pr_n (by omega), pr_n (by omega), pr_s]
theorem tkP_h (hS : tkS EV k < 10) (he : e < 11) : tkP EV k P e y = if EV 0 k = 1 then pr (tk1 EV k P) (8 + EV 3 k) (EV 4 k) (fun f => P (8 + EV 3 k) (EV 4 k) f + tkR EV k P f) e y else tk1 EV k P e y := by
  unfold tkP tk2
  rw [pr_n (by omega), pr_n (by omega)]
  by_cases c : EV 0 k = 1
  · rw [if_pos c, if_pos c]
  · rw [if_neg c, if_neg c]
    split
    · rw [pr_n (by omega), pr_n (by omega)]
    · rw [pr_n (by omega)]
theorem tkP_in (hS : tkS EV k < 10) (w4 : EV 4 k < 60) (he : e < 8) : inA (tkP EV k P) e = if e = tkS EV k then inA P e - tkN EV k P else inA P e := by
  have q : inA (tkP EV k P) e = inA (tk1 EV k P) e := by
    refine sN_ext (fun z _ => ?_)
    rw [tkP_h hS (by omega)]
    split
    · rw [pr_n (by omega)]
    · rfl
  rw [q]
  by_cases c : e = tkS EV k
  · rw [if_pos c, c]
    have := tk1_in (EV := EV) (k := k) (P := P) w4
    omega
  · rw [if_neg c]
    unfold tk1
    exact inA_pn c
theorem tkP_13 (hS : tkS EV k < 10) (h3 : EV 0 k = 1 → EV 3 k < 2) : tkP EV k P 13 0 = if EV 0 k = 2 then (fun f => P 13 0 f + tkR EV k P f) else P 13 0 := by
  unfold tkP tk2 tk1
  rw [pr_n (by omega), pr_n (by omega)]
  by_cases c : EV 0 k = 1
  · have := h3 c
    rw [if_pos c, if_neg (by omega), pr_n (by omega), pr_n (by omega)]
  · rw [if_neg c]
    split
    · rw [pr_n (by omega), pr_s]
    · rw [pr_n (by omega), pr_n (by omega)]
theorem tkP_14 (hS : tkS EV k < 10) (h3 : EV 0 k = 1 → EV 3 k < 2) (h0 : EV 0 k = 1 ∨ EV 0 k = 2 ∨ EV 0 k = 3) : tkP EV k P 14 0 = if EV 0 k = 3 then (fun f => P 14 0 f + tkR EV k P f) else P 14 0 := by
  unfold tkP tk2 tk1
  rw [pr_n (by omega), pr_n (by omega)]
  by_cases c : EV 0 k = 1
  · have := h3 c
    rw [if_pos c, if_neg (by omega), pr_n (by omega), pr_n (by omega)]
  · rw [if_neg c]
    split
    · rw [if_neg (by omega), pr_n (by omega), pr_n (by omega), pr_n (by omega)]
    · rw [if_pos (by omega), pr_s]
theorem tkP_15 : tkP EV k P 15 0 = rad (P 15 0) 0 (EV 5 k - tkN EV k P) := by
  unfold tkP
  rw [pr_n (by omega), pr_s]
end

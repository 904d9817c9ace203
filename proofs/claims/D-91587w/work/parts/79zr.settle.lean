/-! ===== plain: what is settled ===== -/
def dN (a b : Nat) : Int64 := lN a - lN b
/-- by grades: lf what is left of what came, fi the first payment, br what was brought -/
def stA (lf : Nat → Nat) (br : Nat → Nat → Nat) (n f : Nat) : Nat := sN (fun g => spl 20 (br g) (lf g) f) n
def stB (fi : Nat → Nat) (br : Nat → Nat → Nat) (n f : Nat) : Nat := sN (fun g => fi g * br g f) n
section
variable {a b c d n m f : Nat} {lf fi : Nat → Nat} {br : Nat → Nat → Nat}
theorem dN_add : dN a b + dN c d = dN (a + c) (b + d) := by
  unfold dN
  rw [← lN_add, ← lN_add]
  simp only [Int64.sub_eq_add_neg, Int64.neg_add]
  ac_rfl
theorem dN_s : lN a - lN b = dN a b := rfl
theorem dN_0 : dN 0 0 = 0 := by decide
theorem dN_neg : - dN a b = dN b a := by
  unfold dN
  rw [Int64.neg_sub]
theorem dN_i (ha : a < 4611686018427387904) (hb : b < 4611686018427387904) : (dN a b).toInt = (a : Int) - b := by
  unfold dN
  rw [Int64.toInt_sub, lN_p ha, lN_p hb]
  exact Int.bmod_eq_of_le (by omega) (by omega)
theorem jMax_d (ha : a < 4611686018427387904) (hb : b < 4611686018427387904) : jMax 0 (dN a b) = lN (a - b) := by
  rw [i6_eq, lN_p (by omega)]
  unfold jMax
  split
  · rename_i c
    rw [i6_lt, dN_i ha hb] at c
    have c : (0 : Int) < (a : Int) - b := c
    rw [dN_i ha hb]; omega
  · rename_i c
    rw [i6_lt, dN_i ha hb] at c
    have c : ¬ (0 : Int) < (a : Int) - b := c
    show (0 : Int) = _; omega
theorem spl_0 {w : Nat → Nat} : spl n w 0 f = 0 := by
  unfold spl
  split
  · rfl
  · have e : g0 w (sN w n) 0 = fun _ => 0 := funext fun i => by unfold g0; rw [Nat.zero_mul, Nat.zero_div]
    rw [Nat.zero_sub, e]; rfl
theorem spl_b {w : Nat → Nat} {s : Nat} (hf : f < n) : spl n w s f ≤ s := by
  by_cases c : sN w n = 0
  · unfold spl; rw [if_pos c]; exact Nat.zero_le _
  · have := sN_ge (f := spl n w s) hf
    rw [spl_sum c] at this; exact this
theorem sN_swap {F : Nat → Nat → Nat} : ∀ a, sN (fun f => sN (fun g => F g f) a) b = sN (fun g => sN (F g) b) a
  | 0 => sN_0 (fun _ _ => rfl)
  | a + 1 => by
    show sN (fun f => sN (fun g => F g f) a + F a f) b = sN (fun g => sN (F g) b) a + sN (F a) b
    rw [sN_add, sN_swap a]
theorem sN_pick {F : Nat → Nat} {y : Nat} (hy : y < 10) : ∀ n, sN (fun g => F (10 * g + y)) n ≤ sN F (10 * n)
  | 0 => Nat.le_refl _
  | n + 1 => by
    rw [show 10 * (n + 1) = 10 * n + 10 by omega, sN_app (f := F) (a := 10 * n) 10]
    have ih := sN_pick (F := F) hy n
    have q := sN_ge (f := fun i => F (10 * n + i)) (n := 10) hy
    show sN (fun g => F (10 * g + y)) n + F (10 * n + y) ≤ _
    have q : F (10 * n + y) ≤ sN (fun i => F (10 * n + i)) 10 := q
    omega
theorem sN_c {F : Nat → Nat} {C : Nat} (h : ∀ i, i < n → F i ≤ C) : sN F n ≤ n * C := by
  induction n with
  | zero => exact Nat.zero_le _
  | succ n ih =>
    have := ih (fun i hi => h i (by omega))
    have := h n (by omega)
    show sN F n + F n ≤ (n + 1) * C
    rw [Nat.succ_mul]; omega
/-- bounds -/
theorem stA_b {C : Nat} (h : ∀ g, g < n → lf g ≤ C) (hf : f < 20) : stA lf br n f ≤ n * C := sN_c (fun g hg => Nat.le_trans (spl_b hf) (h g hg))
theorem stB_all (hfi : ∀ g, g < n → fi g ≤ 1000) : sN (stB fi br n) 20 ≤ 1000 * sN (fun g => sN (br g) 20) n := by
  show sN (fun f => sN (fun g => fi g * br g f) n) 20 ≤ _
  rw [sN_swap n, ← sN_mul]
  refine sN_le (fun g hg => ?_)
  show sN (fun f => fi g * br g f) 20 ≤ _
  rw [sN_mul]
  exact Nat.mul_le_mul_right _ (hfi g hg)
theorem stA_z (h : ∀ g, g < n → ∀ f, m ≤ f → f < 20 → br g f = 0) (hm : m ≤ 20) (h1 : m ≤ f) (h2 : f < 20) : stA lf br n f = 0 := sN_0 (fun g hg => by
  by_cases c : sN (br g) 20 = 0
  · unfold spl; rw [if_pos c]
  · have e := spl_sum (n := 20) (w := br g) (sum := lf g) c
    rw [spl_cut hm (h g hg)] at e ⊢
    have e2 := spl_sum (n := m) (w := br g) (sum := lf g) (by rw [← sN_cut hm (h g hg)]; exact c)
    have e3 : sN (spl m (br g) (lf g)) 20 = sN (spl m (br g) (lf g)) m + sN (fun i => spl m (br g) (lf g) (m + i)) (20 - m) := by
      have := sN_app (f := spl m (br g) (lf g)) (a := m) (20 - m)
      rw [show m + (20 - m) = 20 by omega] at this; exact this
    have e4 := sN_ge (f := fun i => spl m (br g) (lf g) (m + i)) (n := 20 - m) (i := f - m) (by omega)
    have e4 : spl m (br g) (lf g) (m + (f - m)) ≤ _ := e4
    rw [show m + (f - m) = f by omega] at e4
    omega)
theorem stB_z (h : ∀ g, g < n → br g f = 0) : stB fi br n f = 0 := sN_0 (fun g hg => by rw [h g hg, Nat.mul_zero])
end
/-- of a state: what came, the first payment, what was brought, by grades -/
def cmS (S : MS) (tx : Nat → List Nat × List PD) (kn : Int32) (yr g : Nat) : Nat := PLS S tx kn (nV S) 16 (10 * g + yr) 0
def brG (S : MS) (tx : Nat → List Nat × List PD) (kn : Int32) (yr g : Nat) : Nat → Nat := PLS S tx kn (nV S) 10 (10 * g + yr)
def fiS (S : MS) (tx : Nat → List Nat × List PD) (yr g : Nat) : Nat := (ofY S tx 6605428 g yr).toInt.toNat
def hdS (S : MS) (tx : Nat → List Nat × List PD) (kn : Int32) (yr g : Nat) : Nat := cmS S tx kn yr g * (ofY S tx 267652 g yr).toInt.toNat / 1000
def lfS (S : MS) (tx : Nat → List Nat × List PD) (kn : Int32) (yr g : Nat) : Nat := cmS S tx kn yr g - hdS S tx kn yr g
def stAS (S : MS) (tx : Nat → List Nat × List PD) (kn : Int32) (yr n f : Nat) : Nat := stA (lfS S tx kn yr) (brG S tx kn yr) n f
def stBS (S : MS) (tx : Nat → List Nat × List PD) (kn : Int32) (yr n f : Nat) : Nat := stB (fiS S tx yr) (brG S tx kn yr) n f
def blS (S : MS) (tx : Nat → List Nat × List PD) (kn : Int32) (yr : Nat) : Nat := sN (stBS S tx kn yr 6) 20 - sN (stAS S tx kn yr 6) 20
def sdS (S : MS) (tx : Nat → List Nat × List PD) (kn : Int32) (yr : Nat) : Nat := blS S tx kn yr * (ofY S tx 20579780 0 yr).toInt.toNat / 1000
def owW (S : MS) (tx : Nat → List Nat × List PD) (kn : Int32) (yr f : Nat) : Nat := stBS S tx kn yr 6 f - stAS S tx kn yr 6 f
def owS (S : MS) (tx : Nat → List Nat × List PD) (kn : Int32) (yr : Nat) : Nat → Nat := spl 20 (owW S tx kn yr) (blS S tx kn yr - sdS S tx kn yr)
theorem wrd_stand : wrd 20579780 := ⟨fun j => [115, 116, 97, 110, 100].getD j 0, 0, 5, by decide, by decide, by decide, by decide⟩
theorem cst_stand : lN (n256 8 20579780) = (495873781348 : Int64) := by decide
section
variable {S : MS} {tx : Nat → List Nat × List PD} {kn : Int32} {yr g f w gr : Nat}
theorem ofY_v : ofY S tx w gr yr = lN (ofY S tx w gr yr).toInt.toNat ∧ (ofY S tx w gr yr).toInt.toNat ≤ 1000 := by
  obtain ⟨o, h1, h2⟩ := ofY_n (S := S) (tx := tx) (w := w) (gr := gr) (yr := yr)
  rw [h2, lN_p (by omega)]
  exact ⟨by congr 1, by omega⟩
theorem cmS_b (W : WF S) (B : WB S) : cmS S tx kn yr g ≤ 12000000000 := by
  have := (PLS_i (tx := tx) (kn := kn) W B (Nat.le_refl (nV S))).2.2.2.2.2.2 (10 * g + yr)
  have := B.2.2
  unfold cmS
  omega
theorem div1000 {a o : Nat} (h : o ≤ 1000) : a * o / 1000 ≤ a := by
  have : a * o ≤ a * 1000 := Nat.mul_le_mul_left _ h
  omega
theorem hdS_v (W : WF S) (B : WB S) : lN (cmS S tx kn yr g) * ofY S tx 267652 g yr / (1000 : Int64) = lN (hdS S tx kn yr g) ∧ hdS S tx kn yr g ≤ cmS S tx kn yr g := by
  obtain ⟨h1, h2⟩ := ofY_v (S := S) (tx := tx) (w := 267652) (gr := g) (yr := yr)
  have b := cmS_b (tx := tx) (kn := kn) (yr := yr) (g := g) W B
  unfold hdS
  refine ⟨?_, div1000 h2⟩
  have m : cmS S tx kn yr g * (ofY S tx 267652 g yr).toInt.toNat ≤ 12000000000 * 1000 := Nat.mul_le_mul b h2
  generalize (ofY S tx 267652 g yr).toInt.toNat = o at *
  rw [h1, lN_mul, show (1000 : Int64) = lN 1000 from rfl, pk_lDiv (by omega) (by decide) (by decide)]
theorem fiS_v : ofY S tx 6605428 g yr = lN (fiS S tx yr g) ∧ fiS S tx yr g ≤ 1000 := ofY_v
theorem br_all (W : WF S) (B : WB S) (hy : yr < 10) : sN (fun g => sN (brG S tx kn yr g) 20) 6 ≤ 1200000 := by
  have i := (PLS_i (tx := tx) (kn := kn) W B (Nat.le_refl (nV S))).2.2.2.1
  have q := sN_pick (F := fun y => sN (PLS S tx kn (nV S) 10 y) 20) hy 6
  have := B.2.2
  have q : sN (fun g => sN (brG S tx kn yr g) 20) 6 ≤ inA (PLS S tx kn (nV S)) 10 := q
  omega
theorem brf_b (W : WF S) (B : WB S) (hy : yr < 10) (hg : g < 6) (hf : f < 20) : sN (brG S tx kn yr g) 20 ≤ 1200000 ∧ brG S tx kn yr g f ≤ 1200000 := by
  have a := br_all (tx := tx) (kn := kn) W B hy
  have b := sN_ge (f := fun g => sN (brG S tx kn yr g) 20) hg
  have c := sN_ge (f := brG S tx kn yr g) hf
  have b : sN (brG S tx kn yr g) 20 ≤ _ := b
  omega
theorem br_z (W : WF S) (B : WB S) (h1 : nF S ≤ f) (h2 : f < 20) : brG S tx kn yr g f = 0 := (PLS_i (tx := tx) (kn := kn) W B (Nat.le_refl (nV S))).2.1 10 _ f (by omega) h1 h2
theorem stBS_b (W : WF S) (B : WB S) (hy : yr < 10) : sN (stBS S tx kn yr 6) 20 ≤ 1200000000 := by
  have a := br_all (tx := tx) (kn := kn) W B hy
  have b := stB_all (n := 6) (fi := fiS S tx yr) (br := brG S tx kn yr) (fun g _ => fiS_v.2)
  have b : sN (stBS S tx kn yr 6) 20 ≤ _ := b
  omega
theorem stAS_b (W : WF S) (B : WB S) (hf : f < 20) : stAS S tx kn yr 6 f ≤ 72000000000 := by
  have := stA_b (lf := lfS S tx kn yr) (br := brG S tx kn yr) (n := 6) (f := f) (C := 12000000000) (fun g _ => Nat.le_trans (Nat.sub_le _ _) (cmS_b W B)) hf
  exact Nat.le_trans this (by decide)
theorem stAS_all (W : WF S) (B : WB S) : sN (stAS S tx kn yr 6) 20 ≤ 1440000000000 := by
  have := sN_c (F := stAS S tx kn yr 6) (n := 20) (C := 72000000000) (fun f hf => stAS_b W B hf)
  exact Nat.le_trans this (by decide)
theorem blS_b (W : WF S) (B : WB S) (hy : yr < 10) : blS S tx kn yr ≤ 1200000000 := by
  have := stBS_b (tx := tx) (kn := kn) W B hy
  unfold blS; omega
theorem sdS_v (W : WF S) (B : WB S) (hy : yr < 10) : lN (blS S tx kn yr) * ofY S tx 20579780 0 yr / (1000 : Int64) = lN (sdS S tx kn yr) ∧ sdS S tx kn yr ≤ blS S tx kn yr := by
  obtain ⟨h1, h2⟩ := ofY_v (S := S) (tx := tx) (w := 20579780) (gr := 0) (yr := yr)
  have b := blS_b (tx := tx) (kn := kn) W B hy
  unfold sdS
  refine ⟨?_, div1000 h2⟩
  have m : blS S tx kn yr * (ofY S tx 20579780 0 yr).toInt.toNat ≤ 1200000000 * 1000 := Nat.mul_le_mul b h2
  generalize (ofY S tx 20579780 0 yr).toInt.toNat = o at *
  rw [h1, lN_mul, show (1000 : Int64) = lN 1000 from rfl, pk_lDiv (by omega) (by decide) (by decide)]
theorem owW_b (W : WF S) (B : WB S) (hy : yr < 10) (hf : f < 20) : owW S tx kn yr f ≤ 1200000000 := by
  have := stBS_b (tx := tx) (kn := kn) W B hy
  have := sN_ge (f := stBS S tx kn yr 6) hf
  unfold owW; omega
theorem owW_all (W : WF S) (B : WB S) (hy : yr < 10) : sN (owW S tx kn yr) 20 ≤ 24000000000 := by
  have := sN_c (F := owW S tx kn yr) (n := 20) (C := 1200000000) (fun f hf => owW_b W B hy hf)
  exact Nat.le_trans this (by decide)
theorem ow_p (W : WF S) (B : WB S) (hy : yr < 10) (hf : f < 20) : (blS S tx kn yr - sdS S tx kn yr) * owW S tx kn yr f < 4611686018427387904 := by
  have a := blS_b (tx := tx) (kn := kn) W B hy
  have b := owW_b (tx := tx) (kn := kn) W B hy hf
  have : (blS S tx kn yr - sdS S tx kn yr) * owW S tx kn yr f ≤ 1200000000 * 1200000000 := Nat.mul_le_mul (by omega) b
  omega
theorem lf_p (W : WF S) (B : WB S) (hy : yr < 10) (hg : g < 6) (hf : f < 20) : lfS S tx kn yr g * brG S tx kn yr g f < 4611686018427387904 := by
  have a := cmS_b (tx := tx) (kn := kn) (yr := yr) (g := g) W B
  have b := (brf_b (tx := tx) (kn := kn) W B hy hg hf).2
  have : lfS S tx kn yr g * brG S tx kn yr g f ≤ 12000000000 * 1200000 := Nat.mul_le_mul (by unfold lfS; omega) b
  omega
theorem stAS_z (W : WF S) (B : WB S) (h1 : nF S ≤ f) (h2 : f < 20) : stAS S tx kn yr 6 f = 0 ∧ stBS S tx kn yr 6 f = 0 := ⟨stA_z (m := nF S) (fun g _ f a b => br_z W B a b) B.1 h1 h2, stB_z (fun g _ => br_z W B h1 h2)⟩
end

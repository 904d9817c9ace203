/-! ===== layouts: where a constructor lays what it makes ===== -/
set_option maxRecDepth 100000
theorem vp_lt {i : Int32} {n : Nat} (h : vp_in i n) : i.toNatClampNeg < n := Nat.not_le.mp fun q => h (Or.inr q)
theorem ma_ks_n0 {h : ah_T} {a : Nat} {cs : List Nat} (k : ma_ks h a cs) : ah_kd h a ≠ 0 := by
  obtain ⟨ci, -, h2⟩ := k
  omega
/-- rows (where, its kind, field, what it holds, that one's kind and length), all from a -/
def LY (T : List (Nat × Nat × Nat × Nat × Nat × Nat)) (c : Nat) (h : ah_T) (a : Nat) : Prop := ah_kd h a = c ∧ ∀ q ∈ T, ah_kd h (a + q.1) = q.2.1 ∧ ah_R h (a + q.1) q.2.2.1 = a + q.2.2.2.1 ∧ ah_kd h (a + q.2.2.2.1) = q.2.2.2.2.1 ∧ ah_ln h (a + q.2.2.2.1) = q.2.2.2.2.2
def LYok (T : List (Nat × Nat × Nat × Nat × Nat × Nat)) : Bool := T.all fun q => decide (0 < q.2.1) && !ma_mut q.2.1 q.2.2.1 && decide (0 < q.2.2.2.1) && decide (0 < q.2.2.2.2.1)
theorem LY.ext {T : List (Nat × Nat × Nat × Nat × Nat × Nat)} {c : Nat} {h h' : ah_T} {a : Nat} (L : LY T c h a) (x : ah_ext h h') (hc : 0 < c) (hT : LYok T = true) : LY T c h' a := by
  refine ⟨by rw [(x.2 a (by rw [L.1]; omega)).1]; exact L.1, fun q hq => ?_⟩
  obtain ⟨h1, h2, h3, h4⟩ := L.2 q hq
  have ht := List.all_eq_true.mp hT q hq
  simp only [Bool.and_eq_true, decide_eq_true_eq, Bool.not_eq_true'] at ht
  obtain ⟨⟨⟨t1, t2⟩, t3⟩, t4⟩ := ht
  have x1 := x.2 (a + q.1) (by rw [h1]; omega)
  have x2 := x.2 (a + q.2.2.2.1) (by rw [h3]; omega)
  exact ⟨x1.1.trans h1, (x1.2.2 _ (by rw [h2]; omega) (by rw [h1]; exact t2)).trans h2, x2.1.trans h3, x2.2.1.trans h4⟩
theorem ah_ext.rr {h h' : ah_T} (x : ah_ext h h') {a k n m : Nat} (hk : ah_kd h a = n) (hn : 0 < n) (hm : ma_mut n k = false) (hr : ah_R h a k = m) (h0 : 0 < m) : ah_R h' a k = m := by
  rw [(x.2 a (by omega)).2.2 k (by omega) (by rw [hk]; exact hm)]; exact hr
theorem ah_ext.kk {h h' : ah_T} (x : ah_ext h h') {a n : Nat} (hk : ah_kd h a = n) (hn : 0 < n) : ah_kd h' a = n := by rw [(x.2 a (by omega)).1]; exact hk
theorem ah_ext.ll {h h' : ah_T} (x : ah_ext h h') {a n m : Nat} (hk : ah_kd h a = n) (hn : 0 < n) (hl : ah_ln h a = m) : ah_ln h' a = m := by rw [(x.2 a (by omega)).2.1]; exact hl
def lyT8 : List (Nat × Nat × Nat × Nat × Nat × Nat) := [(0, 9, 2, 1, 40, 4), (0, 9, 3, 2, 40, 4), (0, 9, 4, 3, 41, 160), (0, 9, 11, 4, 40, 20), (0, 9, 12, 5, 40, 20), (0, 9, 13, 6, 40, 20), (0, 9, 14, 7, 40, 8), (0, 9, 15, 8, 40, 8), (0, 9, 16, 9, 40, 120), (0, 9, 17, 10, 40, 120), (0, 9, 18, 11, 40, 120), (0, 9, 19, 12, 40, 120), (0, 9, 20, 13, 40, 120), (0, 9, 21, 14, 40, 120), (0, 9, 22, 15, 40, 120), (0, 9, 23, 16, 40, 120), (0, 9, 24, 17, 40, 120), (0, 9, 25, 18, 40, 120), (0, 9, 26, 19, 40, 100), (0, 9, 27, 20, 40, 100), (0, 9, 28, 21, 40, 100), (0, 9, 29, 22, 40, 100), (0, 9, 30, 23, 40, 9600), (0, 9, 31, 24, 40, 2400), (0, 9, 32, 25, 40, 120), (0, 9, 33, 26, 40, 120), (0, 9, 34, 27, 40, 120), (0, 9, 35, 28, 40, 20), (0, 9, 36, 29, 40, 20), (0, 9, 37, 30, 40, 20), (0, 9, 38, 31, 40, 20), (0, 9, 40, 32, 41, 20), (0, 9, 41, 33, 41, 20), (0, 9, 42, 34, 41, 20), (0, 9, 43, 35, 42, 500), (0, 9, 59, 36, 40, 4), (0, 9, 60, 37, 40, 4), (0, 9, 61, 38, 40, 44), (0, 9, 62, 39, 40, 4400), (0, 9, 63, 40, 40, 11), (0, 9, 64, 41, 40, 1100), (0, 9, 65, 42, 41, 40), (0, 9, 66, 43, 41, 10), (0, 9, 67, 44, 41, 600), (0, 9, 68, 45, 41, 11), (0, 9, 69, 46, 41, 10), (0, 9, 70, 47, 44, 600), (0, 9, 71, 48, 44, 10), (0, 9, 73, 49, 41, 20), (0, 9, 74, 50, 41, 20), (0, 9, 75, 51, 41, 20), (0, 9, 76, 52, 41, 20), (0, 9, 79, 53, 40, 20), (0, 9, 80, 54, 40, 20), (0, 9, 81, 55, 40, 20), (0, 9, 82, 56, 40, 60), (0, 9, 83, 57, 40, 60), (0, 9, 84, 58, 40, 60), (0, 9, 85, 59, 40, 60), (0, 9, 86, 60, 40, 520), (0, 9, 87, 61, 44, 200), (0, 9, 91, 62, 40, 20), (0, 9, 92, 63, 40, 6), (0, 9, 93, 64, 41, 6), (0, 9, 94, 65, 41, 6), (0, 9, 95, 66, 41, 20), (0, 9, 96, 67, 40, 8), (0, 9, 97, 68, 40, 8), (0, 9, 98, 69, 40, 20), (0, 9, 99, 70, 40, 5376), (0, 9, 100, 71, 40, 5), (0, 9, 101, 72, 40, 4), (0, 9, 102, 73, 40, 20), (0, 9, 103, 74, 40, 20), (0, 9, 104, 75, 40, 11), (0, 9, 105, 76, 40, 11), (0, 9, 106, 77, 40, 8)]
def LY8 (h : ah_T) (a : Nat) : Prop := LY lyT8 9 h a
theorem LY8.ext {h h' : ah_T} {a : Nat} (L : LY8 h a) (x : ah_ext h h') : LY8 h' a := LY.ext L x (by decide) (by decide)
def lyT2 : List (Nat × Nat × Nat × Nat × Nat × Nat) := [(0, 3, 0, 1, 41, 20), (0, 3, 1, 2, 41, 20), (0, 3, 2, 3, 41, 20)]
def LY2 (h : ah_T) (a : Nat) : Prop := LY lyT2 3 h a
theorem LY2.ext {h h' : ah_T} {a : Nat} (L : LY2 h a) (x : ah_ext h h') : LY2 h' a := LY.ext L x (by decide) (by decide)
def lyT3 : List (Nat × Nat × Nat × Nat × Nat × Nat) := [(0, 4, 0, 1, 40, 20)]
def LY3 (h : ah_T) (a : Nat) : Prop := LY lyT3 4 h a
theorem LY3.ext {h h' : ah_T} {a : Nat} (L : LY3 h a) (x : ah_ext h h') : LY3 h' a := LY.ext L x (by decide) (by decide)
def lyT5 : List (Nat × Nat × Nat × Nat × Nat × Nat) := [(0, 6, 0, 1, 42, 500)]
def LY5 (h : ah_T) (a : Nat) : Prop := LY lyT5 6 h a
theorem LY5.ext {h h' : ah_T} {a : Nat} (L : LY5 h a) (x : ah_ext h h') : LY5 h' a := LY.ext L x (by decide) (by decide)
def lyT6 : List (Nat × Nat × Nat × Nat × Nat × Nat) := [(0, 7, 0, 1, 41, 11), (0, 7, 1, 2, 41, 10), (0, 7, 2, 3, 44, 10)]
def LY6 (h : ah_T) (a : Nat) : Prop := LY lyT6 7 h a
theorem LY6.ext {h h' : ah_T} {a : Nat} (L : LY6 h a) (x : ah_ext h h') : LY6 h' a := LY.ext L x (by decide) (by decide)
def lyT17 : List (Nat × Nat × Nat × Nat × Nat × Nat) := [(0, 16, 0, 1, 41, 10), (0, 16, 1, 2, 50, 10)]
def LY17 (h : ah_T) (a : Nat) : Prop := LY lyT17 16 h a
theorem LY17.ext {h h' : ah_T} {a : Nat} (L : LY17 h a) (x : ah_ext h h') : LY17 h' a := LY.ext L x (by decide) (by decide)
def lyT1 : List (Nat × Nat × Nat × Nat × Nat × Nat) := [(0, 2, 0, 1, 53, 8), (0, 2, 1, 58, 53, 2), (0, 2, 2, 73, 52, 6), (0, 2, 3, 80, 55, 6), (0, 2, 4, 87, 40, 8), (0, 2, 5, 88, 40, 8), (0, 2, 6, 89, 40, 20), (0, 2, 7, 90, 40, 20), (0, 2, 8, 91, 40, 20), (0, 2, 9, 92, 40, 20), (93, 3, 0, 94, 41, 20), (93, 3, 1, 95, 41, 20), (93, 3, 2, 96, 41, 20), (0, 2, 10, 93, 3, 0)]
def LYA1 (h : ah_T) (a : Nat) : Prop := LY lyT1 2 h a
theorem LYA1.ext {h h' : ah_T} {a : Nat} (L : LYA1 h a) (x : ah_ext h h') : LYA1 h' a := LY.ext L x (by decide) (by decide)
def lyT0 : List (Nat × Nat × Nat × Nat × Nat × Nat) := [(0, 1, 0, 1, 45, 4), (0, 1, 1, 2, 46, 20), (0, 1, 2, 3, 47, 8), (0, 1, 3, 4, 48, 120), (0, 1, 4, 5, 40, 100), (0, 1, 5, 6, 40, 100), (0, 1, 6, 7, 40, 100), (0, 1, 7, 8, 40, 100), (9, 2, 0, 10, 53, 8), (9, 2, 1, 67, 53, 2), (9, 2, 2, 82, 52, 6), (9, 2, 3, 89, 55, 6), (9, 2, 4, 96, 40, 8), (9, 2, 5, 97, 40, 8), (9, 2, 6, 98, 40, 20), (9, 2, 7, 99, 40, 20), (9, 2, 8, 100, 40, 20), (9, 2, 9, 101, 40, 20), (102, 3, 0, 103, 41, 20), (102, 3, 1, 104, 41, 20), (102, 3, 2, 105, 41, 20), (9, 2, 10, 102, 3, 0), (0, 1, 8, 9, 2, 0), (1426, 3, 0, 1427, 41, 20), (1426, 3, 1, 1428, 41, 20), (1426, 3, 2, 1429, 41, 20), (0, 1, 9, 1426, 3, 0), (0, 1, 10, 1430, 5, 0), (1431, 6, 0, 1432, 42, 500), (1431, 6, 8, 1430, 5, 0), (0, 1, 11, 1431, 6, 0), (1433, 7, 0, 1434, 41, 11), (1433, 7, 1, 1435, 41, 10), (1433, 7, 2, 1436, 44, 10), (1433, 7, 3, 1430, 5, 0), (0, 1, 12, 1433, 7, 0), (0, 1, 13, 1437, 49, 4), (0, 1, 24, 1438, 41, 20), (0, 1, 25, 1439, 41, 20), (0, 1, 26, 1440, 41, 20), (0, 1, 29, 1441, 40, 8), (0, 1, 30, 1442, 40, 8), (0, 1, 31, 1443, 40, 60), (0, 1, 32, 1444, 40, 60), (0, 1, 33, 1445, 40, 60), (0, 1, 34, 1446, 40, 60), (0, 1, 35, 1447, 40, 520), (0, 1, 39, 1448, 40, 120), (0, 1, 40, 1449, 40, 20), (0, 1, 41, 1450, 40, 6), (0, 1, 42, 1451, 40, 8), (0, 1, 43, 1452, 40, 8), (0, 1, 44, 1453, 40, 20), (0, 1, 45, 1454, 54, 21), (0, 1, 47, 1476, 54, 5), (0, 1, 48, 1482, 54, 5), (0, 1, 49, 1488, 40, 5), (0, 1, 50, 1489, 40, 4), (0, 1, 51, 1490, 40, 5), (0, 1, 52, 1491, 40, 4), (0, 1, 53, 1492, 40, 5), (0, 1, 54, 1493, 40, 4)]
def LYA0 (h : ah_T) (a : Nat) : Prop := LY lyT0 1 h a
theorem LYA0.ext {h h' : ah_T} {a : Nat} (L : LYA0 h a) (x : ah_ext h h') : LYA0 h' a := LY.ext L x (by decide) (by decide)
/-- n rows of m places each, of kind kd, behind the array at a: row i at a + 1 + i -/
def GR2 (h : ah_T) (a n m kd top : Nat) : Prop := ah_kd h a = top ∧ ∀ i, i < n → ah_R h a i = a + (1 + i) ∧ ah_kd h (a + (1 + i)) = kd ∧ ah_ln h (a + (1 + i)) = m
theorem GR2.ext {h h' : ah_T} {a n m kd top : Nat} (L : GR2 h a n m kd top) (x : ah_ext h h') (h1 : 0 < kd) (h2 : 0 < top) (h3 : ∀ k, ma_mut top k = false) : GR2 h' a n m kd top := by
  refine ⟨x.kk L.1 h2, fun i hi => ?_⟩
  obtain ⟨g1, g2, g3⟩ := L.2 i hi
  exact ⟨x.rr L.1 h2 (h3 i) g1 (by omega), x.kk g2 h1, x.ll g2 h1 g3⟩
/-- rows g of 10 heaps behind the array at a: the heap (g, y) at b + 22 (10 g + y) -/
def GRh (h : ah_T) (a b : Nat) : Prop := GR2 h a 6 10 51 52 ∧ ∀ g, g < 6 → ∀ y, y < 10 → ah_R h (a + (1 + g)) y = b + 22 * (10 * g + y) ∧ LY3 h (b + 22 * (10 * g + y))
theorem GRh.ext {h h' : ah_T} {a b : Nat} (L : GRh h a b) (x : ah_ext h h') (hb : 0 < b) : GRh h' a b := by
  refine ⟨L.1.ext x (by decide) (by decide) (fun k => rfl), fun g hg y hy => ?_⟩
  obtain ⟨g1, g2⟩ := L.2 g hg y hy
  exact ⟨x.rr (L.1.2 g hg).2.1 (by decide) rfl g1 (by omega), g2.ext x⟩
def GR3 (h : ah_T) (a n b : Nat) : Prop := ah_kd h a = 53 ∧ ∀ i, i < n → ah_R h a i = a + (1 + 7 * i) ∧ ah_ln h (a + (1 + 7 * i)) = 6 ∧ GRh h (a + (1 + 7 * i)) (b + 2 * i)
theorem GR3.ext {h h' : ah_T} {a n b : Nat} (L : GR3 h a n b) (x : ah_ext h h') (hb : 0 < b) : GR3 h' a n b := by
  refine ⟨x.kk L.1 (by decide), fun i hi => ?_⟩
  obtain ⟨g1, g2, g3⟩ := L.2 i hi
  exact ⟨x.rr L.1 (by decide) rfl g1 (by omega), x.ll g3.1.1 (by decide) g2, g3.ext x (by omega)⟩
/-- all of a Play -/
def LY1 (h : ah_T) (a : Nat) : Prop := LYA1 h a ∧ GR3 h (a + 1) 8 (a + 97) ∧ GR3 h (a + 58) 2 (a + 113) ∧ GRh h (a + 73) (a + 117) ∧ GR2 h (a + 80) 6 10 41 55
theorem LY1.ext {h h' : ah_T} {a : Nat} (L : LY1 h a) (x : ah_ext h h') : LY1 h' a := ⟨L.1.ext x, L.2.1.ext x (by omega), L.2.2.1.ext x (by omega), L.2.2.2.1.ext x (by omega), L.2.2.2.2.ext x (by decide) (by decide) (fun k => rfl)⟩
/-- all that the pool's constructor makes -/
def LY0 (h : ah_T) (a : Nat) : Prop := LYA0 h a ∧ LY1 h (a + 9) ∧ GR2 h (a + 1454) 21 256 40 54 ∧ GR2 h (a + 1476) 5 4 40 54 ∧ GR2 h (a + 1482) 5 4 40 54 ∧ ∀ k, k < 4 → ah_R h (a + 1) k = a + (1494 + k) ∧ ah_kd h (a + (1494 + k)) = 8
theorem LY0.ext {h h' : ah_T} {a : Nat} (L : LY0 h a) (x : ah_ext h h') : LY0 h' a := by
  obtain ⟨h1, h2, h3, h4, h5, h6⟩ := L
  refine ⟨h1.ext x, h2.ext x, h3.ext x (by decide) (by decide) (fun k => rfl), h4.ext x (by decide) (by decide) (fun k => rfl), h5.ext x (by decide) (by decide) (fun k => rfl), fun k hk => ?_⟩
  obtain ⟨g1, g2⟩ := h6 k hk
  exact ⟨x.rr (h1.2 (0, 1, 0, 1, 45, 4) (List.mem_of_getElem? (i := 0) rfl)).2.2.1 (by decide) rfl g1 (by omega), x.kk g2 (by decide)⟩
theorem ly8_k {h : ah_T} {a : Nat} (L : LY8 h a) : ah_kd h a = 9 := L.1
theorem ly8_R_0_2 {h : ah_T} {a : Nat} (L : LY8 h a) : ah_R h a 2 = a + 1 := (L.2 (0, 9, 2, 1, 40, 4) (List.mem_of_getElem? (i := 0) rfl)).2.1
theorem ly8_K_1 {h : ah_T} {a : Nat} (L : LY8 h a) : ah_kd h (a + 1) = 40 := (L.2 (0, 9, 2, 1, 40, 4) (List.mem_of_getElem? (i := 0) rfl)).2.2.1
theorem ly8_N_1 {h : ah_T} {a : Nat} (L : LY8 h a) : ah_ln h (a + 1) = 4 := (L.2 (0, 9, 2, 1, 40, 4) (List.mem_of_getElem? (i := 0) rfl)).2.2.2
theorem ly8_A_1 {h : ah_T} {a : Nat} {i : Int32} (L : LY8 h a) (hi : vp_in i 4) : aok h 40 (a + 1) i := ⟨ly8_K_1 L, by rw [ly8_N_1 L]; exact hi⟩
theorem ly8_R_0_3 {h : ah_T} {a : Nat} (L : LY8 h a) : ah_R h a 3 = a + 2 := (L.2 (0, 9, 3, 2, 40, 4) (List.mem_of_getElem? (i := 1) rfl)).2.1
theorem ly8_K_2 {h : ah_T} {a : Nat} (L : LY8 h a) : ah_kd h (a + 2) = 40 := (L.2 (0, 9, 3, 2, 40, 4) (List.mem_of_getElem? (i := 1) rfl)).2.2.1
theorem ly8_N_2 {h : ah_T} {a : Nat} (L : LY8 h a) : ah_ln h (a + 2) = 4 := (L.2 (0, 9, 3, 2, 40, 4) (List.mem_of_getElem? (i := 1) rfl)).2.2.2
theorem ly8_A_2 {h : ah_T} {a : Nat} {i : Int32} (L : LY8 h a) (hi : vp_in i 4) : aok h 40 (a + 2) i := ⟨ly8_K_2 L, by rw [ly8_N_2 L]; exact hi⟩
theorem ly8_R_0_4 {h : ah_T} {a : Nat} (L : LY8 h a) : ah_R h a 4 = a + 3 := (L.2 (0, 9, 4, 3, 41, 160) (List.mem_of_getElem? (i := 2) rfl)).2.1
theorem ly8_K_3 {h : ah_T} {a : Nat} (L : LY8 h a) : ah_kd h (a + 3) = 41 := (L.2 (0, 9, 4, 3, 41, 160) (List.mem_of_getElem? (i := 2) rfl)).2.2.1
theorem ly8_N_3 {h : ah_T} {a : Nat} (L : LY8 h a) : ah_ln h (a + 3) = 160 := (L.2 (0, 9, 4, 3, 41, 160) (List.mem_of_getElem? (i := 2) rfl)).2.2.2
theorem ly8_A_3 {h : ah_T} {a : Nat} {i : Int32} (L : LY8 h a) (hi : vp_in i 160) : aok h 41 (a + 3) i := ⟨ly8_K_3 L, by rw [ly8_N_3 L]; exact hi⟩
theorem ly8_R_0_11 {h : ah_T} {a : Nat} (L : LY8 h a) : ah_R h a 11 = a + 4 := (L.2 (0, 9, 11, 4, 40, 20) (List.mem_of_getElem? (i := 3) rfl)).2.1
theorem ly8_K_4 {h : ah_T} {a : Nat} (L : LY8 h a) : ah_kd h (a + 4) = 40 := (L.2 (0, 9, 11, 4, 40, 20) (List.mem_of_getElem? (i := 3) rfl)).2.2.1
theorem ly8_N_4 {h : ah_T} {a : Nat} (L : LY8 h a) : ah_ln h (a + 4) = 20 := (L.2 (0, 9, 11, 4, 40, 20) (List.mem_of_getElem? (i := 3) rfl)).2.2.2
theorem ly8_A_4 {h : ah_T} {a : Nat} {i : Int32} (L : LY8 h a) (hi : vp_in i 20) : aok h 40 (a + 4) i := ⟨ly8_K_4 L, by rw [ly8_N_4 L]; exact hi⟩
theorem ly8_R_0_12 {h : ah_T} {a : Nat} (L : LY8 h a) : ah_R h a 12 = a + 5 := (L.2 (0, 9, 12, 5, 40, 20) (List.mem_of_getElem? (i := 4) rfl)).2.1
theorem ly8_K_5 {h : ah_T} {a : Nat} (L : LY8 h a) : ah_kd h (a + 5) = 40 := (L.2 (0, 9, 12, 5, 40, 20) (List.mem_of_getElem? (i := 4) rfl)).2.2.1
theorem ly8_N_5 {h : ah_T} {a : Nat} (L : LY8 h a) : ah_ln h (a + 5) = 20 := (L.2 (0, 9, 12, 5, 40, 20) (List.mem_of_getElem? (i := 4) rfl)).2.2.2
theorem ly8_A_5 {h : ah_T} {a : Nat} {i : Int32} (L : LY8 h a) (hi : vp_in i 20) : aok h 40 (a + 5) i := ⟨ly8_K_5 L, by rw [ly8_N_5 L]; exact hi⟩
theorem ly8_R_0_13 {h : ah_T} {a : Nat} (L : LY8 h a) : ah_R h a 13 = a + 6 := (L.2 (0, 9, 13, 6, 40, 20) (List.mem_of_getElem? (i := 5) rfl)).2.1
theorem ly8_K_6 {h : ah_T} {a : Nat} (L : LY8 h a) : ah_kd h (a + 6) = 40 := (L.2 (0, 9, 13, 6, 40, 20) (List.mem_of_getElem? (i := 5) rfl)).2.2.1
theorem ly8_N_6 {h : ah_T} {a : Nat} (L : LY8 h a) : ah_ln h (a + 6) = 20 := (L.2 (0, 9, 13, 6, 40, 20) (List.mem_of_getElem? (i := 5) rfl)).2.2.2
theorem ly8_A_6 {h : ah_T} {a : Nat} {i : Int32} (L : LY8 h a) (hi : vp_in i 20) : aok h 40 (a + 6) i := ⟨ly8_K_6 L, by rw [ly8_N_6 L]; exact hi⟩
theorem ly8_R_0_14 {h : ah_T} {a : Nat} (L : LY8 h a) : ah_R h a 14 = a + 7 := (L.2 (0, 9, 14, 7, 40, 8) (List.mem_of_getElem? (i := 6) rfl)).2.1
theorem ly8_K_7 {h : ah_T} {a : Nat} (L : LY8 h a) : ah_kd h (a + 7) = 40 := (L.2 (0, 9, 14, 7, 40, 8) (List.mem_of_getElem? (i := 6) rfl)).2.2.1
theorem ly8_N_7 {h : ah_T} {a : Nat} (L : LY8 h a) : ah_ln h (a + 7) = 8 := (L.2 (0, 9, 14, 7, 40, 8) (List.mem_of_getElem? (i := 6) rfl)).2.2.2
theorem ly8_A_7 {h : ah_T} {a : Nat} {i : Int32} (L : LY8 h a) (hi : vp_in i 8) : aok h 40 (a + 7) i := ⟨ly8_K_7 L, by rw [ly8_N_7 L]; exact hi⟩
theorem ly8_R_0_15 {h : ah_T} {a : Nat} (L : LY8 h a) : ah_R h a 15 = a + 8 := (L.2 (0, 9, 15, 8, 40, 8) (List.mem_of_getElem? (i := 7) rfl)).2.1
theorem ly8_K_8 {h : ah_T} {a : Nat} (L : LY8 h a) : ah_kd h (a + 8) = 40 := (L.2 (0, 9, 15, 8, 40, 8) (List.mem_of_getElem? (i := 7) rfl)).2.2.1
theorem ly8_N_8 {h : ah_T} {a : Nat} (L : LY8 h a) : ah_ln h (a + 8) = 8 := (L.2 (0, 9, 15, 8, 40, 8) (List.mem_of_getElem? (i := 7) rfl)).2.2.2
theorem ly8_A_8 {h : ah_T} {a : Nat} {i : Int32} (L : LY8 h a) (hi : vp_in i 8) : aok h 40 (a + 8) i := ⟨ly8_K_8 L, by rw [ly8_N_8 L]; exact hi⟩
theorem ly8_R_0_16 {h : ah_T} {a : Nat} (L : LY8 h a) : ah_R h a 16 = a + 9 := (L.2 (0, 9, 16, 9, 40, 120) (List.mem_of_getElem? (i := 8) rfl)).2.1
theorem ly8_K_9 {h : ah_T} {a : Nat} (L : LY8 h a) : ah_kd h (a + 9) = 40 := (L.2 (0, 9, 16, 9, 40, 120) (List.mem_of_getElem? (i := 8) rfl)).2.2.1
theorem ly8_N_9 {h : ah_T} {a : Nat} (L : LY8 h a) : ah_ln h (a + 9) = 120 := (L.2 (0, 9, 16, 9, 40, 120) (List.mem_of_getElem? (i := 8) rfl)).2.2.2
theorem ly8_A_9 {h : ah_T} {a : Nat} {i : Int32} (L : LY8 h a) (hi : vp_in i 120) : aok h 40 (a + 9) i := ⟨ly8_K_9 L, by rw [ly8_N_9 L]; exact hi⟩
theorem ly8_R_0_17 {h : ah_T} {a : Nat} (L : LY8 h a) : ah_R h a 17 = a + 10 := (L.2 (0, 9, 17, 10, 40, 120) (List.mem_of_getElem? (i := 9) rfl)).2.1
theorem ly8_K_10 {h : ah_T} {a : Nat} (L : LY8 h a) : ah_kd h (a + 10) = 40 := (L.2 (0, 9, 17, 10, 40, 120) (List.mem_of_getElem? (i := 9) rfl)).2.2.1
theorem ly8_N_10 {h : ah_T} {a : Nat} (L : LY8 h a) : ah_ln h (a + 10) = 120 := (L.2 (0, 9, 17, 10, 40, 120) (List.mem_of_getElem? (i := 9) rfl)).2.2.2
theorem ly8_A_10 {h : ah_T} {a : Nat} {i : Int32} (L : LY8 h a) (hi : vp_in i 120) : aok h 40 (a + 10) i := ⟨ly8_K_10 L, by rw [ly8_N_10 L]; exact hi⟩
theorem ly8_R_0_18 {h : ah_T} {a : Nat} (L : LY8 h a) : ah_R h a 18 = a + 11 := (L.2 (0, 9, 18, 11, 40, 120) (List.mem_of_getElem? (i := 10) rfl)).2.1
theorem ly8_K_11 {h : ah_T} {a : Nat} (L : LY8 h a) : ah_kd h (a + 11) = 40 := (L.2 (0, 9, 18, 11, 40, 120) (List.mem_of_getElem? (i := 10) rfl)).2.2.1
theorem ly8_N_11 {h : ah_T} {a : Nat} (L : LY8 h a) : ah_ln h (a + 11) = 120 := (L.2 (0, 9, 18, 11, 40, 120) (List.mem_of_getElem? (i := 10) rfl)).2.2.2
theorem ly8_A_11 {h : ah_T} {a : Nat} {i : Int32} (L : LY8 h a) (hi : vp_in i 120) : aok h 40 (a + 11) i := ⟨ly8_K_11 L, by rw [ly8_N_11 L]; exact hi⟩
theorem ly8_R_0_19 {h : ah_T} {a : Nat} (L : LY8 h a) : ah_R h a 19 = a + 12 := (L.2 (0, 9, 19, 12, 40, 120) (List.mem_of_getElem? (i := 11) rfl)).2.1
theorem ly8_K_12 {h : ah_T} {a : Nat} (L : LY8 h a) : ah_kd h (a + 12) = 40 := (L.2 (0, 9, 19, 12, 40, 120) (List.mem_of_getElem? (i := 11) rfl)).2.2.1
theorem ly8_N_12 {h : ah_T} {a : Nat} (L : LY8 h a) : ah_ln h (a + 12) = 120 := (L.2 (0, 9, 19, 12, 40, 120) (List.mem_of_getElem? (i := 11) rfl)).2.2.2
theorem ly8_A_12 {h : ah_T} {a : Nat} {i : Int32} (L : LY8 h a) (hi : vp_in i 120) : aok h 40 (a + 12) i := ⟨ly8_K_12 L, by rw [ly8_N_12 L]; exact hi⟩
theorem ly8_R_0_20 {h : ah_T} {a : Nat} (L : LY8 h a) : ah_R h a 20 = a + 13 := (L.2 (0, 9, 20, 13, 40, 120) (List.mem_of_getElem? (i := 12) rfl)).2.1
theorem ly8_K_13 {h : ah_T} {a : Nat} (L : LY8 h a) : ah_kd h (a + 13) = 40 := (L.2 (0, 9, 20, 13, 40, 120) (List.mem_of_getElem? (i := 12) rfl)).2.2.1
theorem ly8_N_13 {h : ah_T} {a : Nat} (L : LY8 h a) : ah_ln h (a + 13) = 120 := (L.2 (0, 9, 20, 13, 40, 120) (List.mem_of_getElem? (i := 12) rfl)).2.2.2
theorem ly8_A_13 {h : ah_T} {a : Nat} {i : Int32} (L : LY8 h a) (hi : vp_in i 120) : aok h 40 (a + 13) i := ⟨ly8_K_13 L, by rw [ly8_N_13 L]; exact hi⟩
theorem ly8_R_0_21 {h : ah_T} {a : Nat} (L : LY8 h a) : ah_R h a 21 = a + 14 := (L.2 (0, 9, 21, 14, 40, 120) (List.mem_of_getElem? (i := 13) rfl)).2.1
theorem ly8_K_14 {h : ah_T} {a : Nat} (L : LY8 h a) : ah_kd h (a + 14) = 40 := (L.2 (0, 9, 21, 14, 40, 120) (List.mem_of_getElem? (i := 13) rfl)).2.2.1
theorem ly8_N_14 {h : ah_T} {a : Nat} (L : LY8 h a) : ah_ln h (a + 14) = 120 := (L.2 (0, 9, 21, 14, 40, 120) (List.mem_of_getElem? (i := 13) rfl)).2.2.2
theorem ly8_A_14 {h : ah_T} {a : Nat} {i : Int32} (L : LY8 h a) (hi : vp_in i 120) : aok h 40 (a + 14) i := ⟨ly8_K_14 L, by rw [ly8_N_14 L]; exact hi⟩
theorem ly8_R_0_22 {h : ah_T} {a : Nat} (L : LY8 h a) : ah_R h a 22 = a + 15 := (L.2 (0, 9, 22, 15, 40, 120) (List.mem_of_getElem? (i := 14) rfl)).2.1
theorem ly8_K_15 {h : ah_T} {a : Nat} (L : LY8 h a) : ah_kd h (a + 15) = 40 := (L.2 (0, 9, 22, 15, 40, 120) (List.mem_of_getElem? (i := 14) rfl)).2.2.1
theorem ly8_N_15 {h : ah_T} {a : Nat} (L : LY8 h a) : ah_ln h (a + 15) = 120 := (L.2 (0, 9, 22, 15, 40, 120) (List.mem_of_getElem? (i := 14) rfl)).2.2.2
theorem ly8_A_15 {h : ah_T} {a : Nat} {i : Int32} (L : LY8 h a) (hi : vp_in i 120) : aok h 40 (a + 15) i := ⟨ly8_K_15 L, by rw [ly8_N_15 L]; exact hi⟩
theorem ly8_R_0_23 {h : ah_T} {a : Nat} (L : LY8 h a) : ah_R h a 23 = a + 16 := (L.2 (0, 9, 23, 16, 40, 120) (List.mem_of_getElem? (i := 15) rfl)).2.1
theorem ly8_K_16 {h : ah_T} {a : Nat} (L : LY8 h a) : ah_kd h (a + 16) = 40 := (L.2 (0, 9, 23, 16, 40, 120) (List.mem_of_getElem? (i := 15) rfl)).2.2.1
theorem ly8_N_16 {h : ah_T} {a : Nat} (L : LY8 h a) : ah_ln h (a + 16) = 120 := (L.2 (0, 9, 23, 16, 40, 120) (List.mem_of_getElem? (i := 15) rfl)).2.2.2
theorem ly8_A_16 {h : ah_T} {a : Nat} {i : Int32} (L : LY8 h a) (hi : vp_in i 120) : aok h 40 (a + 16) i := ⟨ly8_K_16 L, by rw [ly8_N_16 L]; exact hi⟩
theorem ly8_R_0_24 {h : ah_T} {a : Nat} (L : LY8 h a) : ah_R h a 24 = a + 17 := (L.2 (0, 9, 24, 17, 40, 120) (List.mem_of_getElem? (i := 16) rfl)).2.1
theorem ly8_K_17 {h : ah_T} {a : Nat} (L : LY8 h a) : ah_kd h (a + 17) = 40 := (L.2 (0, 9, 24, 17, 40, 120) (List.mem_of_getElem? (i := 16) rfl)).2.2.1
theorem ly8_N_17 {h : ah_T} {a : Nat} (L : LY8 h a) : ah_ln h (a + 17) = 120 := (L.2 (0, 9, 24, 17, 40, 120) (List.mem_of_getElem? (i := 16) rfl)).2.2.2
theorem ly8_A_17 {h : ah_T} {a : Nat} {i : Int32} (L : LY8 h a) (hi : vp_in i 120) : aok h 40 (a + 17) i := ⟨ly8_K_17 L, by rw [ly8_N_17 L]; exact hi⟩
theorem ly8_R_0_25 {h : ah_T} {a : Nat} (L : LY8 h a) : ah_R h a 25 = a + 18 := (L.2 (0, 9, 25, 18, 40, 120) (List.mem_of_getElem? (i := 17) rfl)).2.1
theorem ly8_K_18 {h : ah_T} {a : Nat} (L : LY8 h a) : ah_kd h (a + 18) = 40 := (L.2 (0, 9, 25, 18, 40, 120) (List.mem_of_getElem? (i := 17) rfl)).2.2.1
theorem ly8_N_18 {h : ah_T} {a : Nat} (L : LY8 h a) : ah_ln h (a + 18) = 120 := (L.2 (0, 9, 25, 18, 40, 120) (List.mem_of_getElem? (i := 17) rfl)).2.2.2
theorem ly8_A_18 {h : ah_T} {a : Nat} {i : Int32} (L : LY8 h a) (hi : vp_in i 120) : aok h 40 (a + 18) i := ⟨ly8_K_18 L, by rw [ly8_N_18 L]; exact hi⟩
theorem ly8_R_0_26 {h : ah_T} {a : Nat} (L : LY8 h a) : ah_R h a 26 = a + 19 := (L.2 (0, 9, 26, 19, 40, 100) (List.mem_of_getElem? (i := 18) rfl)).2.1
theorem ly8_K_19 {h : ah_T} {a : Nat} (L : LY8 h a) : ah_kd h (a + 19) = 40 := (L.2 (0, 9, 26, 19, 40, 100) (List.mem_of_getElem? (i := 18) rfl)).2.2.1
theorem ly8_N_19 {h : ah_T} {a : Nat} (L : LY8 h a) : ah_ln h (a + 19) = 100 := (L.2 (0, 9, 26, 19, 40, 100) (List.mem_of_getElem? (i := 18) rfl)).2.2.2
theorem ly8_A_19 {h : ah_T} {a : Nat} {i : Int32} (L : LY8 h a) (hi : vp_in i 100) : aok h 40 (a + 19) i := ⟨ly8_K_19 L, by rw [ly8_N_19 L]; exact hi⟩
theorem ly8_R_0_27 {h : ah_T} {a : Nat} (L : LY8 h a) : ah_R h a 27 = a + 20 := (L.2 (0, 9, 27, 20, 40, 100) (List.mem_of_getElem? (i := 19) rfl)).2.1
theorem ly8_K_20 {h : ah_T} {a : Nat} (L : LY8 h a) : ah_kd h (a + 20) = 40 := (L.2 (0, 9, 27, 20, 40, 100) (List.mem_of_getElem? (i := 19) rfl)).2.2.1
theorem ly8_N_20 {h : ah_T} {a : Nat} (L : LY8 h a) : ah_ln h (a + 20) = 100 := (L.2 (0, 9, 27, 20, 40, 100) (List.mem_of_getElem? (i := 19) rfl)).2.2.2
theorem ly8_A_20 {h : ah_T} {a : Nat} {i : Int32} (L : LY8 h a) (hi : vp_in i 100) : aok h 40 (a + 20) i := ⟨ly8_K_20 L, by rw [ly8_N_20 L]; exact hi⟩
theorem ly8_R_0_28 {h : ah_T} {a : Nat} (L : LY8 h a) : ah_R h a 28 = a + 21 := (L.2 (0, 9, 28, 21, 40, 100) (List.mem_of_getElem? (i := 20) rfl)).2.1
theorem ly8_K_21 {h : ah_T} {a : Nat} (L : LY8 h a) : ah_kd h (a + 21) = 40 := (L.2 (0, 9, 28, 21, 40, 100) (List.mem_of_getElem? (i := 20) rfl)).2.2.1
theorem ly8_N_21 {h : ah_T} {a : Nat} (L : LY8 h a) : ah_ln h (a + 21) = 100 := (L.2 (0, 9, 28, 21, 40, 100) (List.mem_of_getElem? (i := 20) rfl)).2.2.2
theorem ly8_A_21 {h : ah_T} {a : Nat} {i : Int32} (L : LY8 h a) (hi : vp_in i 100) : aok h 40 (a + 21) i := ⟨ly8_K_21 L, by rw [ly8_N_21 L]; exact hi⟩
theorem ly8_R_0_29 {h : ah_T} {a : Nat} (L : LY8 h a) : ah_R h a 29 = a + 22 := (L.2 (0, 9, 29, 22, 40, 100) (List.mem_of_getElem? (i := 21) rfl)).2.1
theorem ly8_K_22 {h : ah_T} {a : Nat} (L : LY8 h a) : ah_kd h (a + 22) = 40 := (L.2 (0, 9, 29, 22, 40, 100) (List.mem_of_getElem? (i := 21) rfl)).2.2.1
theorem ly8_N_22 {h : ah_T} {a : Nat} (L : LY8 h a) : ah_ln h (a + 22) = 100 := (L.2 (0, 9, 29, 22, 40, 100) (List.mem_of_getElem? (i := 21) rfl)).2.2.2
theorem ly8_A_22 {h : ah_T} {a : Nat} {i : Int32} (L : LY8 h a) (hi : vp_in i 100) : aok h 40 (a + 22) i := ⟨ly8_K_22 L, by rw [ly8_N_22 L]; exact hi⟩
theorem ly8_R_0_30 {h : ah_T} {a : Nat} (L : LY8 h a) : ah_R h a 30 = a + 23 := (L.2 (0, 9, 30, 23, 40, 9600) (List.mem_of_getElem? (i := 22) rfl)).2.1
theorem ly8_K_23 {h : ah_T} {a : Nat} (L : LY8 h a) : ah_kd h (a + 23) = 40 := (L.2 (0, 9, 30, 23, 40, 9600) (List.mem_of_getElem? (i := 22) rfl)).2.2.1
theorem ly8_N_23 {h : ah_T} {a : Nat} (L : LY8 h a) : ah_ln h (a + 23) = 9600 := (L.2 (0, 9, 30, 23, 40, 9600) (List.mem_of_getElem? (i := 22) rfl)).2.2.2
theorem ly8_A_23 {h : ah_T} {a : Nat} {i : Int32} (L : LY8 h a) (hi : vp_in i 9600) : aok h 40 (a + 23) i := ⟨ly8_K_23 L, by rw [ly8_N_23 L]; exact hi⟩
theorem ly8_R_0_31 {h : ah_T} {a : Nat} (L : LY8 h a) : ah_R h a 31 = a + 24 := (L.2 (0, 9, 31, 24, 40, 2400) (List.mem_of_getElem? (i := 23) rfl)).2.1
theorem ly8_K_24 {h : ah_T} {a : Nat} (L : LY8 h a) : ah_kd h (a + 24) = 40 := (L.2 (0, 9, 31, 24, 40, 2400) (List.mem_of_getElem? (i := 23) rfl)).2.2.1
theorem ly8_N_24 {h : ah_T} {a : Nat} (L : LY8 h a) : ah_ln h (a + 24) = 2400 := (L.2 (0, 9, 31, 24, 40, 2400) (List.mem_of_getElem? (i := 23) rfl)).2.2.2
theorem ly8_A_24 {h : ah_T} {a : Nat} {i : Int32} (L : LY8 h a) (hi : vp_in i 2400) : aok h 40 (a + 24) i := ⟨ly8_K_24 L, by rw [ly8_N_24 L]; exact hi⟩
theorem ly8_R_0_32 {h : ah_T} {a : Nat} (L : LY8 h a) : ah_R h a 32 = a + 25 := (L.2 (0, 9, 32, 25, 40, 120) (List.mem_of_getElem? (i := 24) rfl)).2.1
theorem ly8_K_25 {h : ah_T} {a : Nat} (L : LY8 h a) : ah_kd h (a + 25) = 40 := (L.2 (0, 9, 32, 25, 40, 120) (List.mem_of_getElem? (i := 24) rfl)).2.2.1
theorem ly8_N_25 {h : ah_T} {a : Nat} (L : LY8 h a) : ah_ln h (a + 25) = 120 := (L.2 (0, 9, 32, 25, 40, 120) (List.mem_of_getElem? (i := 24) rfl)).2.2.2
theorem ly8_A_25 {h : ah_T} {a : Nat} {i : Int32} (L : LY8 h a) (hi : vp_in i 120) : aok h 40 (a + 25) i := ⟨ly8_K_25 L, by rw [ly8_N_25 L]; exact hi⟩
theorem ly8_R_0_33 {h : ah_T} {a : Nat} (L : LY8 h a) : ah_R h a 33 = a + 26 := (L.2 (0, 9, 33, 26, 40, 120) (List.mem_of_getElem? (i := 25) rfl)).2.1
theorem ly8_K_26 {h : ah_T} {a : Nat} (L : LY8 h a) : ah_kd h (a + 26) = 40 := (L.2 (0, 9, 33, 26, 40, 120) (List.mem_of_getElem? (i := 25) rfl)).2.2.1
theorem ly8_N_26 {h : ah_T} {a : Nat} (L : LY8 h a) : ah_ln h (a + 26) = 120 := (L.2 (0, 9, 33, 26, 40, 120) (List.mem_of_getElem? (i := 25) rfl)).2.2.2
theorem ly8_A_26 {h : ah_T} {a : Nat} {i : Int32} (L : LY8 h a) (hi : vp_in i 120) : aok h 40 (a + 26) i := ⟨ly8_K_26 L, by rw [ly8_N_26 L]; exact hi⟩
theorem ly8_R_0_34 {h : ah_T} {a : Nat} (L : LY8 h a) : ah_R h a 34 = a + 27 := (L.2 (0, 9, 34, 27, 40, 120) (List.mem_of_getElem? (i := 26) rfl)).2.1
theorem ly8_K_27 {h : ah_T} {a : Nat} (L : LY8 h a) : ah_kd h (a + 27) = 40 := (L.2 (0, 9, 34, 27, 40, 120) (List.mem_of_getElem? (i := 26) rfl)).2.2.1
theorem ly8_N_27 {h : ah_T} {a : Nat} (L : LY8 h a) : ah_ln h (a + 27) = 120 := (L.2 (0, 9, 34, 27, 40, 120) (List.mem_of_getElem? (i := 26) rfl)).2.2.2
theorem ly8_A_27 {h : ah_T} {a : Nat} {i : Int32} (L : LY8 h a) (hi : vp_in i 120) : aok h 40 (a + 27) i := ⟨ly8_K_27 L, by rw [ly8_N_27 L]; exact hi⟩
theorem ly8_R_0_35 {h : ah_T} {a : Nat} (L : LY8 h a) : ah_R h a 35 = a + 28 := (L.2 (0, 9, 35, 28, 40, 20) (List.mem_of_getElem? (i := 27) rfl)).2.1
theorem ly8_K_28 {h : ah_T} {a : Nat} (L : LY8 h a) : ah_kd h (a + 28) = 40 := (L.2 (0, 9, 35, 28, 40, 20) (List.mem_of_getElem? (i := 27) rfl)).2.2.1
theorem ly8_N_28 {h : ah_T} {a : Nat} (L : LY8 h a) : ah_ln h (a + 28) = 20 := (L.2 (0, 9, 35, 28, 40, 20) (List.mem_of_getElem? (i := 27) rfl)).2.2.2
theorem ly8_A_28 {h : ah_T} {a : Nat} {i : Int32} (L : LY8 h a) (hi : vp_in i 20) : aok h 40 (a + 28) i := ⟨ly8_K_28 L, by rw [ly8_N_28 L]; exact hi⟩
theorem ly8_R_0_36 {h : ah_T} {a : Nat} (L : LY8 h a) : ah_R h a 36 = a + 29 := (L.2 (0, 9, 36, 29, 40, 20) (List.mem_of_getElem? (i := 28) rfl)).2.1
theorem ly8_K_29 {h : ah_T} {a : Nat} (L : LY8 h a) : ah_kd h (a + 29) = 40 := (L.2 (0, 9, 36, 29, 40, 20) (List.mem_of_getElem? (i := 28) rfl)).2.2.1
theorem ly8_N_29 {h : ah_T} {a : Nat} (L : LY8 h a) : ah_ln h (a + 29) = 20 := (L.2 (0, 9, 36, 29, 40, 20) (List.mem_of_getElem? (i := 28) rfl)).2.2.2
theorem ly8_A_29 {h : ah_T} {a : Nat} {i : Int32} (L : LY8 h a) (hi : vp_in i 20) : aok h 40 (a + 29) i := ⟨ly8_K_29 L, by rw [ly8_N_29 L]; exact hi⟩
theorem ly8_R_0_37 {h : ah_T} {a : Nat} (L : LY8 h a) : ah_R h a 37 = a + 30 := (L.2 (0, 9, 37, 30, 40, 20) (List.mem_of_getElem? (i := 29) rfl)).2.1
theorem ly8_K_30 {h : ah_T} {a : Nat} (L : LY8 h a) : ah_kd h (a + 30) = 40 := (L.2 (0, 9, 37, 30, 40, 20) (List.mem_of_getElem? (i := 29) rfl)).2.2.1
theorem ly8_N_30 {h : ah_T} {a : Nat} (L : LY8 h a) : ah_ln h (a + 30) = 20 := (L.2 (0, 9, 37, 30, 40, 20) (List.mem_of_getElem? (i := 29) rfl)).2.2.2
theorem ly8_A_30 {h : ah_T} {a : Nat} {i : Int32} (L : LY8 h a) (hi : vp_in i 20) : aok h 40 (a + 30) i := ⟨ly8_K_30 L, by rw [ly8_N_30 L]; exact hi⟩
theorem ly8_R_0_38 {h : ah_T} {a : Nat} (L : LY8 h a) : ah_R h a 38 = a + 31 := (L.2 (0, 9, 38, 31, 40, 20) (List.mem_of_getElem? (i := 30) rfl)).2.1
theorem ly8_K_31 {h : ah_T} {a : Nat} (L : LY8 h a) : ah_kd h (a + 31) = 40 := (L.2 (0, 9, 38, 31, 40, 20) (List.mem_of_getElem? (i := 30) rfl)).2.2.1
theorem ly8_N_31 {h : ah_T} {a : Nat} (L : LY8 h a) : ah_ln h (a + 31) = 20 := (L.2 (0, 9, 38, 31, 40, 20) (List.mem_of_getElem? (i := 30) rfl)).2.2.2
theorem ly8_A_31 {h : ah_T} {a : Nat} {i : Int32} (L : LY8 h a) (hi : vp_in i 20) : aok h 40 (a + 31) i := ⟨ly8_K_31 L, by rw [ly8_N_31 L]; exact hi⟩
theorem ly8_R_0_40 {h : ah_T} {a : Nat} (L : LY8 h a) : ah_R h a 40 = a + 32 := (L.2 (0, 9, 40, 32, 41, 20) (List.mem_of_getElem? (i := 31) rfl)).2.1
theorem ly8_K_32 {h : ah_T} {a : Nat} (L : LY8 h a) : ah_kd h (a + 32) = 41 := (L.2 (0, 9, 40, 32, 41, 20) (List.mem_of_getElem? (i := 31) rfl)).2.2.1
theorem ly8_N_32 {h : ah_T} {a : Nat} (L : LY8 h a) : ah_ln h (a + 32) = 20 := (L.2 (0, 9, 40, 32, 41, 20) (List.mem_of_getElem? (i := 31) rfl)).2.2.2
theorem ly8_A_32 {h : ah_T} {a : Nat} {i : Int32} (L : LY8 h a) (hi : vp_in i 20) : aok h 41 (a + 32) i := ⟨ly8_K_32 L, by rw [ly8_N_32 L]; exact hi⟩
theorem ly8_R_0_41 {h : ah_T} {a : Nat} (L : LY8 h a) : ah_R h a 41 = a + 33 := (L.2 (0, 9, 41, 33, 41, 20) (List.mem_of_getElem? (i := 32) rfl)).2.1
theorem ly8_K_33 {h : ah_T} {a : Nat} (L : LY8 h a) : ah_kd h (a + 33) = 41 := (L.2 (0, 9, 41, 33, 41, 20) (List.mem_of_getElem? (i := 32) rfl)).2.2.1
theorem ly8_N_33 {h : ah_T} {a : Nat} (L : LY8 h a) : ah_ln h (a + 33) = 20 := (L.2 (0, 9, 41, 33, 41, 20) (List.mem_of_getElem? (i := 32) rfl)).2.2.2
theorem ly8_A_33 {h : ah_T} {a : Nat} {i : Int32} (L : LY8 h a) (hi : vp_in i 20) : aok h 41 (a + 33) i := ⟨ly8_K_33 L, by rw [ly8_N_33 L]; exact hi⟩
theorem ly8_R_0_42 {h : ah_T} {a : Nat} (L : LY8 h a) : ah_R h a 42 = a + 34 := (L.2 (0, 9, 42, 34, 41, 20) (List.mem_of_getElem? (i := 33) rfl)).2.1
theorem ly8_K_34 {h : ah_T} {a : Nat} (L : LY8 h a) : ah_kd h (a + 34) = 41 := (L.2 (0, 9, 42, 34, 41, 20) (List.mem_of_getElem? (i := 33) rfl)).2.2.1
theorem ly8_N_34 {h : ah_T} {a : Nat} (L : LY8 h a) : ah_ln h (a + 34) = 20 := (L.2 (0, 9, 42, 34, 41, 20) (List.mem_of_getElem? (i := 33) rfl)).2.2.2
theorem ly8_A_34 {h : ah_T} {a : Nat} {i : Int32} (L : LY8 h a) (hi : vp_in i 20) : aok h 41 (a + 34) i := ⟨ly8_K_34 L, by rw [ly8_N_34 L]; exact hi⟩
theorem ly8_R_0_43 {h : ah_T} {a : Nat} (L : LY8 h a) : ah_R h a 43 = a + 35 := (L.2 (0, 9, 43, 35, 42, 500) (List.mem_of_getElem? (i := 34) rfl)).2.1
theorem ly8_K_35 {h : ah_T} {a : Nat} (L : LY8 h a) : ah_kd h (a + 35) = 42 := (L.2 (0, 9, 43, 35, 42, 500) (List.mem_of_getElem? (i := 34) rfl)).2.2.1
theorem ly8_N_35 {h : ah_T} {a : Nat} (L : LY8 h a) : ah_ln h (a + 35) = 500 := (L.2 (0, 9, 43, 35, 42, 500) (List.mem_of_getElem? (i := 34) rfl)).2.2.2
theorem ly8_A_35 {h : ah_T} {a : Nat} {i : Int32} (L : LY8 h a) (hi : vp_in i 500) : aok h 42 (a + 35) i := ⟨ly8_K_35 L, by rw [ly8_N_35 L]; exact hi⟩
theorem ly8_R_0_59 {h : ah_T} {a : Nat} (L : LY8 h a) : ah_R h a 59 = a + 36 := (L.2 (0, 9, 59, 36, 40, 4) (List.mem_of_getElem? (i := 35) rfl)).2.1
theorem ly8_K_36 {h : ah_T} {a : Nat} (L : LY8 h a) : ah_kd h (a + 36) = 40 := (L.2 (0, 9, 59, 36, 40, 4) (List.mem_of_getElem? (i := 35) rfl)).2.2.1
theorem ly8_N_36 {h : ah_T} {a : Nat} (L : LY8 h a) : ah_ln h (a + 36) = 4 := (L.2 (0, 9, 59, 36, 40, 4) (List.mem_of_getElem? (i := 35) rfl)).2.2.2
theorem ly8_A_36 {h : ah_T} {a : Nat} {i : Int32} (L : LY8 h a) (hi : vp_in i 4) : aok h 40 (a + 36) i := ⟨ly8_K_36 L, by rw [ly8_N_36 L]; exact hi⟩
theorem ly8_R_0_60 {h : ah_T} {a : Nat} (L : LY8 h a) : ah_R h a 60 = a + 37 := (L.2 (0, 9, 60, 37, 40, 4) (List.mem_of_getElem? (i := 36) rfl)).2.1
theorem ly8_K_37 {h : ah_T} {a : Nat} (L : LY8 h a) : ah_kd h (a + 37) = 40 := (L.2 (0, 9, 60, 37, 40, 4) (List.mem_of_getElem? (i := 36) rfl)).2.2.1
theorem ly8_N_37 {h : ah_T} {a : Nat} (L : LY8 h a) : ah_ln h (a + 37) = 4 := (L.2 (0, 9, 60, 37, 40, 4) (List.mem_of_getElem? (i := 36) rfl)).2.2.2
theorem ly8_A_37 {h : ah_T} {a : Nat} {i : Int32} (L : LY8 h a) (hi : vp_in i 4) : aok h 40 (a + 37) i := ⟨ly8_K_37 L, by rw [ly8_N_37 L]; exact hi⟩
theorem ly8_R_0_61 {h : ah_T} {a : Nat} (L : LY8 h a) : ah_R h a 61 = a + 38 := (L.2 (0, 9, 61, 38, 40, 44) (List.mem_of_getElem? (i := 37) rfl)).2.1
theorem ly8_K_38 {h : ah_T} {a : Nat} (L : LY8 h a) : ah_kd h (a + 38) = 40 := (L.2 (0, 9, 61, 38, 40, 44) (List.mem_of_getElem? (i := 37) rfl)).2.2.1
theorem ly8_N_38 {h : ah_T} {a : Nat} (L : LY8 h a) : ah_ln h (a + 38) = 44 := (L.2 (0, 9, 61, 38, 40, 44) (List.mem_of_getElem? (i := 37) rfl)).2.2.2
theorem ly8_A_38 {h : ah_T} {a : Nat} {i : Int32} (L : LY8 h a) (hi : vp_in i 44) : aok h 40 (a + 38) i := ⟨ly8_K_38 L, by rw [ly8_N_38 L]; exact hi⟩
theorem ly8_R_0_62 {h : ah_T} {a : Nat} (L : LY8 h a) : ah_R h a 62 = a + 39 := (L.2 (0, 9, 62, 39, 40, 4400) (List.mem_of_getElem? (i := 38) rfl)).2.1
theorem ly8_K_39 {h : ah_T} {a : Nat} (L : LY8 h a) : ah_kd h (a + 39) = 40 := (L.2 (0, 9, 62, 39, 40, 4400) (List.mem_of_getElem? (i := 38) rfl)).2.2.1
theorem ly8_N_39 {h : ah_T} {a : Nat} (L : LY8 h a) : ah_ln h (a + 39) = 4400 := (L.2 (0, 9, 62, 39, 40, 4400) (List.mem_of_getElem? (i := 38) rfl)).2.2.2
theorem ly8_A_39 {h : ah_T} {a : Nat} {i : Int32} (L : LY8 h a) (hi : vp_in i 4400) : aok h 40 (a + 39) i := ⟨ly8_K_39 L, by rw [ly8_N_39 L]; exact hi⟩
theorem ly8_R_0_63 {h : ah_T} {a : Nat} (L : LY8 h a) : ah_R h a 63 = a + 40 := (L.2 (0, 9, 63, 40, 40, 11) (List.mem_of_getElem? (i := 39) rfl)).2.1
theorem ly8_K_40 {h : ah_T} {a : Nat} (L : LY8 h a) : ah_kd h (a + 40) = 40 := (L.2 (0, 9, 63, 40, 40, 11) (List.mem_of_getElem? (i := 39) rfl)).2.2.1
theorem ly8_N_40 {h : ah_T} {a : Nat} (L : LY8 h a) : ah_ln h (a + 40) = 11 := (L.2 (0, 9, 63, 40, 40, 11) (List.mem_of_getElem? (i := 39) rfl)).2.2.2
theorem ly8_A_40 {h : ah_T} {a : Nat} {i : Int32} (L : LY8 h a) (hi : vp_in i 11) : aok h 40 (a + 40) i := ⟨ly8_K_40 L, by rw [ly8_N_40 L]; exact hi⟩
theorem ly8_R_0_64 {h : ah_T} {a : Nat} (L : LY8 h a) : ah_R h a 64 = a + 41 := (L.2 (0, 9, 64, 41, 40, 1100) (List.mem_of_getElem? (i := 40) rfl)).2.1
theorem ly8_K_41 {h : ah_T} {a : Nat} (L : LY8 h a) : ah_kd h (a + 41) = 40 := (L.2 (0, 9, 64, 41, 40, 1100) (List.mem_of_getElem? (i := 40) rfl)).2.2.1
theorem ly8_N_41 {h : ah_T} {a : Nat} (L : LY8 h a) : ah_ln h (a + 41) = 1100 := (L.2 (0, 9, 64, 41, 40, 1100) (List.mem_of_getElem? (i := 40) rfl)).2.2.2
theorem ly8_A_41 {h : ah_T} {a : Nat} {i : Int32} (L : LY8 h a) (hi : vp_in i 1100) : aok h 40 (a + 41) i := ⟨ly8_K_41 L, by rw [ly8_N_41 L]; exact hi⟩
theorem ly8_R_0_65 {h : ah_T} {a : Nat} (L : LY8 h a) : ah_R h a 65 = a + 42 := (L.2 (0, 9, 65, 42, 41, 40) (List.mem_of_getElem? (i := 41) rfl)).2.1
theorem ly8_K_42 {h : ah_T} {a : Nat} (L : LY8 h a) : ah_kd h (a + 42) = 41 := (L.2 (0, 9, 65, 42, 41, 40) (List.mem_of_getElem? (i := 41) rfl)).2.2.1
theorem ly8_N_42 {h : ah_T} {a : Nat} (L : LY8 h a) : ah_ln h (a + 42) = 40 := (L.2 (0, 9, 65, 42, 41, 40) (List.mem_of_getElem? (i := 41) rfl)).2.2.2
theorem ly8_A_42 {h : ah_T} {a : Nat} {i : Int32} (L : LY8 h a) (hi : vp_in i 40) : aok h 41 (a + 42) i := ⟨ly8_K_42 L, by rw [ly8_N_42 L]; exact hi⟩
theorem ly8_R_0_66 {h : ah_T} {a : Nat} (L : LY8 h a) : ah_R h a 66 = a + 43 := (L.2 (0, 9, 66, 43, 41, 10) (List.mem_of_getElem? (i := 42) rfl)).2.1
theorem ly8_K_43 {h : ah_T} {a : Nat} (L : LY8 h a) : ah_kd h (a + 43) = 41 := (L.2 (0, 9, 66, 43, 41, 10) (List.mem_of_getElem? (i := 42) rfl)).2.2.1
theorem ly8_N_43 {h : ah_T} {a : Nat} (L : LY8 h a) : ah_ln h (a + 43) = 10 := (L.2 (0, 9, 66, 43, 41, 10) (List.mem_of_getElem? (i := 42) rfl)).2.2.2
theorem ly8_A_43 {h : ah_T} {a : Nat} {i : Int32} (L : LY8 h a) (hi : vp_in i 10) : aok h 41 (a + 43) i := ⟨ly8_K_43 L, by rw [ly8_N_43 L]; exact hi⟩
theorem ly8_R_0_67 {h : ah_T} {a : Nat} (L : LY8 h a) : ah_R h a 67 = a + 44 := (L.2 (0, 9, 67, 44, 41, 600) (List.mem_of_getElem? (i := 43) rfl)).2.1
theorem ly8_K_44 {h : ah_T} {a : Nat} (L : LY8 h a) : ah_kd h (a + 44) = 41 := (L.2 (0, 9, 67, 44, 41, 600) (List.mem_of_getElem? (i := 43) rfl)).2.2.1
theorem ly8_N_44 {h : ah_T} {a : Nat} (L : LY8 h a) : ah_ln h (a + 44) = 600 := (L.2 (0, 9, 67, 44, 41, 600) (List.mem_of_getElem? (i := 43) rfl)).2.2.2
theorem ly8_A_44 {h : ah_T} {a : Nat} {i : Int32} (L : LY8 h a) (hi : vp_in i 600) : aok h 41 (a + 44) i := ⟨ly8_K_44 L, by rw [ly8_N_44 L]; exact hi⟩
theorem ly8_R_0_68 {h : ah_T} {a : Nat} (L : LY8 h a) : ah_R h a 68 = a + 45 := (L.2 (0, 9, 68, 45, 41, 11) (List.mem_of_getElem? (i := 44) rfl)).2.1
theorem ly8_K_45 {h : ah_T} {a : Nat} (L : LY8 h a) : ah_kd h (a + 45) = 41 := (L.2 (0, 9, 68, 45, 41, 11) (List.mem_of_getElem? (i := 44) rfl)).2.2.1
theorem ly8_N_45 {h : ah_T} {a : Nat} (L : LY8 h a) : ah_ln h (a + 45) = 11 := (L.2 (0, 9, 68, 45, 41, 11) (List.mem_of_getElem? (i := 44) rfl)).2.2.2
theorem ly8_A_45 {h : ah_T} {a : Nat} {i : Int32} (L : LY8 h a) (hi : vp_in i 11) : aok h 41 (a + 45) i := ⟨ly8_K_45 L, by rw [ly8_N_45 L]; exact hi⟩
theorem ly8_R_0_69 {h : ah_T} {a : Nat} (L : LY8 h a) : ah_R h a 69 = a + 46 := (L.2 (0, 9, 69, 46, 41, 10) (List.mem_of_getElem? (i := 45) rfl)).2.1
theorem ly8_K_46 {h : ah_T} {a : Nat} (L : LY8 h a) : ah_kd h (a + 46) = 41 := (L.2 (0, 9, 69, 46, 41, 10) (List.mem_of_getElem? (i := 45) rfl)).2.2.1
theorem ly8_N_46 {h : ah_T} {a : Nat} (L : LY8 h a) : ah_ln h (a + 46) = 10 := (L.2 (0, 9, 69, 46, 41, 10) (List.mem_of_getElem? (i := 45) rfl)).2.2.2
theorem ly8_A_46 {h : ah_T} {a : Nat} {i : Int32} (L : LY8 h a) (hi : vp_in i 10) : aok h 41 (a + 46) i := ⟨ly8_K_46 L, by rw [ly8_N_46 L]; exact hi⟩
theorem ly8_R_0_70 {h : ah_T} {a : Nat} (L : LY8 h a) : ah_R h a 70 = a + 47 := (L.2 (0, 9, 70, 47, 44, 600) (List.mem_of_getElem? (i := 46) rfl)).2.1
theorem ly8_K_47 {h : ah_T} {a : Nat} (L : LY8 h a) : ah_kd h (a + 47) = 44 := (L.2 (0, 9, 70, 47, 44, 600) (List.mem_of_getElem? (i := 46) rfl)).2.2.1
theorem ly8_N_47 {h : ah_T} {a : Nat} (L : LY8 h a) : ah_ln h (a + 47) = 600 := (L.2 (0, 9, 70, 47, 44, 600) (List.mem_of_getElem? (i := 46) rfl)).2.2.2
theorem ly8_A_47 {h : ah_T} {a : Nat} {i : Int32} (L : LY8 h a) (hi : vp_in i 600) : aok h 44 (a + 47) i := ⟨ly8_K_47 L, by rw [ly8_N_47 L]; exact hi⟩
theorem ly8_R_0_71 {h : ah_T} {a : Nat} (L : LY8 h a) : ah_R h a 71 = a + 48 := (L.2 (0, 9, 71, 48, 44, 10) (List.mem_of_getElem? (i := 47) rfl)).2.1
theorem ly8_K_48 {h : ah_T} {a : Nat} (L : LY8 h a) : ah_kd h (a + 48) = 44 := (L.2 (0, 9, 71, 48, 44, 10) (List.mem_of_getElem? (i := 47) rfl)).2.2.1
theorem ly8_N_48 {h : ah_T} {a : Nat} (L : LY8 h a) : ah_ln h (a + 48) = 10 := (L.2 (0, 9, 71, 48, 44, 10) (List.mem_of_getElem? (i := 47) rfl)).2.2.2
theorem ly8_A_48 {h : ah_T} {a : Nat} {i : Int32} (L : LY8 h a) (hi : vp_in i 10) : aok h 44 (a + 48) i := ⟨ly8_K_48 L, by rw [ly8_N_48 L]; exact hi⟩
theorem ly8_R_0_73 {h : ah_T} {a : Nat} (L : LY8 h a) : ah_R h a 73 = a + 49 := (L.2 (0, 9, 73, 49, 41, 20) (List.mem_of_getElem? (i := 48) rfl)).2.1
theorem ly8_K_49 {h : ah_T} {a : Nat} (L : LY8 h a) : ah_kd h (a + 49) = 41 := (L.2 (0, 9, 73, 49, 41, 20) (List.mem_of_getElem? (i := 48) rfl)).2.2.1
theorem ly8_N_49 {h : ah_T} {a : Nat} (L : LY8 h a) : ah_ln h (a + 49) = 20 := (L.2 (0, 9, 73, 49, 41, 20) (List.mem_of_getElem? (i := 48) rfl)).2.2.2
theorem ly8_A_49 {h : ah_T} {a : Nat} {i : Int32} (L : LY8 h a) (hi : vp_in i 20) : aok h 41 (a + 49) i := ⟨ly8_K_49 L, by rw [ly8_N_49 L]; exact hi⟩
theorem ly8_R_0_74 {h : ah_T} {a : Nat} (L : LY8 h a) : ah_R h a 74 = a + 50 := (L.2 (0, 9, 74, 50, 41, 20) (List.mem_of_getElem? (i := 49) rfl)).2.1
theorem ly8_K_50 {h : ah_T} {a : Nat} (L : LY8 h a) : ah_kd h (a + 50) = 41 := (L.2 (0, 9, 74, 50, 41, 20) (List.mem_of_getElem? (i := 49) rfl)).2.2.1
theorem ly8_N_50 {h : ah_T} {a : Nat} (L : LY8 h a) : ah_ln h (a + 50) = 20 := (L.2 (0, 9, 74, 50, 41, 20) (List.mem_of_getElem? (i := 49) rfl)).2.2.2
theorem ly8_A_50 {h : ah_T} {a : Nat} {i : Int32} (L : LY8 h a) (hi : vp_in i 20) : aok h 41 (a + 50) i := ⟨ly8_K_50 L, by rw [ly8_N_50 L]; exact hi⟩
theorem ly8_R_0_75 {h : ah_T} {a : Nat} (L : LY8 h a) : ah_R h a 75 = a + 51 := (L.2 (0, 9, 75, 51, 41, 20) (List.mem_of_getElem? (i := 50) rfl)).2.1
theorem ly8_K_51 {h : ah_T} {a : Nat} (L : LY8 h a) : ah_kd h (a + 51) = 41 := (L.2 (0, 9, 75, 51, 41, 20) (List.mem_of_getElem? (i := 50) rfl)).2.2.1
theorem ly8_N_51 {h : ah_T} {a : Nat} (L : LY8 h a) : ah_ln h (a + 51) = 20 := (L.2 (0, 9, 75, 51, 41, 20) (List.mem_of_getElem? (i := 50) rfl)).2.2.2
theorem ly8_A_51 {h : ah_T} {a : Nat} {i : Int32} (L : LY8 h a) (hi : vp_in i 20) : aok h 41 (a + 51) i := ⟨ly8_K_51 L, by rw [ly8_N_51 L]; exact hi⟩
theorem ly8_R_0_76 {h : ah_T} {a : Nat} (L : LY8 h a) : ah_R h a 76 = a + 52 := (L.2 (0, 9, 76, 52, 41, 20) (List.mem_of_getElem? (i := 51) rfl)).2.1
theorem ly8_K_52 {h : ah_T} {a : Nat} (L : LY8 h a) : ah_kd h (a + 52) = 41 := (L.2 (0, 9, 76, 52, 41, 20) (List.mem_of_getElem? (i := 51) rfl)).2.2.1
theorem ly8_N_52 {h : ah_T} {a : Nat} (L : LY8 h a) : ah_ln h (a + 52) = 20 := (L.2 (0, 9, 76, 52, 41, 20) (List.mem_of_getElem? (i := 51) rfl)).2.2.2
theorem ly8_A_52 {h : ah_T} {a : Nat} {i : Int32} (L : LY8 h a) (hi : vp_in i 20) : aok h 41 (a + 52) i := ⟨ly8_K_52 L, by rw [ly8_N_52 L]; exact hi⟩
theorem ly8_R_0_79 {h : ah_T} {a : Nat} (L : LY8 h a) : ah_R h a 79 = a + 53 := (L.2 (0, 9, 79, 53, 40, 20) (List.mem_of_getElem? (i := 52) rfl)).2.1
theorem ly8_K_53 {h : ah_T} {a : Nat} (L : LY8 h a) : ah_kd h (a + 53) = 40 := (L.2 (0, 9, 79, 53, 40, 20) (List.mem_of_getElem? (i := 52) rfl)).2.2.1
theorem ly8_N_53 {h : ah_T} {a : Nat} (L : LY8 h a) : ah_ln h (a + 53) = 20 := (L.2 (0, 9, 79, 53, 40, 20) (List.mem_of_getElem? (i := 52) rfl)).2.2.2
theorem ly8_A_53 {h : ah_T} {a : Nat} {i : Int32} (L : LY8 h a) (hi : vp_in i 20) : aok h 40 (a + 53) i := ⟨ly8_K_53 L, by rw [ly8_N_53 L]; exact hi⟩
theorem ly8_R_0_80 {h : ah_T} {a : Nat} (L : LY8 h a) : ah_R h a 80 = a + 54 := (L.2 (0, 9, 80, 54, 40, 20) (List.mem_of_getElem? (i := 53) rfl)).2.1
theorem ly8_K_54 {h : ah_T} {a : Nat} (L : LY8 h a) : ah_kd h (a + 54) = 40 := (L.2 (0, 9, 80, 54, 40, 20) (List.mem_of_getElem? (i := 53) rfl)).2.2.1
theorem ly8_N_54 {h : ah_T} {a : Nat} (L : LY8 h a) : ah_ln h (a + 54) = 20 := (L.2 (0, 9, 80, 54, 40, 20) (List.mem_of_getElem? (i := 53) rfl)).2.2.2
theorem ly8_A_54 {h : ah_T} {a : Nat} {i : Int32} (L : LY8 h a) (hi : vp_in i 20) : aok h 40 (a + 54) i := ⟨ly8_K_54 L, by rw [ly8_N_54 L]; exact hi⟩
theorem ly8_R_0_81 {h : ah_T} {a : Nat} (L : LY8 h a) : ah_R h a 81 = a + 55 := (L.2 (0, 9, 81, 55, 40, 20) (List.mem_of_getElem? (i := 54) rfl)).2.1
theorem ly8_K_55 {h : ah_T} {a : Nat} (L : LY8 h a) : ah_kd h (a + 55) = 40 := (L.2 (0, 9, 81, 55, 40, 20) (List.mem_of_getElem? (i := 54) rfl)).2.2.1
theorem ly8_N_55 {h : ah_T} {a : Nat} (L : LY8 h a) : ah_ln h (a + 55) = 20 := (L.2 (0, 9, 81, 55, 40, 20) (List.mem_of_getElem? (i := 54) rfl)).2.2.2
theorem ly8_A_55 {h : ah_T} {a : Nat} {i : Int32} (L : LY8 h a) (hi : vp_in i 20) : aok h 40 (a + 55) i := ⟨ly8_K_55 L, by rw [ly8_N_55 L]; exact hi⟩
theorem ly8_R_0_82 {h : ah_T} {a : Nat} (L : LY8 h a) : ah_R h a 82 = a + 56 := (L.2 (0, 9, 82, 56, 40, 60) (List.mem_of_getElem? (i := 55) rfl)).2.1
theorem ly8_K_56 {h : ah_T} {a : Nat} (L : LY8 h a) : ah_kd h (a + 56) = 40 := (L.2 (0, 9, 82, 56, 40, 60) (List.mem_of_getElem? (i := 55) rfl)).2.2.1
theorem ly8_N_56 {h : ah_T} {a : Nat} (L : LY8 h a) : ah_ln h (a + 56) = 60 := (L.2 (0, 9, 82, 56, 40, 60) (List.mem_of_getElem? (i := 55) rfl)).2.2.2
theorem ly8_A_56 {h : ah_T} {a : Nat} {i : Int32} (L : LY8 h a) (hi : vp_in i 60) : aok h 40 (a + 56) i := ⟨ly8_K_56 L, by rw [ly8_N_56 L]; exact hi⟩
theorem ly8_R_0_83 {h : ah_T} {a : Nat} (L : LY8 h a) : ah_R h a 83 = a + 57 := (L.2 (0, 9, 83, 57, 40, 60) (List.mem_of_getElem? (i := 56) rfl)).2.1
theorem ly8_K_57 {h : ah_T} {a : Nat} (L : LY8 h a) : ah_kd h (a + 57) = 40 := (L.2 (0, 9, 83, 57, 40, 60) (List.mem_of_getElem? (i := 56) rfl)).2.2.1
theorem ly8_N_57 {h : ah_T} {a : Nat} (L : LY8 h a) : ah_ln h (a + 57) = 60 := (L.2 (0, 9, 83, 57, 40, 60) (List.mem_of_getElem? (i := 56) rfl)).2.2.2
theorem ly8_A_57 {h : ah_T} {a : Nat} {i : Int32} (L : LY8 h a) (hi : vp_in i 60) : aok h 40 (a + 57) i := ⟨ly8_K_57 L, by rw [ly8_N_57 L]; exact hi⟩
theorem ly8_R_0_84 {h : ah_T} {a : Nat} (L : LY8 h a) : ah_R h a 84 = a + 58 := (L.2 (0, 9, 84, 58, 40, 60) (List.mem_of_getElem? (i := 57) rfl)).2.1
theorem ly8_K_58 {h : ah_T} {a : Nat} (L : LY8 h a) : ah_kd h (a + 58) = 40 := (L.2 (0, 9, 84, 58, 40, 60) (List.mem_of_getElem? (i := 57) rfl)).2.2.1
theorem ly8_N_58 {h : ah_T} {a : Nat} (L : LY8 h a) : ah_ln h (a + 58) = 60 := (L.2 (0, 9, 84, 58, 40, 60) (List.mem_of_getElem? (i := 57) rfl)).2.2.2
theorem ly8_A_58 {h : ah_T} {a : Nat} {i : Int32} (L : LY8 h a) (hi : vp_in i 60) : aok h 40 (a + 58) i := ⟨ly8_K_58 L, by rw [ly8_N_58 L]; exact hi⟩
theorem ly8_R_0_85 {h : ah_T} {a : Nat} (L : LY8 h a) : ah_R h a 85 = a + 59 := (L.2 (0, 9, 85, 59, 40, 60) (List.mem_of_getElem? (i := 58) rfl)).2.1
theorem ly8_K_59 {h : ah_T} {a : Nat} (L : LY8 h a) : ah_kd h (a + 59) = 40 := (L.2 (0, 9, 85, 59, 40, 60) (List.mem_of_getElem? (i := 58) rfl)).2.2.1
theorem ly8_N_59 {h : ah_T} {a : Nat} (L : LY8 h a) : ah_ln h (a + 59) = 60 := (L.2 (0, 9, 85, 59, 40, 60) (List.mem_of_getElem? (i := 58) rfl)).2.2.2
theorem ly8_A_59 {h : ah_T} {a : Nat} {i : Int32} (L : LY8 h a) (hi : vp_in i 60) : aok h 40 (a + 59) i := ⟨ly8_K_59 L, by rw [ly8_N_59 L]; exact hi⟩
theorem ly8_R_0_86 {h : ah_T} {a : Nat} (L : LY8 h a) : ah_R h a 86 = a + 60 := (L.2 (0, 9, 86, 60, 40, 520) (List.mem_of_getElem? (i := 59) rfl)).2.1
theorem ly8_K_60 {h : ah_T} {a : Nat} (L : LY8 h a) : ah_kd h (a + 60) = 40 := (L.2 (0, 9, 86, 60, 40, 520) (List.mem_of_getElem? (i := 59) rfl)).2.2.1
theorem ly8_N_60 {h : ah_T} {a : Nat} (L : LY8 h a) : ah_ln h (a + 60) = 520 := (L.2 (0, 9, 86, 60, 40, 520) (List.mem_of_getElem? (i := 59) rfl)).2.2.2
theorem ly8_A_60 {h : ah_T} {a : Nat} {i : Int32} (L : LY8 h a) (hi : vp_in i 520) : aok h 40 (a + 60) i := ⟨ly8_K_60 L, by rw [ly8_N_60 L]; exact hi⟩
theorem ly8_R_0_87 {h : ah_T} {a : Nat} (L : LY8 h a) : ah_R h a 87 = a + 61 := (L.2 (0, 9, 87, 61, 44, 200) (List.mem_of_getElem? (i := 60) rfl)).2.1
theorem ly8_K_61 {h : ah_T} {a : Nat} (L : LY8 h a) : ah_kd h (a + 61) = 44 := (L.2 (0, 9, 87, 61, 44, 200) (List.mem_of_getElem? (i := 60) rfl)).2.2.1
theorem ly8_N_61 {h : ah_T} {a : Nat} (L : LY8 h a) : ah_ln h (a + 61) = 200 := (L.2 (0, 9, 87, 61, 44, 200) (List.mem_of_getElem? (i := 60) rfl)).2.2.2
theorem ly8_A_61 {h : ah_T} {a : Nat} {i : Int32} (L : LY8 h a) (hi : vp_in i 200) : aok h 44 (a + 61) i := ⟨ly8_K_61 L, by rw [ly8_N_61 L]; exact hi⟩
theorem ly8_R_0_91 {h : ah_T} {a : Nat} (L : LY8 h a) : ah_R h a 91 = a + 62 := (L.2 (0, 9, 91, 62, 40, 20) (List.mem_of_getElem? (i := 61) rfl)).2.1
theorem ly8_K_62 {h : ah_T} {a : Nat} (L : LY8 h a) : ah_kd h (a + 62) = 40 := (L.2 (0, 9, 91, 62, 40, 20) (List.mem_of_getElem? (i := 61) rfl)).2.2.1
theorem ly8_N_62 {h : ah_T} {a : Nat} (L : LY8 h a) : ah_ln h (a + 62) = 20 := (L.2 (0, 9, 91, 62, 40, 20) (List.mem_of_getElem? (i := 61) rfl)).2.2.2
theorem ly8_A_62 {h : ah_T} {a : Nat} {i : Int32} (L : LY8 h a) (hi : vp_in i 20) : aok h 40 (a + 62) i := ⟨ly8_K_62 L, by rw [ly8_N_62 L]; exact hi⟩
theorem ly8_R_0_92 {h : ah_T} {a : Nat} (L : LY8 h a) : ah_R h a 92 = a + 63 := (L.2 (0, 9, 92, 63, 40, 6) (List.mem_of_getElem? (i := 62) rfl)).2.1
theorem ly8_K_63 {h : ah_T} {a : Nat} (L : LY8 h a) : ah_kd h (a + 63) = 40 := (L.2 (0, 9, 92, 63, 40, 6) (List.mem_of_getElem? (i := 62) rfl)).2.2.1
theorem ly8_N_63 {h : ah_T} {a : Nat} (L : LY8 h a) : ah_ln h (a + 63) = 6 := (L.2 (0, 9, 92, 63, 40, 6) (List.mem_of_getElem? (i := 62) rfl)).2.2.2
theorem ly8_A_63 {h : ah_T} {a : Nat} {i : Int32} (L : LY8 h a) (hi : vp_in i 6) : aok h 40 (a + 63) i := ⟨ly8_K_63 L, by rw [ly8_N_63 L]; exact hi⟩
theorem ly8_R_0_93 {h : ah_T} {a : Nat} (L : LY8 h a) : ah_R h a 93 = a + 64 := (L.2 (0, 9, 93, 64, 41, 6) (List.mem_of_getElem? (i := 63) rfl)).2.1
theorem ly8_K_64 {h : ah_T} {a : Nat} (L : LY8 h a) : ah_kd h (a + 64) = 41 := (L.2 (0, 9, 93, 64, 41, 6) (List.mem_of_getElem? (i := 63) rfl)).2.2.1
theorem ly8_N_64 {h : ah_T} {a : Nat} (L : LY8 h a) : ah_ln h (a + 64) = 6 := (L.2 (0, 9, 93, 64, 41, 6) (List.mem_of_getElem? (i := 63) rfl)).2.2.2
theorem ly8_A_64 {h : ah_T} {a : Nat} {i : Int32} (L : LY8 h a) (hi : vp_in i 6) : aok h 41 (a + 64) i := ⟨ly8_K_64 L, by rw [ly8_N_64 L]; exact hi⟩
theorem ly8_R_0_94 {h : ah_T} {a : Nat} (L : LY8 h a) : ah_R h a 94 = a + 65 := (L.2 (0, 9, 94, 65, 41, 6) (List.mem_of_getElem? (i := 64) rfl)).2.1
theorem ly8_K_65 {h : ah_T} {a : Nat} (L : LY8 h a) : ah_kd h (a + 65) = 41 := (L.2 (0, 9, 94, 65, 41, 6) (List.mem_of_getElem? (i := 64) rfl)).2.2.1
theorem ly8_N_65 {h : ah_T} {a : Nat} (L : LY8 h a) : ah_ln h (a + 65) = 6 := (L.2 (0, 9, 94, 65, 41, 6) (List.mem_of_getElem? (i := 64) rfl)).2.2.2
theorem ly8_A_65 {h : ah_T} {a : Nat} {i : Int32} (L : LY8 h a) (hi : vp_in i 6) : aok h 41 (a + 65) i := ⟨ly8_K_65 L, by rw [ly8_N_65 L]; exact hi⟩
theorem ly8_R_0_95 {h : ah_T} {a : Nat} (L : LY8 h a) : ah_R h a 95 = a + 66 := (L.2 (0, 9, 95, 66, 41, 20) (List.mem_of_getElem? (i := 65) rfl)).2.1
theorem ly8_K_66 {h : ah_T} {a : Nat} (L : LY8 h a) : ah_kd h (a + 66) = 41 := (L.2 (0, 9, 95, 66, 41, 20) (List.mem_of_getElem? (i := 65) rfl)).2.2.1
theorem ly8_N_66 {h : ah_T} {a : Nat} (L : LY8 h a) : ah_ln h (a + 66) = 20 := (L.2 (0, 9, 95, 66, 41, 20) (List.mem_of_getElem? (i := 65) rfl)).2.2.2
theorem ly8_A_66 {h : ah_T} {a : Nat} {i : Int32} (L : LY8 h a) (hi : vp_in i 20) : aok h 41 (a + 66) i := ⟨ly8_K_66 L, by rw [ly8_N_66 L]; exact hi⟩
theorem ly8_R_0_96 {h : ah_T} {a : Nat} (L : LY8 h a) : ah_R h a 96 = a + 67 := (L.2 (0, 9, 96, 67, 40, 8) (List.mem_of_getElem? (i := 66) rfl)).2.1
theorem ly8_K_67 {h : ah_T} {a : Nat} (L : LY8 h a) : ah_kd h (a + 67) = 40 := (L.2 (0, 9, 96, 67, 40, 8) (List.mem_of_getElem? (i := 66) rfl)).2.2.1
theorem ly8_N_67 {h : ah_T} {a : Nat} (L : LY8 h a) : ah_ln h (a + 67) = 8 := (L.2 (0, 9, 96, 67, 40, 8) (List.mem_of_getElem? (i := 66) rfl)).2.2.2
theorem ly8_A_67 {h : ah_T} {a : Nat} {i : Int32} (L : LY8 h a) (hi : vp_in i 8) : aok h 40 (a + 67) i := ⟨ly8_K_67 L, by rw [ly8_N_67 L]; exact hi⟩
theorem ly8_R_0_97 {h : ah_T} {a : Nat} (L : LY8 h a) : ah_R h a 97 = a + 68 := (L.2 (0, 9, 97, 68, 40, 8) (List.mem_of_getElem? (i := 67) rfl)).2.1
theorem ly8_K_68 {h : ah_T} {a : Nat} (L : LY8 h a) : ah_kd h (a + 68) = 40 := (L.2 (0, 9, 97, 68, 40, 8) (List.mem_of_getElem? (i := 67) rfl)).2.2.1
theorem ly8_N_68 {h : ah_T} {a : Nat} (L : LY8 h a) : ah_ln h (a + 68) = 8 := (L.2 (0, 9, 97, 68, 40, 8) (List.mem_of_getElem? (i := 67) rfl)).2.2.2
theorem ly8_A_68 {h : ah_T} {a : Nat} {i : Int32} (L : LY8 h a) (hi : vp_in i 8) : aok h 40 (a + 68) i := ⟨ly8_K_68 L, by rw [ly8_N_68 L]; exact hi⟩
theorem ly8_R_0_98 {h : ah_T} {a : Nat} (L : LY8 h a) : ah_R h a 98 = a + 69 := (L.2 (0, 9, 98, 69, 40, 20) (List.mem_of_getElem? (i := 68) rfl)).2.1
theorem ly8_K_69 {h : ah_T} {a : Nat} (L : LY8 h a) : ah_kd h (a + 69) = 40 := (L.2 (0, 9, 98, 69, 40, 20) (List.mem_of_getElem? (i := 68) rfl)).2.2.1
theorem ly8_N_69 {h : ah_T} {a : Nat} (L : LY8 h a) : ah_ln h (a + 69) = 20 := (L.2 (0, 9, 98, 69, 40, 20) (List.mem_of_getElem? (i := 68) rfl)).2.2.2
theorem ly8_A_69 {h : ah_T} {a : Nat} {i : Int32} (L : LY8 h a) (hi : vp_in i 20) : aok h 40 (a + 69) i := ⟨ly8_K_69 L, by rw [ly8_N_69 L]; exact hi⟩
theorem ly8_R_0_99 {h : ah_T} {a : Nat} (L : LY8 h a) : ah_R h a 99 = a + 70 := (L.2 (0, 9, 99, 70, 40, 5376) (List.mem_of_getElem? (i := 69) rfl)).2.1
theorem ly8_K_70 {h : ah_T} {a : Nat} (L : LY8 h a) : ah_kd h (a + 70) = 40 := (L.2 (0, 9, 99, 70, 40, 5376) (List.mem_of_getElem? (i := 69) rfl)).2.2.1
theorem ly8_N_70 {h : ah_T} {a : Nat} (L : LY8 h a) : ah_ln h (a + 70) = 5376 := (L.2 (0, 9, 99, 70, 40, 5376) (List.mem_of_getElem? (i := 69) rfl)).2.2.2
theorem ly8_A_70 {h : ah_T} {a : Nat} {i : Int32} (L : LY8 h a) (hi : vp_in i 5376) : aok h 40 (a + 70) i := ⟨ly8_K_70 L, by rw [ly8_N_70 L]; exact hi⟩
theorem ly8_R_0_100 {h : ah_T} {a : Nat} (L : LY8 h a) : ah_R h a 100 = a + 71 := (L.2 (0, 9, 100, 71, 40, 5) (List.mem_of_getElem? (i := 70) rfl)).2.1
theorem ly8_K_71 {h : ah_T} {a : Nat} (L : LY8 h a) : ah_kd h (a + 71) = 40 := (L.2 (0, 9, 100, 71, 40, 5) (List.mem_of_getElem? (i := 70) rfl)).2.2.1
theorem ly8_N_71 {h : ah_T} {a : Nat} (L : LY8 h a) : ah_ln h (a + 71) = 5 := (L.2 (0, 9, 100, 71, 40, 5) (List.mem_of_getElem? (i := 70) rfl)).2.2.2
theorem ly8_A_71 {h : ah_T} {a : Nat} {i : Int32} (L : LY8 h a) (hi : vp_in i 5) : aok h 40 (a + 71) i := ⟨ly8_K_71 L, by rw [ly8_N_71 L]; exact hi⟩
theorem ly8_R_0_101 {h : ah_T} {a : Nat} (L : LY8 h a) : ah_R h a 101 = a + 72 := (L.2 (0, 9, 101, 72, 40, 4) (List.mem_of_getElem? (i := 71) rfl)).2.1
theorem ly8_K_72 {h : ah_T} {a : Nat} (L : LY8 h a) : ah_kd h (a + 72) = 40 := (L.2 (0, 9, 101, 72, 40, 4) (List.mem_of_getElem? (i := 71) rfl)).2.2.1
theorem ly8_N_72 {h : ah_T} {a : Nat} (L : LY8 h a) : ah_ln h (a + 72) = 4 := (L.2 (0, 9, 101, 72, 40, 4) (List.mem_of_getElem? (i := 71) rfl)).2.2.2
theorem ly8_A_72 {h : ah_T} {a : Nat} {i : Int32} (L : LY8 h a) (hi : vp_in i 4) : aok h 40 (a + 72) i := ⟨ly8_K_72 L, by rw [ly8_N_72 L]; exact hi⟩
theorem ly8_R_0_102 {h : ah_T} {a : Nat} (L : LY8 h a) : ah_R h a 102 = a + 73 := (L.2 (0, 9, 102, 73, 40, 20) (List.mem_of_getElem? (i := 72) rfl)).2.1
theorem ly8_K_73 {h : ah_T} {a : Nat} (L : LY8 h a) : ah_kd h (a + 73) = 40 := (L.2 (0, 9, 102, 73, 40, 20) (List.mem_of_getElem? (i := 72) rfl)).2.2.1
theorem ly8_N_73 {h : ah_T} {a : Nat} (L : LY8 h a) : ah_ln h (a + 73) = 20 := (L.2 (0, 9, 102, 73, 40, 20) (List.mem_of_getElem? (i := 72) rfl)).2.2.2
theorem ly8_A_73 {h : ah_T} {a : Nat} {i : Int32} (L : LY8 h a) (hi : vp_in i 20) : aok h 40 (a + 73) i := ⟨ly8_K_73 L, by rw [ly8_N_73 L]; exact hi⟩
theorem ly8_R_0_103 {h : ah_T} {a : Nat} (L : LY8 h a) : ah_R h a 103 = a + 74 := (L.2 (0, 9, 103, 74, 40, 20) (List.mem_of_getElem? (i := 73) rfl)).2.1
theorem ly8_K_74 {h : ah_T} {a : Nat} (L : LY8 h a) : ah_kd h (a + 74) = 40 := (L.2 (0, 9, 103, 74, 40, 20) (List.mem_of_getElem? (i := 73) rfl)).2.2.1
theorem ly8_N_74 {h : ah_T} {a : Nat} (L : LY8 h a) : ah_ln h (a + 74) = 20 := (L.2 (0, 9, 103, 74, 40, 20) (List.mem_of_getElem? (i := 73) rfl)).2.2.2
theorem ly8_A_74 {h : ah_T} {a : Nat} {i : Int32} (L : LY8 h a) (hi : vp_in i 20) : aok h 40 (a + 74) i := ⟨ly8_K_74 L, by rw [ly8_N_74 L]; exact hi⟩
theorem ly8_R_0_104 {h : ah_T} {a : Nat} (L : LY8 h a) : ah_R h a 104 = a + 75 := (L.2 (0, 9, 104, 75, 40, 11) (List.mem_of_getElem? (i := 74) rfl)).2.1
theorem ly8_K_75 {h : ah_T} {a : Nat} (L : LY8 h a) : ah_kd h (a + 75) = 40 := (L.2 (0, 9, 104, 75, 40, 11) (List.mem_of_getElem? (i := 74) rfl)).2.2.1
theorem ly8_N_75 {h : ah_T} {a : Nat} (L : LY8 h a) : ah_ln h (a + 75) = 11 := (L.2 (0, 9, 104, 75, 40, 11) (List.mem_of_getElem? (i := 74) rfl)).2.2.2
theorem ly8_A_75 {h : ah_T} {a : Nat} {i : Int32} (L : LY8 h a) (hi : vp_in i 11) : aok h 40 (a + 75) i := ⟨ly8_K_75 L, by rw [ly8_N_75 L]; exact hi⟩
theorem ly8_R_0_105 {h : ah_T} {a : Nat} (L : LY8 h a) : ah_R h a 105 = a + 76 := (L.2 (0, 9, 105, 76, 40, 11) (List.mem_of_getElem? (i := 75) rfl)).2.1
theorem ly8_K_76 {h : ah_T} {a : Nat} (L : LY8 h a) : ah_kd h (a + 76) = 40 := (L.2 (0, 9, 105, 76, 40, 11) (List.mem_of_getElem? (i := 75) rfl)).2.2.1
theorem ly8_N_76 {h : ah_T} {a : Nat} (L : LY8 h a) : ah_ln h (a + 76) = 11 := (L.2 (0, 9, 105, 76, 40, 11) (List.mem_of_getElem? (i := 75) rfl)).2.2.2
theorem ly8_A_76 {h : ah_T} {a : Nat} {i : Int32} (L : LY8 h a) (hi : vp_in i 11) : aok h 40 (a + 76) i := ⟨ly8_K_76 L, by rw [ly8_N_76 L]; exact hi⟩
theorem ly8_R_0_106 {h : ah_T} {a : Nat} (L : LY8 h a) : ah_R h a 106 = a + 77 := (L.2 (0, 9, 106, 77, 40, 8) (List.mem_of_getElem? (i := 76) rfl)).2.1
theorem ly8_K_77 {h : ah_T} {a : Nat} (L : LY8 h a) : ah_kd h (a + 77) = 40 := (L.2 (0, 9, 106, 77, 40, 8) (List.mem_of_getElem? (i := 76) rfl)).2.2.1
theorem ly8_N_77 {h : ah_T} {a : Nat} (L : LY8 h a) : ah_ln h (a + 77) = 8 := (L.2 (0, 9, 106, 77, 40, 8) (List.mem_of_getElem? (i := 76) rfl)).2.2.2
theorem ly8_A_77 {h : ah_T} {a : Nat} {i : Int32} (L : LY8 h a) (hi : vp_in i 8) : aok h 40 (a + 77) i := ⟨ly8_K_77 L, by rw [ly8_N_77 L]; exact hi⟩
theorem ly2_k {h : ah_T} {a : Nat} (L : LY2 h a) : ah_kd h a = 3 := L.1
theorem ly2_R_0_0 {h : ah_T} {a : Nat} (L : LY2 h a) : ah_R h a 0 = a + 1 := (L.2 (0, 3, 0, 1, 41, 20) (List.mem_of_getElem? (i := 0) rfl)).2.1
theorem ly2_K_1 {h : ah_T} {a : Nat} (L : LY2 h a) : ah_kd h (a + 1) = 41 := (L.2 (0, 3, 0, 1, 41, 20) (List.mem_of_getElem? (i := 0) rfl)).2.2.1
theorem ly2_N_1 {h : ah_T} {a : Nat} (L : LY2 h a) : ah_ln h (a + 1) = 20 := (L.2 (0, 3, 0, 1, 41, 20) (List.mem_of_getElem? (i := 0) rfl)).2.2.2
theorem ly2_A_1 {h : ah_T} {a : Nat} {i : Int32} (L : LY2 h a) (hi : vp_in i 20) : aok h 41 (a + 1) i := ⟨ly2_K_1 L, by rw [ly2_N_1 L]; exact hi⟩
theorem ly2_R_0_1 {h : ah_T} {a : Nat} (L : LY2 h a) : ah_R h a 1 = a + 2 := (L.2 (0, 3, 1, 2, 41, 20) (List.mem_of_getElem? (i := 1) rfl)).2.1
theorem ly2_K_2 {h : ah_T} {a : Nat} (L : LY2 h a) : ah_kd h (a + 2) = 41 := (L.2 (0, 3, 1, 2, 41, 20) (List.mem_of_getElem? (i := 1) rfl)).2.2.1
theorem ly2_N_2 {h : ah_T} {a : Nat} (L : LY2 h a) : ah_ln h (a + 2) = 20 := (L.2 (0, 3, 1, 2, 41, 20) (List.mem_of_getElem? (i := 1) rfl)).2.2.2
theorem ly2_A_2 {h : ah_T} {a : Nat} {i : Int32} (L : LY2 h a) (hi : vp_in i 20) : aok h 41 (a + 2) i := ⟨ly2_K_2 L, by rw [ly2_N_2 L]; exact hi⟩
theorem ly2_R_0_2 {h : ah_T} {a : Nat} (L : LY2 h a) : ah_R h a 2 = a + 3 := (L.2 (0, 3, 2, 3, 41, 20) (List.mem_of_getElem? (i := 2) rfl)).2.1
theorem ly2_K_3 {h : ah_T} {a : Nat} (L : LY2 h a) : ah_kd h (a + 3) = 41 := (L.2 (0, 3, 2, 3, 41, 20) (List.mem_of_getElem? (i := 2) rfl)).2.2.1
theorem ly2_N_3 {h : ah_T} {a : Nat} (L : LY2 h a) : ah_ln h (a + 3) = 20 := (L.2 (0, 3, 2, 3, 41, 20) (List.mem_of_getElem? (i := 2) rfl)).2.2.2
theorem ly2_A_3 {h : ah_T} {a : Nat} {i : Int32} (L : LY2 h a) (hi : vp_in i 20) : aok h 41 (a + 3) i := ⟨ly2_K_3 L, by rw [ly2_N_3 L]; exact hi⟩
theorem ly3_k {h : ah_T} {a : Nat} (L : LY3 h a) : ah_kd h a = 4 := L.1
theorem ly3_R_0_0 {h : ah_T} {a : Nat} (L : LY3 h a) : ah_R h a 0 = a + 1 := (L.2 (0, 4, 0, 1, 40, 20) (List.mem_of_getElem? (i := 0) rfl)).2.1
theorem ly3_K_1 {h : ah_T} {a : Nat} (L : LY3 h a) : ah_kd h (a + 1) = 40 := (L.2 (0, 4, 0, 1, 40, 20) (List.mem_of_getElem? (i := 0) rfl)).2.2.1
theorem ly3_N_1 {h : ah_T} {a : Nat} (L : LY3 h a) : ah_ln h (a + 1) = 20 := (L.2 (0, 4, 0, 1, 40, 20) (List.mem_of_getElem? (i := 0) rfl)).2.2.2
theorem ly3_A_1 {h : ah_T} {a : Nat} {i : Int32} (L : LY3 h a) (hi : vp_in i 20) : aok h 40 (a + 1) i := ⟨ly3_K_1 L, by rw [ly3_N_1 L]; exact hi⟩
theorem ly5_k {h : ah_T} {a : Nat} (L : LY5 h a) : ah_kd h a = 6 := L.1
theorem ly5_R_0_0 {h : ah_T} {a : Nat} (L : LY5 h a) : ah_R h a 0 = a + 1 := (L.2 (0, 6, 0, 1, 42, 500) (List.mem_of_getElem? (i := 0) rfl)).2.1
theorem ly5_K_1 {h : ah_T} {a : Nat} (L : LY5 h a) : ah_kd h (a + 1) = 42 := (L.2 (0, 6, 0, 1, 42, 500) (List.mem_of_getElem? (i := 0) rfl)).2.2.1
theorem ly5_N_1 {h : ah_T} {a : Nat} (L : LY5 h a) : ah_ln h (a + 1) = 500 := (L.2 (0, 6, 0, 1, 42, 500) (List.mem_of_getElem? (i := 0) rfl)).2.2.2
theorem ly5_A_1 {h : ah_T} {a : Nat} {i : Int32} (L : LY5 h a) (hi : vp_in i 500) : aok h 42 (a + 1) i := ⟨ly5_K_1 L, by rw [ly5_N_1 L]; exact hi⟩
theorem ly6_k {h : ah_T} {a : Nat} (L : LY6 h a) : ah_kd h a = 7 := L.1
theorem ly6_R_0_0 {h : ah_T} {a : Nat} (L : LY6 h a) : ah_R h a 0 = a + 1 := (L.2 (0, 7, 0, 1, 41, 11) (List.mem_of_getElem? (i := 0) rfl)).2.1
theorem ly6_K_1 {h : ah_T} {a : Nat} (L : LY6 h a) : ah_kd h (a + 1) = 41 := (L.2 (0, 7, 0, 1, 41, 11) (List.mem_of_getElem? (i := 0) rfl)).2.2.1
theorem ly6_N_1 {h : ah_T} {a : Nat} (L : LY6 h a) : ah_ln h (a + 1) = 11 := (L.2 (0, 7, 0, 1, 41, 11) (List.mem_of_getElem? (i := 0) rfl)).2.2.2
theorem ly6_A_1 {h : ah_T} {a : Nat} {i : Int32} (L : LY6 h a) (hi : vp_in i 11) : aok h 41 (a + 1) i := ⟨ly6_K_1 L, by rw [ly6_N_1 L]; exact hi⟩
theorem ly6_R_0_1 {h : ah_T} {a : Nat} (L : LY6 h a) : ah_R h a 1 = a + 2 := (L.2 (0, 7, 1, 2, 41, 10) (List.mem_of_getElem? (i := 1) rfl)).2.1
theorem ly6_K_2 {h : ah_T} {a : Nat} (L : LY6 h a) : ah_kd h (a + 2) = 41 := (L.2 (0, 7, 1, 2, 41, 10) (List.mem_of_getElem? (i := 1) rfl)).2.2.1
theorem ly6_N_2 {h : ah_T} {a : Nat} (L : LY6 h a) : ah_ln h (a + 2) = 10 := (L.2 (0, 7, 1, 2, 41, 10) (List.mem_of_getElem? (i := 1) rfl)).2.2.2
theorem ly6_A_2 {h : ah_T} {a : Nat} {i : Int32} (L : LY6 h a) (hi : vp_in i 10) : aok h 41 (a + 2) i := ⟨ly6_K_2 L, by rw [ly6_N_2 L]; exact hi⟩
theorem ly6_R_0_2 {h : ah_T} {a : Nat} (L : LY6 h a) : ah_R h a 2 = a + 3 := (L.2 (0, 7, 2, 3, 44, 10) (List.mem_of_getElem? (i := 2) rfl)).2.1
theorem ly6_K_3 {h : ah_T} {a : Nat} (L : LY6 h a) : ah_kd h (a + 3) = 44 := (L.2 (0, 7, 2, 3, 44, 10) (List.mem_of_getElem? (i := 2) rfl)).2.2.1
theorem ly6_N_3 {h : ah_T} {a : Nat} (L : LY6 h a) : ah_ln h (a + 3) = 10 := (L.2 (0, 7, 2, 3, 44, 10) (List.mem_of_getElem? (i := 2) rfl)).2.2.2
theorem ly6_A_3 {h : ah_T} {a : Nat} {i : Int32} (L : LY6 h a) (hi : vp_in i 10) : aok h 44 (a + 3) i := ⟨ly6_K_3 L, by rw [ly6_N_3 L]; exact hi⟩
theorem ly17_k {h : ah_T} {a : Nat} (L : LY17 h a) : ah_kd h a = 16 := L.1
theorem ly17_R_0_0 {h : ah_T} {a : Nat} (L : LY17 h a) : ah_R h a 0 = a + 1 := (L.2 (0, 16, 0, 1, 41, 10) (List.mem_of_getElem? (i := 0) rfl)).2.1
theorem ly17_K_1 {h : ah_T} {a : Nat} (L : LY17 h a) : ah_kd h (a + 1) = 41 := (L.2 (0, 16, 0, 1, 41, 10) (List.mem_of_getElem? (i := 0) rfl)).2.2.1
theorem ly17_N_1 {h : ah_T} {a : Nat} (L : LY17 h a) : ah_ln h (a + 1) = 10 := (L.2 (0, 16, 0, 1, 41, 10) (List.mem_of_getElem? (i := 0) rfl)).2.2.2
theorem ly17_A_1 {h : ah_T} {a : Nat} {i : Int32} (L : LY17 h a) (hi : vp_in i 10) : aok h 41 (a + 1) i := ⟨ly17_K_1 L, by rw [ly17_N_1 L]; exact hi⟩
theorem ly17_R_0_1 {h : ah_T} {a : Nat} (L : LY17 h a) : ah_R h a 1 = a + 2 := (L.2 (0, 16, 1, 2, 50, 10) (List.mem_of_getElem? (i := 1) rfl)).2.1
theorem ly17_K_2 {h : ah_T} {a : Nat} (L : LY17 h a) : ah_kd h (a + 2) = 50 := (L.2 (0, 16, 1, 2, 50, 10) (List.mem_of_getElem? (i := 1) rfl)).2.2.1
theorem ly17_N_2 {h : ah_T} {a : Nat} (L : LY17 h a) : ah_ln h (a + 2) = 10 := (L.2 (0, 16, 1, 2, 50, 10) (List.mem_of_getElem? (i := 1) rfl)).2.2.2
theorem ly17_A_2 {h : ah_T} {a : Nat} {i : Int32} (L : LY17 h a) (hi : vp_in i 10) : aok h 50 (a + 2) i := ⟨ly17_K_2 L, by rw [ly17_N_2 L]; exact hi⟩
theorem ly1_k {h : ah_T} {a : Nat} (L : LY1 h a) : ah_kd h a = 2 := L.1.1
theorem ly1_R_0_0 {h : ah_T} {a : Nat} (L : LY1 h a) : ah_R h a 0 = a + 1 := (L.1.2 (0, 2, 0, 1, 53, 8) (List.mem_of_getElem? (i := 0) rfl)).2.1
theorem ly1_K_1 {h : ah_T} {a : Nat} (L : LY1 h a) : ah_kd h (a + 1) = 53 := (L.1.2 (0, 2, 0, 1, 53, 8) (List.mem_of_getElem? (i := 0) rfl)).2.2.1
theorem ly1_N_1 {h : ah_T} {a : Nat} (L : LY1 h a) : ah_ln h (a + 1) = 8 := (L.1.2 (0, 2, 0, 1, 53, 8) (List.mem_of_getElem? (i := 0) rfl)).2.2.2
theorem ly1_A_1 {h : ah_T} {a : Nat} {i : Int32} (L : LY1 h a) (hi : vp_in i 8) : aok h 53 (a + 1) i := ⟨ly1_K_1 L, by rw [ly1_N_1 L]; exact hi⟩
theorem ly1_R_0_1 {h : ah_T} {a : Nat} (L : LY1 h a) : ah_R h a 1 = a + 58 := (L.1.2 (0, 2, 1, 58, 53, 2) (List.mem_of_getElem? (i := 1) rfl)).2.1
theorem ly1_K_58 {h : ah_T} {a : Nat} (L : LY1 h a) : ah_kd h (a + 58) = 53 := (L.1.2 (0, 2, 1, 58, 53, 2) (List.mem_of_getElem? (i := 1) rfl)).2.2.1
theorem ly1_N_58 {h : ah_T} {a : Nat} (L : LY1 h a) : ah_ln h (a + 58) = 2 := (L.1.2 (0, 2, 1, 58, 53, 2) (List.mem_of_getElem? (i := 1) rfl)).2.2.2
theorem ly1_A_58 {h : ah_T} {a : Nat} {i : Int32} (L : LY1 h a) (hi : vp_in i 2) : aok h 53 (a + 58) i := ⟨ly1_K_58 L, by rw [ly1_N_58 L]; exact hi⟩
theorem ly1_R_0_2 {h : ah_T} {a : Nat} (L : LY1 h a) : ah_R h a 2 = a + 73 := (L.1.2 (0, 2, 2, 73, 52, 6) (List.mem_of_getElem? (i := 2) rfl)).2.1
theorem ly1_K_73 {h : ah_T} {a : Nat} (L : LY1 h a) : ah_kd h (a + 73) = 52 := (L.1.2 (0, 2, 2, 73, 52, 6) (List.mem_of_getElem? (i := 2) rfl)).2.2.1
theorem ly1_N_73 {h : ah_T} {a : Nat} (L : LY1 h a) : ah_ln h (a + 73) = 6 := (L.1.2 (0, 2, 2, 73, 52, 6) (List.mem_of_getElem? (i := 2) rfl)).2.2.2
theorem ly1_A_73 {h : ah_T} {a : Nat} {i : Int32} (L : LY1 h a) (hi : vp_in i 6) : aok h 52 (a + 73) i := ⟨ly1_K_73 L, by rw [ly1_N_73 L]; exact hi⟩
theorem ly1_R_0_3 {h : ah_T} {a : Nat} (L : LY1 h a) : ah_R h a 3 = a + 80 := (L.1.2 (0, 2, 3, 80, 55, 6) (List.mem_of_getElem? (i := 3) rfl)).2.1
theorem ly1_K_80 {h : ah_T} {a : Nat} (L : LY1 h a) : ah_kd h (a + 80) = 55 := (L.1.2 (0, 2, 3, 80, 55, 6) (List.mem_of_getElem? (i := 3) rfl)).2.2.1
theorem ly1_N_80 {h : ah_T} {a : Nat} (L : LY1 h a) : ah_ln h (a + 80) = 6 := (L.1.2 (0, 2, 3, 80, 55, 6) (List.mem_of_getElem? (i := 3) rfl)).2.2.2
theorem ly1_A_80 {h : ah_T} {a : Nat} {i : Int32} (L : LY1 h a) (hi : vp_in i 6) : aok h 55 (a + 80) i := ⟨ly1_K_80 L, by rw [ly1_N_80 L]; exact hi⟩
theorem ly1_R_0_4 {h : ah_T} {a : Nat} (L : LY1 h a) : ah_R h a 4 = a + 87 := (L.1.2 (0, 2, 4, 87, 40, 8) (List.mem_of_getElem? (i := 4) rfl)).2.1
theorem ly1_K_87 {h : ah_T} {a : Nat} (L : LY1 h a) : ah_kd h (a + 87) = 40 := (L.1.2 (0, 2, 4, 87, 40, 8) (List.mem_of_getElem? (i := 4) rfl)).2.2.1
theorem ly1_N_87 {h : ah_T} {a : Nat} (L : LY1 h a) : ah_ln h (a + 87) = 8 := (L.1.2 (0, 2, 4, 87, 40, 8) (List.mem_of_getElem? (i := 4) rfl)).2.2.2
theorem ly1_A_87 {h : ah_T} {a : Nat} {i : Int32} (L : LY1 h a) (hi : vp_in i 8) : aok h 40 (a + 87) i := ⟨ly1_K_87 L, by rw [ly1_N_87 L]; exact hi⟩
theorem ly1_R_0_5 {h : ah_T} {a : Nat} (L : LY1 h a) : ah_R h a 5 = a + 88 := (L.1.2 (0, 2, 5, 88, 40, 8) (List.mem_of_getElem? (i := 5) rfl)).2.1
theorem ly1_K_88 {h : ah_T} {a : Nat} (L : LY1 h a) : ah_kd h (a + 88) = 40 := (L.1.2 (0, 2, 5, 88, 40, 8) (List.mem_of_getElem? (i := 5) rfl)).2.2.1
theorem ly1_N_88 {h : ah_T} {a : Nat} (L : LY1 h a) : ah_ln h (a + 88) = 8 := (L.1.2 (0, 2, 5, 88, 40, 8) (List.mem_of_getElem? (i := 5) rfl)).2.2.2
theorem ly1_A_88 {h : ah_T} {a : Nat} {i : Int32} (L : LY1 h a) (hi : vp_in i 8) : aok h 40 (a + 88) i := ⟨ly1_K_88 L, by rw [ly1_N_88 L]; exact hi⟩
theorem ly1_R_0_6 {h : ah_T} {a : Nat} (L : LY1 h a) : ah_R h a 6 = a + 89 := (L.1.2 (0, 2, 6, 89, 40, 20) (List.mem_of_getElem? (i := 6) rfl)).2.1
theorem ly1_K_89 {h : ah_T} {a : Nat} (L : LY1 h a) : ah_kd h (a + 89) = 40 := (L.1.2 (0, 2, 6, 89, 40, 20) (List.mem_of_getElem? (i := 6) rfl)).2.2.1
theorem ly1_N_89 {h : ah_T} {a : Nat} (L : LY1 h a) : ah_ln h (a + 89) = 20 := (L.1.2 (0, 2, 6, 89, 40, 20) (List.mem_of_getElem? (i := 6) rfl)).2.2.2
theorem ly1_A_89 {h : ah_T} {a : Nat} {i : Int32} (L : LY1 h a) (hi : vp_in i 20) : aok h 40 (a + 89) i := ⟨ly1_K_89 L, by rw [ly1_N_89 L]; exact hi⟩
theorem ly1_R_0_7 {h : ah_T} {a : Nat} (L : LY1 h a) : ah_R h a 7 = a + 90 := (L.1.2 (0, 2, 7, 90, 40, 20) (List.mem_of_getElem? (i := 7) rfl)).2.1
theorem ly1_K_90 {h : ah_T} {a : Nat} (L : LY1 h a) : ah_kd h (a + 90) = 40 := (L.1.2 (0, 2, 7, 90, 40, 20) (List.mem_of_getElem? (i := 7) rfl)).2.2.1
theorem ly1_N_90 {h : ah_T} {a : Nat} (L : LY1 h a) : ah_ln h (a + 90) = 20 := (L.1.2 (0, 2, 7, 90, 40, 20) (List.mem_of_getElem? (i := 7) rfl)).2.2.2
theorem ly1_A_90 {h : ah_T} {a : Nat} {i : Int32} (L : LY1 h a) (hi : vp_in i 20) : aok h 40 (a + 90) i := ⟨ly1_K_90 L, by rw [ly1_N_90 L]; exact hi⟩
theorem ly1_R_0_8 {h : ah_T} {a : Nat} (L : LY1 h a) : ah_R h a 8 = a + 91 := (L.1.2 (0, 2, 8, 91, 40, 20) (List.mem_of_getElem? (i := 8) rfl)).2.1
theorem ly1_K_91 {h : ah_T} {a : Nat} (L : LY1 h a) : ah_kd h (a + 91) = 40 := (L.1.2 (0, 2, 8, 91, 40, 20) (List.mem_of_getElem? (i := 8) rfl)).2.2.1
theorem ly1_N_91 {h : ah_T} {a : Nat} (L : LY1 h a) : ah_ln h (a + 91) = 20 := (L.1.2 (0, 2, 8, 91, 40, 20) (List.mem_of_getElem? (i := 8) rfl)).2.2.2
theorem ly1_A_91 {h : ah_T} {a : Nat} {i : Int32} (L : LY1 h a) (hi : vp_in i 20) : aok h 40 (a + 91) i := ⟨ly1_K_91 L, by rw [ly1_N_91 L]; exact hi⟩
theorem ly1_R_0_9 {h : ah_T} {a : Nat} (L : LY1 h a) : ah_R h a 9 = a + 92 := (L.1.2 (0, 2, 9, 92, 40, 20) (List.mem_of_getElem? (i := 9) rfl)).2.1
theorem ly1_K_92 {h : ah_T} {a : Nat} (L : LY1 h a) : ah_kd h (a + 92) = 40 := (L.1.2 (0, 2, 9, 92, 40, 20) (List.mem_of_getElem? (i := 9) rfl)).2.2.1
theorem ly1_N_92 {h : ah_T} {a : Nat} (L : LY1 h a) : ah_ln h (a + 92) = 20 := (L.1.2 (0, 2, 9, 92, 40, 20) (List.mem_of_getElem? (i := 9) rfl)).2.2.2
theorem ly1_A_92 {h : ah_T} {a : Nat} {i : Int32} (L : LY1 h a) (hi : vp_in i 20) : aok h 40 (a + 92) i := ⟨ly1_K_92 L, by rw [ly1_N_92 L]; exact hi⟩
theorem ly1_R_93_0 {h : ah_T} {a : Nat} (L : LY1 h a) : ah_R h (a + 93) 0 = a + 94 := (L.1.2 (93, 3, 0, 94, 41, 20) (List.mem_of_getElem? (i := 10) rfl)).2.1
theorem ly1_K_94 {h : ah_T} {a : Nat} (L : LY1 h a) : ah_kd h (a + 94) = 41 := (L.1.2 (93, 3, 0, 94, 41, 20) (List.mem_of_getElem? (i := 10) rfl)).2.2.1
theorem ly1_N_94 {h : ah_T} {a : Nat} (L : LY1 h a) : ah_ln h (a + 94) = 20 := (L.1.2 (93, 3, 0, 94, 41, 20) (List.mem_of_getElem? (i := 10) rfl)).2.2.2
theorem ly1_A_94 {h : ah_T} {a : Nat} {i : Int32} (L : LY1 h a) (hi : vp_in i 20) : aok h 41 (a + 94) i := ⟨ly1_K_94 L, by rw [ly1_N_94 L]; exact hi⟩
theorem ly1_R_93_1 {h : ah_T} {a : Nat} (L : LY1 h a) : ah_R h (a + 93) 1 = a + 95 := (L.1.2 (93, 3, 1, 95, 41, 20) (List.mem_of_getElem? (i := 11) rfl)).2.1
theorem ly1_K_95 {h : ah_T} {a : Nat} (L : LY1 h a) : ah_kd h (a + 95) = 41 := (L.1.2 (93, 3, 1, 95, 41, 20) (List.mem_of_getElem? (i := 11) rfl)).2.2.1
theorem ly1_N_95 {h : ah_T} {a : Nat} (L : LY1 h a) : ah_ln h (a + 95) = 20 := (L.1.2 (93, 3, 1, 95, 41, 20) (List.mem_of_getElem? (i := 11) rfl)).2.2.2
theorem ly1_A_95 {h : ah_T} {a : Nat} {i : Int32} (L : LY1 h a) (hi : vp_in i 20) : aok h 41 (a + 95) i := ⟨ly1_K_95 L, by rw [ly1_N_95 L]; exact hi⟩
theorem ly1_R_93_2 {h : ah_T} {a : Nat} (L : LY1 h a) : ah_R h (a + 93) 2 = a + 96 := (L.1.2 (93, 3, 2, 96, 41, 20) (List.mem_of_getElem? (i := 12) rfl)).2.1
theorem ly1_K_96 {h : ah_T} {a : Nat} (L : LY1 h a) : ah_kd h (a + 96) = 41 := (L.1.2 (93, 3, 2, 96, 41, 20) (List.mem_of_getElem? (i := 12) rfl)).2.2.1
theorem ly1_N_96 {h : ah_T} {a : Nat} (L : LY1 h a) : ah_ln h (a + 96) = 20 := (L.1.2 (93, 3, 2, 96, 41, 20) (List.mem_of_getElem? (i := 12) rfl)).2.2.2
theorem ly1_A_96 {h : ah_T} {a : Nat} {i : Int32} (L : LY1 h a) (hi : vp_in i 20) : aok h 41 (a + 96) i := ⟨ly1_K_96 L, by rw [ly1_N_96 L]; exact hi⟩
theorem ly1_R_0_10 {h : ah_T} {a : Nat} (L : LY1 h a) : ah_R h a 10 = a + 93 := (L.1.2 (0, 2, 10, 93, 3, 0) (List.mem_of_getElem? (i := 13) rfl)).2.1
theorem ly1_K_93 {h : ah_T} {a : Nat} (L : LY1 h a) : ah_kd h (a + 93) = 3 := (L.1.2 (0, 2, 10, 93, 3, 0) (List.mem_of_getElem? (i := 13) rfl)).2.2.1
theorem ly0_k {h : ah_T} {a : Nat} (L : LY0 h a) : ah_kd h a = 1 := L.1.1
theorem ly0_R_0_0 {h : ah_T} {a : Nat} (L : LY0 h a) : ah_R h a 0 = a + 1 := (L.1.2 (0, 1, 0, 1, 45, 4) (List.mem_of_getElem? (i := 0) rfl)).2.1
theorem ly0_K_1 {h : ah_T} {a : Nat} (L : LY0 h a) : ah_kd h (a + 1) = 45 := (L.1.2 (0, 1, 0, 1, 45, 4) (List.mem_of_getElem? (i := 0) rfl)).2.2.1
theorem ly0_N_1 {h : ah_T} {a : Nat} (L : LY0 h a) : ah_ln h (a + 1) = 4 := (L.1.2 (0, 1, 0, 1, 45, 4) (List.mem_of_getElem? (i := 0) rfl)).2.2.2
theorem ly0_A_1 {h : ah_T} {a : Nat} {i : Int32} (L : LY0 h a) (hi : vp_in i 4) : aok h 45 (a + 1) i := ⟨ly0_K_1 L, by rw [ly0_N_1 L]; exact hi⟩
theorem ly0_R_0_1 {h : ah_T} {a : Nat} (L : LY0 h a) : ah_R h a 1 = a + 2 := (L.1.2 (0, 1, 1, 2, 46, 20) (List.mem_of_getElem? (i := 1) rfl)).2.1
theorem ly0_K_2 {h : ah_T} {a : Nat} (L : LY0 h a) : ah_kd h (a + 2) = 46 := (L.1.2 (0, 1, 1, 2, 46, 20) (List.mem_of_getElem? (i := 1) rfl)).2.2.1
theorem ly0_N_2 {h : ah_T} {a : Nat} (L : LY0 h a) : ah_ln h (a + 2) = 20 := (L.1.2 (0, 1, 1, 2, 46, 20) (List.mem_of_getElem? (i := 1) rfl)).2.2.2
theorem ly0_A_2 {h : ah_T} {a : Nat} {i : Int32} (L : LY0 h a) (hi : vp_in i 20) : aok h 46 (a + 2) i := ⟨ly0_K_2 L, by rw [ly0_N_2 L]; exact hi⟩
theorem ly0_R_0_2 {h : ah_T} {a : Nat} (L : LY0 h a) : ah_R h a 2 = a + 3 := (L.1.2 (0, 1, 2, 3, 47, 8) (List.mem_of_getElem? (i := 2) rfl)).2.1
theorem ly0_K_3 {h : ah_T} {a : Nat} (L : LY0 h a) : ah_kd h (a + 3) = 47 := (L.1.2 (0, 1, 2, 3, 47, 8) (List.mem_of_getElem? (i := 2) rfl)).2.2.1
theorem ly0_N_3 {h : ah_T} {a : Nat} (L : LY0 h a) : ah_ln h (a + 3) = 8 := (L.1.2 (0, 1, 2, 3, 47, 8) (List.mem_of_getElem? (i := 2) rfl)).2.2.2
theorem ly0_A_3 {h : ah_T} {a : Nat} {i : Int32} (L : LY0 h a) (hi : vp_in i 8) : aok h 47 (a + 3) i := ⟨ly0_K_3 L, by rw [ly0_N_3 L]; exact hi⟩
theorem ly0_R_0_3 {h : ah_T} {a : Nat} (L : LY0 h a) : ah_R h a 3 = a + 4 := (L.1.2 (0, 1, 3, 4, 48, 120) (List.mem_of_getElem? (i := 3) rfl)).2.1
theorem ly0_K_4 {h : ah_T} {a : Nat} (L : LY0 h a) : ah_kd h (a + 4) = 48 := (L.1.2 (0, 1, 3, 4, 48, 120) (List.mem_of_getElem? (i := 3) rfl)).2.2.1
theorem ly0_N_4 {h : ah_T} {a : Nat} (L : LY0 h a) : ah_ln h (a + 4) = 120 := (L.1.2 (0, 1, 3, 4, 48, 120) (List.mem_of_getElem? (i := 3) rfl)).2.2.2
theorem ly0_A_4 {h : ah_T} {a : Nat} {i : Int32} (L : LY0 h a) (hi : vp_in i 120) : aok h 48 (a + 4) i := ⟨ly0_K_4 L, by rw [ly0_N_4 L]; exact hi⟩
theorem ly0_R_0_4 {h : ah_T} {a : Nat} (L : LY0 h a) : ah_R h a 4 = a + 5 := (L.1.2 (0, 1, 4, 5, 40, 100) (List.mem_of_getElem? (i := 4) rfl)).2.1
theorem ly0_K_5 {h : ah_T} {a : Nat} (L : LY0 h a) : ah_kd h (a + 5) = 40 := (L.1.2 (0, 1, 4, 5, 40, 100) (List.mem_of_getElem? (i := 4) rfl)).2.2.1
theorem ly0_N_5 {h : ah_T} {a : Nat} (L : LY0 h a) : ah_ln h (a + 5) = 100 := (L.1.2 (0, 1, 4, 5, 40, 100) (List.mem_of_getElem? (i := 4) rfl)).2.2.2
theorem ly0_A_5 {h : ah_T} {a : Nat} {i : Int32} (L : LY0 h a) (hi : vp_in i 100) : aok h 40 (a + 5) i := ⟨ly0_K_5 L, by rw [ly0_N_5 L]; exact hi⟩
theorem ly0_R_0_5 {h : ah_T} {a : Nat} (L : LY0 h a) : ah_R h a 5 = a + 6 := (L.1.2 (0, 1, 5, 6, 40, 100) (List.mem_of_getElem? (i := 5) rfl)).2.1
theorem ly0_K_6 {h : ah_T} {a : Nat} (L : LY0 h a) : ah_kd h (a + 6) = 40 := (L.1.2 (0, 1, 5, 6, 40, 100) (List.mem_of_getElem? (i := 5) rfl)).2.2.1
theorem ly0_N_6 {h : ah_T} {a : Nat} (L : LY0 h a) : ah_ln h (a + 6) = 100 := (L.1.2 (0, 1, 5, 6, 40, 100) (List.mem_of_getElem? (i := 5) rfl)).2.2.2
theorem ly0_A_6 {h : ah_T} {a : Nat} {i : Int32} (L : LY0 h a) (hi : vp_in i 100) : aok h 40 (a + 6) i := ⟨ly0_K_6 L, by rw [ly0_N_6 L]; exact hi⟩
theorem ly0_R_0_6 {h : ah_T} {a : Nat} (L : LY0 h a) : ah_R h a 6 = a + 7 := (L.1.2 (0, 1, 6, 7, 40, 100) (List.mem_of_getElem? (i := 6) rfl)).2.1
theorem ly0_K_7 {h : ah_T} {a : Nat} (L : LY0 h a) : ah_kd h (a + 7) = 40 := (L.1.2 (0, 1, 6, 7, 40, 100) (List.mem_of_getElem? (i := 6) rfl)).2.2.1
theorem ly0_N_7 {h : ah_T} {a : Nat} (L : LY0 h a) : ah_ln h (a + 7) = 100 := (L.1.2 (0, 1, 6, 7, 40, 100) (List.mem_of_getElem? (i := 6) rfl)).2.2.2
theorem ly0_A_7 {h : ah_T} {a : Nat} {i : Int32} (L : LY0 h a) (hi : vp_in i 100) : aok h 40 (a + 7) i := ⟨ly0_K_7 L, by rw [ly0_N_7 L]; exact hi⟩
theorem ly0_R_0_7 {h : ah_T} {a : Nat} (L : LY0 h a) : ah_R h a 7 = a + 8 := (L.1.2 (0, 1, 7, 8, 40, 100) (List.mem_of_getElem? (i := 7) rfl)).2.1
theorem ly0_K_8 {h : ah_T} {a : Nat} (L : LY0 h a) : ah_kd h (a + 8) = 40 := (L.1.2 (0, 1, 7, 8, 40, 100) (List.mem_of_getElem? (i := 7) rfl)).2.2.1
theorem ly0_N_8 {h : ah_T} {a : Nat} (L : LY0 h a) : ah_ln h (a + 8) = 100 := (L.1.2 (0, 1, 7, 8, 40, 100) (List.mem_of_getElem? (i := 7) rfl)).2.2.2
theorem ly0_A_8 {h : ah_T} {a : Nat} {i : Int32} (L : LY0 h a) (hi : vp_in i 100) : aok h 40 (a + 8) i := ⟨ly0_K_8 L, by rw [ly0_N_8 L]; exact hi⟩
theorem ly0_R_9_0 {h : ah_T} {a : Nat} (L : LY0 h a) : ah_R h (a + 9) 0 = a + 10 := (L.1.2 (9, 2, 0, 10, 53, 8) (List.mem_of_getElem? (i := 8) rfl)).2.1
theorem ly0_K_10 {h : ah_T} {a : Nat} (L : LY0 h a) : ah_kd h (a + 10) = 53 := (L.1.2 (9, 2, 0, 10, 53, 8) (List.mem_of_getElem? (i := 8) rfl)).2.2.1
theorem ly0_N_10 {h : ah_T} {a : Nat} (L : LY0 h a) : ah_ln h (a + 10) = 8 := (L.1.2 (9, 2, 0, 10, 53, 8) (List.mem_of_getElem? (i := 8) rfl)).2.2.2
theorem ly0_A_10 {h : ah_T} {a : Nat} {i : Int32} (L : LY0 h a) (hi : vp_in i 8) : aok h 53 (a + 10) i := ⟨ly0_K_10 L, by rw [ly0_N_10 L]; exact hi⟩
theorem ly0_R_9_1 {h : ah_T} {a : Nat} (L : LY0 h a) : ah_R h (a + 9) 1 = a + 67 := (L.1.2 (9, 2, 1, 67, 53, 2) (List.mem_of_getElem? (i := 9) rfl)).2.1
theorem ly0_K_67 {h : ah_T} {a : Nat} (L : LY0 h a) : ah_kd h (a + 67) = 53 := (L.1.2 (9, 2, 1, 67, 53, 2) (List.mem_of_getElem? (i := 9) rfl)).2.2.1
theorem ly0_N_67 {h : ah_T} {a : Nat} (L : LY0 h a) : ah_ln h (a + 67) = 2 := (L.1.2 (9, 2, 1, 67, 53, 2) (List.mem_of_getElem? (i := 9) rfl)).2.2.2
theorem ly0_A_67 {h : ah_T} {a : Nat} {i : Int32} (L : LY0 h a) (hi : vp_in i 2) : aok h 53 (a + 67) i := ⟨ly0_K_67 L, by rw [ly0_N_67 L]; exact hi⟩
theorem ly0_R_9_2 {h : ah_T} {a : Nat} (L : LY0 h a) : ah_R h (a + 9) 2 = a + 82 := (L.1.2 (9, 2, 2, 82, 52, 6) (List.mem_of_getElem? (i := 10) rfl)).2.1
theorem ly0_K_82 {h : ah_T} {a : Nat} (L : LY0 h a) : ah_kd h (a + 82) = 52 := (L.1.2 (9, 2, 2, 82, 52, 6) (List.mem_of_getElem? (i := 10) rfl)).2.2.1
theorem ly0_N_82 {h : ah_T} {a : Nat} (L : LY0 h a) : ah_ln h (a + 82) = 6 := (L.1.2 (9, 2, 2, 82, 52, 6) (List.mem_of_getElem? (i := 10) rfl)).2.2.2
theorem ly0_A_82 {h : ah_T} {a : Nat} {i : Int32} (L : LY0 h a) (hi : vp_in i 6) : aok h 52 (a + 82) i := ⟨ly0_K_82 L, by rw [ly0_N_82 L]; exact hi⟩
theorem ly0_R_9_3 {h : ah_T} {a : Nat} (L : LY0 h a) : ah_R h (a + 9) 3 = a + 89 := (L.1.2 (9, 2, 3, 89, 55, 6) (List.mem_of_getElem? (i := 11) rfl)).2.1
theorem ly0_K_89 {h : ah_T} {a : Nat} (L : LY0 h a) : ah_kd h (a + 89) = 55 := (L.1.2 (9, 2, 3, 89, 55, 6) (List.mem_of_getElem? (i := 11) rfl)).2.2.1
theorem ly0_N_89 {h : ah_T} {a : Nat} (L : LY0 h a) : ah_ln h (a + 89) = 6 := (L.1.2 (9, 2, 3, 89, 55, 6) (List.mem_of_getElem? (i := 11) rfl)).2.2.2
theorem ly0_A_89 {h : ah_T} {a : Nat} {i : Int32} (L : LY0 h a) (hi : vp_in i 6) : aok h 55 (a + 89) i := ⟨ly0_K_89 L, by rw [ly0_N_89 L]; exact hi⟩
theorem ly0_R_9_4 {h : ah_T} {a : Nat} (L : LY0 h a) : ah_R h (a + 9) 4 = a + 96 := (L.1.2 (9, 2, 4, 96, 40, 8) (List.mem_of_getElem? (i := 12) rfl)).2.1
theorem ly0_K_96 {h : ah_T} {a : Nat} (L : LY0 h a) : ah_kd h (a + 96) = 40 := (L.1.2 (9, 2, 4, 96, 40, 8) (List.mem_of_getElem? (i := 12) rfl)).2.2.1
theorem ly0_N_96 {h : ah_T} {a : Nat} (L : LY0 h a) : ah_ln h (a + 96) = 8 := (L.1.2 (9, 2, 4, 96, 40, 8) (List.mem_of_getElem? (i := 12) rfl)).2.2.2
theorem ly0_A_96 {h : ah_T} {a : Nat} {i : Int32} (L : LY0 h a) (hi : vp_in i 8) : aok h 40 (a + 96) i := ⟨ly0_K_96 L, by rw [ly0_N_96 L]; exact hi⟩
theorem ly0_R_9_5 {h : ah_T} {a : Nat} (L : LY0 h a) : ah_R h (a + 9) 5 = a + 97 := (L.1.2 (9, 2, 5, 97, 40, 8) (List.mem_of_getElem? (i := 13) rfl)).2.1
theorem ly0_K_97 {h : ah_T} {a : Nat} (L : LY0 h a) : ah_kd h (a + 97) = 40 := (L.1.2 (9, 2, 5, 97, 40, 8) (List.mem_of_getElem? (i := 13) rfl)).2.2.1
theorem ly0_N_97 {h : ah_T} {a : Nat} (L : LY0 h a) : ah_ln h (a + 97) = 8 := (L.1.2 (9, 2, 5, 97, 40, 8) (List.mem_of_getElem? (i := 13) rfl)).2.2.2
theorem ly0_A_97 {h : ah_T} {a : Nat} {i : Int32} (L : LY0 h a) (hi : vp_in i 8) : aok h 40 (a + 97) i := ⟨ly0_K_97 L, by rw [ly0_N_97 L]; exact hi⟩
theorem ly0_R_9_6 {h : ah_T} {a : Nat} (L : LY0 h a) : ah_R h (a + 9) 6 = a + 98 := (L.1.2 (9, 2, 6, 98, 40, 20) (List.mem_of_getElem? (i := 14) rfl)).2.1
theorem ly0_K_98 {h : ah_T} {a : Nat} (L : LY0 h a) : ah_kd h (a + 98) = 40 := (L.1.2 (9, 2, 6, 98, 40, 20) (List.mem_of_getElem? (i := 14) rfl)).2.2.1
theorem ly0_N_98 {h : ah_T} {a : Nat} (L : LY0 h a) : ah_ln h (a + 98) = 20 := (L.1.2 (9, 2, 6, 98, 40, 20) (List.mem_of_getElem? (i := 14) rfl)).2.2.2
theorem ly0_A_98 {h : ah_T} {a : Nat} {i : Int32} (L : LY0 h a) (hi : vp_in i 20) : aok h 40 (a + 98) i := ⟨ly0_K_98 L, by rw [ly0_N_98 L]; exact hi⟩
theorem ly0_R_9_7 {h : ah_T} {a : Nat} (L : LY0 h a) : ah_R h (a + 9) 7 = a + 99 := (L.1.2 (9, 2, 7, 99, 40, 20) (List.mem_of_getElem? (i := 15) rfl)).2.1
theorem ly0_K_99 {h : ah_T} {a : Nat} (L : LY0 h a) : ah_kd h (a + 99) = 40 := (L.1.2 (9, 2, 7, 99, 40, 20) (List.mem_of_getElem? (i := 15) rfl)).2.2.1
theorem ly0_N_99 {h : ah_T} {a : Nat} (L : LY0 h a) : ah_ln h (a + 99) = 20 := (L.1.2 (9, 2, 7, 99, 40, 20) (List.mem_of_getElem? (i := 15) rfl)).2.2.2
theorem ly0_A_99 {h : ah_T} {a : Nat} {i : Int32} (L : LY0 h a) (hi : vp_in i 20) : aok h 40 (a + 99) i := ⟨ly0_K_99 L, by rw [ly0_N_99 L]; exact hi⟩
theorem ly0_R_9_8 {h : ah_T} {a : Nat} (L : LY0 h a) : ah_R h (a + 9) 8 = a + 100 := (L.1.2 (9, 2, 8, 100, 40, 20) (List.mem_of_getElem? (i := 16) rfl)).2.1
theorem ly0_K_100 {h : ah_T} {a : Nat} (L : LY0 h a) : ah_kd h (a + 100) = 40 := (L.1.2 (9, 2, 8, 100, 40, 20) (List.mem_of_getElem? (i := 16) rfl)).2.2.1
theorem ly0_N_100 {h : ah_T} {a : Nat} (L : LY0 h a) : ah_ln h (a + 100) = 20 := (L.1.2 (9, 2, 8, 100, 40, 20) (List.mem_of_getElem? (i := 16) rfl)).2.2.2
theorem ly0_A_100 {h : ah_T} {a : Nat} {i : Int32} (L : LY0 h a) (hi : vp_in i 20) : aok h 40 (a + 100) i := ⟨ly0_K_100 L, by rw [ly0_N_100 L]; exact hi⟩
theorem ly0_R_9_9 {h : ah_T} {a : Nat} (L : LY0 h a) : ah_R h (a + 9) 9 = a + 101 := (L.1.2 (9, 2, 9, 101, 40, 20) (List.mem_of_getElem? (i := 17) rfl)).2.1
theorem ly0_K_101 {h : ah_T} {a : Nat} (L : LY0 h a) : ah_kd h (a + 101) = 40 := (L.1.2 (9, 2, 9, 101, 40, 20) (List.mem_of_getElem? (i := 17) rfl)).2.2.1
theorem ly0_N_101 {h : ah_T} {a : Nat} (L : LY0 h a) : ah_ln h (a + 101) = 20 := (L.1.2 (9, 2, 9, 101, 40, 20) (List.mem_of_getElem? (i := 17) rfl)).2.2.2
theorem ly0_A_101 {h : ah_T} {a : Nat} {i : Int32} (L : LY0 h a) (hi : vp_in i 20) : aok h 40 (a + 101) i := ⟨ly0_K_101 L, by rw [ly0_N_101 L]; exact hi⟩
theorem ly0_R_102_0 {h : ah_T} {a : Nat} (L : LY0 h a) : ah_R h (a + 102) 0 = a + 103 := (L.1.2 (102, 3, 0, 103, 41, 20) (List.mem_of_getElem? (i := 18) rfl)).2.1
theorem ly0_K_103 {h : ah_T} {a : Nat} (L : LY0 h a) : ah_kd h (a + 103) = 41 := (L.1.2 (102, 3, 0, 103, 41, 20) (List.mem_of_getElem? (i := 18) rfl)).2.2.1
theorem ly0_N_103 {h : ah_T} {a : Nat} (L : LY0 h a) : ah_ln h (a + 103) = 20 := (L.1.2 (102, 3, 0, 103, 41, 20) (List.mem_of_getElem? (i := 18) rfl)).2.2.2
theorem ly0_A_103 {h : ah_T} {a : Nat} {i : Int32} (L : LY0 h a) (hi : vp_in i 20) : aok h 41 (a + 103) i := ⟨ly0_K_103 L, by rw [ly0_N_103 L]; exact hi⟩
theorem ly0_R_102_1 {h : ah_T} {a : Nat} (L : LY0 h a) : ah_R h (a + 102) 1 = a + 104 := (L.1.2 (102, 3, 1, 104, 41, 20) (List.mem_of_getElem? (i := 19) rfl)).2.1
theorem ly0_K_104 {h : ah_T} {a : Nat} (L : LY0 h a) : ah_kd h (a + 104) = 41 := (L.1.2 (102, 3, 1, 104, 41, 20) (List.mem_of_getElem? (i := 19) rfl)).2.2.1
theorem ly0_N_104 {h : ah_T} {a : Nat} (L : LY0 h a) : ah_ln h (a + 104) = 20 := (L.1.2 (102, 3, 1, 104, 41, 20) (List.mem_of_getElem? (i := 19) rfl)).2.2.2
theorem ly0_A_104 {h : ah_T} {a : Nat} {i : Int32} (L : LY0 h a) (hi : vp_in i 20) : aok h 41 (a + 104) i := ⟨ly0_K_104 L, by rw [ly0_N_104 L]; exact hi⟩
theorem ly0_R_102_2 {h : ah_T} {a : Nat} (L : LY0 h a) : ah_R h (a + 102) 2 = a + 105 := (L.1.2 (102, 3, 2, 105, 41, 20) (List.mem_of_getElem? (i := 20) rfl)).2.1
theorem ly0_K_105 {h : ah_T} {a : Nat} (L : LY0 h a) : ah_kd h (a + 105) = 41 := (L.1.2 (102, 3, 2, 105, 41, 20) (List.mem_of_getElem? (i := 20) rfl)).2.2.1
theorem ly0_N_105 {h : ah_T} {a : Nat} (L : LY0 h a) : ah_ln h (a + 105) = 20 := (L.1.2 (102, 3, 2, 105, 41, 20) (List.mem_of_getElem? (i := 20) rfl)).2.2.2
theorem ly0_A_105 {h : ah_T} {a : Nat} {i : Int32} (L : LY0 h a) (hi : vp_in i 20) : aok h 41 (a + 105) i := ⟨ly0_K_105 L, by rw [ly0_N_105 L]; exact hi⟩
theorem ly0_R_9_10 {h : ah_T} {a : Nat} (L : LY0 h a) : ah_R h (a + 9) 10 = a + 102 := (L.1.2 (9, 2, 10, 102, 3, 0) (List.mem_of_getElem? (i := 21) rfl)).2.1
theorem ly0_K_102 {h : ah_T} {a : Nat} (L : LY0 h a) : ah_kd h (a + 102) = 3 := (L.1.2 (9, 2, 10, 102, 3, 0) (List.mem_of_getElem? (i := 21) rfl)).2.2.1
theorem ly0_R_0_8 {h : ah_T} {a : Nat} (L : LY0 h a) : ah_R h a 8 = a + 9 := (L.1.2 (0, 1, 8, 9, 2, 0) (List.mem_of_getElem? (i := 22) rfl)).2.1
theorem ly0_K_9 {h : ah_T} {a : Nat} (L : LY0 h a) : ah_kd h (a + 9) = 2 := (L.1.2 (0, 1, 8, 9, 2, 0) (List.mem_of_getElem? (i := 22) rfl)).2.2.1
theorem ly0_R_1426_0 {h : ah_T} {a : Nat} (L : LY0 h a) : ah_R h (a + 1426) 0 = a + 1427 := (L.1.2 (1426, 3, 0, 1427, 41, 20) (List.mem_of_getElem? (i := 23) rfl)).2.1
theorem ly0_K_1427 {h : ah_T} {a : Nat} (L : LY0 h a) : ah_kd h (a + 1427) = 41 := (L.1.2 (1426, 3, 0, 1427, 41, 20) (List.mem_of_getElem? (i := 23) rfl)).2.2.1
theorem ly0_N_1427 {h : ah_T} {a : Nat} (L : LY0 h a) : ah_ln h (a + 1427) = 20 := (L.1.2 (1426, 3, 0, 1427, 41, 20) (List.mem_of_getElem? (i := 23) rfl)).2.2.2
theorem ly0_A_1427 {h : ah_T} {a : Nat} {i : Int32} (L : LY0 h a) (hi : vp_in i 20) : aok h 41 (a + 1427) i := ⟨ly0_K_1427 L, by rw [ly0_N_1427 L]; exact hi⟩
theorem ly0_R_1426_1 {h : ah_T} {a : Nat} (L : LY0 h a) : ah_R h (a + 1426) 1 = a + 1428 := (L.1.2 (1426, 3, 1, 1428, 41, 20) (List.mem_of_getElem? (i := 24) rfl)).2.1
theorem ly0_K_1428 {h : ah_T} {a : Nat} (L : LY0 h a) : ah_kd h (a + 1428) = 41 := (L.1.2 (1426, 3, 1, 1428, 41, 20) (List.mem_of_getElem? (i := 24) rfl)).2.2.1
theorem ly0_N_1428 {h : ah_T} {a : Nat} (L : LY0 h a) : ah_ln h (a + 1428) = 20 := (L.1.2 (1426, 3, 1, 1428, 41, 20) (List.mem_of_getElem? (i := 24) rfl)).2.2.2
theorem ly0_A_1428 {h : ah_T} {a : Nat} {i : Int32} (L : LY0 h a) (hi : vp_in i 20) : aok h 41 (a + 1428) i := ⟨ly0_K_1428 L, by rw [ly0_N_1428 L]; exact hi⟩
theorem ly0_R_1426_2 {h : ah_T} {a : Nat} (L : LY0 h a) : ah_R h (a + 1426) 2 = a + 1429 := (L.1.2 (1426, 3, 2, 1429, 41, 20) (List.mem_of_getElem? (i := 25) rfl)).2.1
theorem ly0_K_1429 {h : ah_T} {a : Nat} (L : LY0 h a) : ah_kd h (a + 1429) = 41 := (L.1.2 (1426, 3, 2, 1429, 41, 20) (List.mem_of_getElem? (i := 25) rfl)).2.2.1
theorem ly0_N_1429 {h : ah_T} {a : Nat} (L : LY0 h a) : ah_ln h (a + 1429) = 20 := (L.1.2 (1426, 3, 2, 1429, 41, 20) (List.mem_of_getElem? (i := 25) rfl)).2.2.2
theorem ly0_A_1429 {h : ah_T} {a : Nat} {i : Int32} (L : LY0 h a) (hi : vp_in i 20) : aok h 41 (a + 1429) i := ⟨ly0_K_1429 L, by rw [ly0_N_1429 L]; exact hi⟩
theorem ly0_R_0_9 {h : ah_T} {a : Nat} (L : LY0 h a) : ah_R h a 9 = a + 1426 := (L.1.2 (0, 1, 9, 1426, 3, 0) (List.mem_of_getElem? (i := 26) rfl)).2.1
theorem ly0_K_1426 {h : ah_T} {a : Nat} (L : LY0 h a) : ah_kd h (a + 1426) = 3 := (L.1.2 (0, 1, 9, 1426, 3, 0) (List.mem_of_getElem? (i := 26) rfl)).2.2.1
theorem ly0_R_0_10 {h : ah_T} {a : Nat} (L : LY0 h a) : ah_R h a 10 = a + 1430 := (L.1.2 (0, 1, 10, 1430, 5, 0) (List.mem_of_getElem? (i := 27) rfl)).2.1
theorem ly0_K_1430 {h : ah_T} {a : Nat} (L : LY0 h a) : ah_kd h (a + 1430) = 5 := (L.1.2 (0, 1, 10, 1430, 5, 0) (List.mem_of_getElem? (i := 27) rfl)).2.2.1
theorem ly0_R_1431_0 {h : ah_T} {a : Nat} (L : LY0 h a) : ah_R h (a + 1431) 0 = a + 1432 := (L.1.2 (1431, 6, 0, 1432, 42, 500) (List.mem_of_getElem? (i := 28) rfl)).2.1
theorem ly0_K_1432 {h : ah_T} {a : Nat} (L : LY0 h a) : ah_kd h (a + 1432) = 42 := (L.1.2 (1431, 6, 0, 1432, 42, 500) (List.mem_of_getElem? (i := 28) rfl)).2.2.1
theorem ly0_N_1432 {h : ah_T} {a : Nat} (L : LY0 h a) : ah_ln h (a + 1432) = 500 := (L.1.2 (1431, 6, 0, 1432, 42, 500) (List.mem_of_getElem? (i := 28) rfl)).2.2.2
theorem ly0_A_1432 {h : ah_T} {a : Nat} {i : Int32} (L : LY0 h a) (hi : vp_in i 500) : aok h 42 (a + 1432) i := ⟨ly0_K_1432 L, by rw [ly0_N_1432 L]; exact hi⟩
theorem ly0_R_1431_8 {h : ah_T} {a : Nat} (L : LY0 h a) : ah_R h (a + 1431) 8 = a + 1430 := (L.1.2 (1431, 6, 8, 1430, 5, 0) (List.mem_of_getElem? (i := 29) rfl)).2.1
theorem ly0_R_0_11 {h : ah_T} {a : Nat} (L : LY0 h a) : ah_R h a 11 = a + 1431 := (L.1.2 (0, 1, 11, 1431, 6, 0) (List.mem_of_getElem? (i := 30) rfl)).2.1
theorem ly0_K_1431 {h : ah_T} {a : Nat} (L : LY0 h a) : ah_kd h (a + 1431) = 6 := (L.1.2 (0, 1, 11, 1431, 6, 0) (List.mem_of_getElem? (i := 30) rfl)).2.2.1
theorem ly0_R_1433_0 {h : ah_T} {a : Nat} (L : LY0 h a) : ah_R h (a + 1433) 0 = a + 1434 := (L.1.2 (1433, 7, 0, 1434, 41, 11) (List.mem_of_getElem? (i := 31) rfl)).2.1
theorem ly0_K_1434 {h : ah_T} {a : Nat} (L : LY0 h a) : ah_kd h (a + 1434) = 41 := (L.1.2 (1433, 7, 0, 1434, 41, 11) (List.mem_of_getElem? (i := 31) rfl)).2.2.1
theorem ly0_N_1434 {h : ah_T} {a : Nat} (L : LY0 h a) : ah_ln h (a + 1434) = 11 := (L.1.2 (1433, 7, 0, 1434, 41, 11) (List.mem_of_getElem? (i := 31) rfl)).2.2.2
theorem ly0_A_1434 {h : ah_T} {a : Nat} {i : Int32} (L : LY0 h a) (hi : vp_in i 11) : aok h 41 (a + 1434) i := ⟨ly0_K_1434 L, by rw [ly0_N_1434 L]; exact hi⟩
theorem ly0_R_1433_1 {h : ah_T} {a : Nat} (L : LY0 h a) : ah_R h (a + 1433) 1 = a + 1435 := (L.1.2 (1433, 7, 1, 1435, 41, 10) (List.mem_of_getElem? (i := 32) rfl)).2.1
theorem ly0_K_1435 {h : ah_T} {a : Nat} (L : LY0 h a) : ah_kd h (a + 1435) = 41 := (L.1.2 (1433, 7, 1, 1435, 41, 10) (List.mem_of_getElem? (i := 32) rfl)).2.2.1
theorem ly0_N_1435 {h : ah_T} {a : Nat} (L : LY0 h a) : ah_ln h (a + 1435) = 10 := (L.1.2 (1433, 7, 1, 1435, 41, 10) (List.mem_of_getElem? (i := 32) rfl)).2.2.2
theorem ly0_A_1435 {h : ah_T} {a : Nat} {i : Int32} (L : LY0 h a) (hi : vp_in i 10) : aok h 41 (a + 1435) i := ⟨ly0_K_1435 L, by rw [ly0_N_1435 L]; exact hi⟩
theorem ly0_R_1433_2 {h : ah_T} {a : Nat} (L : LY0 h a) : ah_R h (a + 1433) 2 = a + 1436 := (L.1.2 (1433, 7, 2, 1436, 44, 10) (List.mem_of_getElem? (i := 33) rfl)).2.1
theorem ly0_K_1436 {h : ah_T} {a : Nat} (L : LY0 h a) : ah_kd h (a + 1436) = 44 := (L.1.2 (1433, 7, 2, 1436, 44, 10) (List.mem_of_getElem? (i := 33) rfl)).2.2.1
theorem ly0_N_1436 {h : ah_T} {a : Nat} (L : LY0 h a) : ah_ln h (a + 1436) = 10 := (L.1.2 (1433, 7, 2, 1436, 44, 10) (List.mem_of_getElem? (i := 33) rfl)).2.2.2
theorem ly0_A_1436 {h : ah_T} {a : Nat} {i : Int32} (L : LY0 h a) (hi : vp_in i 10) : aok h 44 (a + 1436) i := ⟨ly0_K_1436 L, by rw [ly0_N_1436 L]; exact hi⟩
theorem ly0_R_1433_3 {h : ah_T} {a : Nat} (L : LY0 h a) : ah_R h (a + 1433) 3 = a + 1430 := (L.1.2 (1433, 7, 3, 1430, 5, 0) (List.mem_of_getElem? (i := 34) rfl)).2.1
theorem ly0_R_0_12 {h : ah_T} {a : Nat} (L : LY0 h a) : ah_R h a 12 = a + 1433 := (L.1.2 (0, 1, 12, 1433, 7, 0) (List.mem_of_getElem? (i := 35) rfl)).2.1
theorem ly0_K_1433 {h : ah_T} {a : Nat} (L : LY0 h a) : ah_kd h (a + 1433) = 7 := (L.1.2 (0, 1, 12, 1433, 7, 0) (List.mem_of_getElem? (i := 35) rfl)).2.2.1
theorem ly0_R_0_13 {h : ah_T} {a : Nat} (L : LY0 h a) : ah_R h a 13 = a + 1437 := (L.1.2 (0, 1, 13, 1437, 49, 4) (List.mem_of_getElem? (i := 36) rfl)).2.1
theorem ly0_K_1437 {h : ah_T} {a : Nat} (L : LY0 h a) : ah_kd h (a + 1437) = 49 := (L.1.2 (0, 1, 13, 1437, 49, 4) (List.mem_of_getElem? (i := 36) rfl)).2.2.1
theorem ly0_N_1437 {h : ah_T} {a : Nat} (L : LY0 h a) : ah_ln h (a + 1437) = 4 := (L.1.2 (0, 1, 13, 1437, 49, 4) (List.mem_of_getElem? (i := 36) rfl)).2.2.2
theorem ly0_A_1437 {h : ah_T} {a : Nat} {i : Int32} (L : LY0 h a) (hi : vp_in i 4) : aok h 49 (a + 1437) i := ⟨ly0_K_1437 L, by rw [ly0_N_1437 L]; exact hi⟩
theorem ly0_R_0_24 {h : ah_T} {a : Nat} (L : LY0 h a) : ah_R h a 24 = a + 1438 := (L.1.2 (0, 1, 24, 1438, 41, 20) (List.mem_of_getElem? (i := 37) rfl)).2.1
theorem ly0_K_1438 {h : ah_T} {a : Nat} (L : LY0 h a) : ah_kd h (a + 1438) = 41 := (L.1.2 (0, 1, 24, 1438, 41, 20) (List.mem_of_getElem? (i := 37) rfl)).2.2.1
theorem ly0_N_1438 {h : ah_T} {a : Nat} (L : LY0 h a) : ah_ln h (a + 1438) = 20 := (L.1.2 (0, 1, 24, 1438, 41, 20) (List.mem_of_getElem? (i := 37) rfl)).2.2.2
theorem ly0_A_1438 {h : ah_T} {a : Nat} {i : Int32} (L : LY0 h a) (hi : vp_in i 20) : aok h 41 (a + 1438) i := ⟨ly0_K_1438 L, by rw [ly0_N_1438 L]; exact hi⟩
theorem ly0_R_0_25 {h : ah_T} {a : Nat} (L : LY0 h a) : ah_R h a 25 = a + 1439 := (L.1.2 (0, 1, 25, 1439, 41, 20) (List.mem_of_getElem? (i := 38) rfl)).2.1
theorem ly0_K_1439 {h : ah_T} {a : Nat} (L : LY0 h a) : ah_kd h (a + 1439) = 41 := (L.1.2 (0, 1, 25, 1439, 41, 20) (List.mem_of_getElem? (i := 38) rfl)).2.2.1
theorem ly0_N_1439 {h : ah_T} {a : Nat} (L : LY0 h a) : ah_ln h (a + 1439) = 20 := (L.1.2 (0, 1, 25, 1439, 41, 20) (List.mem_of_getElem? (i := 38) rfl)).2.2.2
theorem ly0_A_1439 {h : ah_T} {a : Nat} {i : Int32} (L : LY0 h a) (hi : vp_in i 20) : aok h 41 (a + 1439) i := ⟨ly0_K_1439 L, by rw [ly0_N_1439 L]; exact hi⟩
theorem ly0_R_0_26 {h : ah_T} {a : Nat} (L : LY0 h a) : ah_R h a 26 = a + 1440 := (L.1.2 (0, 1, 26, 1440, 41, 20) (List.mem_of_getElem? (i := 39) rfl)).2.1
theorem ly0_K_1440 {h : ah_T} {a : Nat} (L : LY0 h a) : ah_kd h (a + 1440) = 41 := (L.1.2 (0, 1, 26, 1440, 41, 20) (List.mem_of_getElem? (i := 39) rfl)).2.2.1
theorem ly0_N_1440 {h : ah_T} {a : Nat} (L : LY0 h a) : ah_ln h (a + 1440) = 20 := (L.1.2 (0, 1, 26, 1440, 41, 20) (List.mem_of_getElem? (i := 39) rfl)).2.2.2
theorem ly0_A_1440 {h : ah_T} {a : Nat} {i : Int32} (L : LY0 h a) (hi : vp_in i 20) : aok h 41 (a + 1440) i := ⟨ly0_K_1440 L, by rw [ly0_N_1440 L]; exact hi⟩
theorem ly0_R_0_29 {h : ah_T} {a : Nat} (L : LY0 h a) : ah_R h a 29 = a + 1441 := (L.1.2 (0, 1, 29, 1441, 40, 8) (List.mem_of_getElem? (i := 40) rfl)).2.1
theorem ly0_K_1441 {h : ah_T} {a : Nat} (L : LY0 h a) : ah_kd h (a + 1441) = 40 := (L.1.2 (0, 1, 29, 1441, 40, 8) (List.mem_of_getElem? (i := 40) rfl)).2.2.1
theorem ly0_N_1441 {h : ah_T} {a : Nat} (L : LY0 h a) : ah_ln h (a + 1441) = 8 := (L.1.2 (0, 1, 29, 1441, 40, 8) (List.mem_of_getElem? (i := 40) rfl)).2.2.2
theorem ly0_A_1441 {h : ah_T} {a : Nat} {i : Int32} (L : LY0 h a) (hi : vp_in i 8) : aok h 40 (a + 1441) i := ⟨ly0_K_1441 L, by rw [ly0_N_1441 L]; exact hi⟩
theorem ly0_R_0_30 {h : ah_T} {a : Nat} (L : LY0 h a) : ah_R h a 30 = a + 1442 := (L.1.2 (0, 1, 30, 1442, 40, 8) (List.mem_of_getElem? (i := 41) rfl)).2.1
theorem ly0_K_1442 {h : ah_T} {a : Nat} (L : LY0 h a) : ah_kd h (a + 1442) = 40 := (L.1.2 (0, 1, 30, 1442, 40, 8) (List.mem_of_getElem? (i := 41) rfl)).2.2.1
theorem ly0_N_1442 {h : ah_T} {a : Nat} (L : LY0 h a) : ah_ln h (a + 1442) = 8 := (L.1.2 (0, 1, 30, 1442, 40, 8) (List.mem_of_getElem? (i := 41) rfl)).2.2.2
theorem ly0_A_1442 {h : ah_T} {a : Nat} {i : Int32} (L : LY0 h a) (hi : vp_in i 8) : aok h 40 (a + 1442) i := ⟨ly0_K_1442 L, by rw [ly0_N_1442 L]; exact hi⟩
theorem ly0_R_0_31 {h : ah_T} {a : Nat} (L : LY0 h a) : ah_R h a 31 = a + 1443 := (L.1.2 (0, 1, 31, 1443, 40, 60) (List.mem_of_getElem? (i := 42) rfl)).2.1
theorem ly0_K_1443 {h : ah_T} {a : Nat} (L : LY0 h a) : ah_kd h (a + 1443) = 40 := (L.1.2 (0, 1, 31, 1443, 40, 60) (List.mem_of_getElem? (i := 42) rfl)).2.2.1
theorem ly0_N_1443 {h : ah_T} {a : Nat} (L : LY0 h a) : ah_ln h (a + 1443) = 60 := (L.1.2 (0, 1, 31, 1443, 40, 60) (List.mem_of_getElem? (i := 42) rfl)).2.2.2
theorem ly0_A_1443 {h : ah_T} {a : Nat} {i : Int32} (L : LY0 h a) (hi : vp_in i 60) : aok h 40 (a + 1443) i := ⟨ly0_K_1443 L, by rw [ly0_N_1443 L]; exact hi⟩
theorem ly0_R_0_32 {h : ah_T} {a : Nat} (L : LY0 h a) : ah_R h a 32 = a + 1444 := (L.1.2 (0, 1, 32, 1444, 40, 60) (List.mem_of_getElem? (i := 43) rfl)).2.1
theorem ly0_K_1444 {h : ah_T} {a : Nat} (L : LY0 h a) : ah_kd h (a + 1444) = 40 := (L.1.2 (0, 1, 32, 1444, 40, 60) (List.mem_of_getElem? (i := 43) rfl)).2.2.1
theorem ly0_N_1444 {h : ah_T} {a : Nat} (L : LY0 h a) : ah_ln h (a + 1444) = 60 := (L.1.2 (0, 1, 32, 1444, 40, 60) (List.mem_of_getElem? (i := 43) rfl)).2.2.2
theorem ly0_A_1444 {h : ah_T} {a : Nat} {i : Int32} (L : LY0 h a) (hi : vp_in i 60) : aok h 40 (a + 1444) i := ⟨ly0_K_1444 L, by rw [ly0_N_1444 L]; exact hi⟩
theorem ly0_R_0_33 {h : ah_T} {a : Nat} (L : LY0 h a) : ah_R h a 33 = a + 1445 := (L.1.2 (0, 1, 33, 1445, 40, 60) (List.mem_of_getElem? (i := 44) rfl)).2.1
theorem ly0_K_1445 {h : ah_T} {a : Nat} (L : LY0 h a) : ah_kd h (a + 1445) = 40 := (L.1.2 (0, 1, 33, 1445, 40, 60) (List.mem_of_getElem? (i := 44) rfl)).2.2.1
theorem ly0_N_1445 {h : ah_T} {a : Nat} (L : LY0 h a) : ah_ln h (a + 1445) = 60 := (L.1.2 (0, 1, 33, 1445, 40, 60) (List.mem_of_getElem? (i := 44) rfl)).2.2.2
theorem ly0_A_1445 {h : ah_T} {a : Nat} {i : Int32} (L : LY0 h a) (hi : vp_in i 60) : aok h 40 (a + 1445) i := ⟨ly0_K_1445 L, by rw [ly0_N_1445 L]; exact hi⟩
theorem ly0_R_0_34 {h : ah_T} {a : Nat} (L : LY0 h a) : ah_R h a 34 = a + 1446 := (L.1.2 (0, 1, 34, 1446, 40, 60) (List.mem_of_getElem? (i := 45) rfl)).2.1
theorem ly0_K_1446 {h : ah_T} {a : Nat} (L : LY0 h a) : ah_kd h (a + 1446) = 40 := (L.1.2 (0, 1, 34, 1446, 40, 60) (List.mem_of_getElem? (i := 45) rfl)).2.2.1
theorem ly0_N_1446 {h : ah_T} {a : Nat} (L : LY0 h a) : ah_ln h (a + 1446) = 60 := (L.1.2 (0, 1, 34, 1446, 40, 60) (List.mem_of_getElem? (i := 45) rfl)).2.2.2
theorem ly0_A_1446 {h : ah_T} {a : Nat} {i : Int32} (L : LY0 h a) (hi : vp_in i 60) : aok h 40 (a + 1446) i := ⟨ly0_K_1446 L, by rw [ly0_N_1446 L]; exact hi⟩
theorem ly0_R_0_35 {h : ah_T} {a : Nat} (L : LY0 h a) : ah_R h a 35 = a + 1447 := (L.1.2 (0, 1, 35, 1447, 40, 520) (List.mem_of_getElem? (i := 46) rfl)).2.1
theorem ly0_K_1447 {h : ah_T} {a : Nat} (L : LY0 h a) : ah_kd h (a + 1447) = 40 := (L.1.2 (0, 1, 35, 1447, 40, 520) (List.mem_of_getElem? (i := 46) rfl)).2.2.1
theorem ly0_N_1447 {h : ah_T} {a : Nat} (L : LY0 h a) : ah_ln h (a + 1447) = 520 := (L.1.2 (0, 1, 35, 1447, 40, 520) (List.mem_of_getElem? (i := 46) rfl)).2.2.2
theorem ly0_A_1447 {h : ah_T} {a : Nat} {i : Int32} (L : LY0 h a) (hi : vp_in i 520) : aok h 40 (a + 1447) i := ⟨ly0_K_1447 L, by rw [ly0_N_1447 L]; exact hi⟩
theorem ly0_R_0_39 {h : ah_T} {a : Nat} (L : LY0 h a) : ah_R h a 39 = a + 1448 := (L.1.2 (0, 1, 39, 1448, 40, 120) (List.mem_of_getElem? (i := 47) rfl)).2.1
theorem ly0_K_1448 {h : ah_T} {a : Nat} (L : LY0 h a) : ah_kd h (a + 1448) = 40 := (L.1.2 (0, 1, 39, 1448, 40, 120) (List.mem_of_getElem? (i := 47) rfl)).2.2.1
theorem ly0_N_1448 {h : ah_T} {a : Nat} (L : LY0 h a) : ah_ln h (a + 1448) = 120 := (L.1.2 (0, 1, 39, 1448, 40, 120) (List.mem_of_getElem? (i := 47) rfl)).2.2.2
theorem ly0_A_1448 {h : ah_T} {a : Nat} {i : Int32} (L : LY0 h a) (hi : vp_in i 120) : aok h 40 (a + 1448) i := ⟨ly0_K_1448 L, by rw [ly0_N_1448 L]; exact hi⟩
theorem ly0_R_0_40 {h : ah_T} {a : Nat} (L : LY0 h a) : ah_R h a 40 = a + 1449 := (L.1.2 (0, 1, 40, 1449, 40, 20) (List.mem_of_getElem? (i := 48) rfl)).2.1
theorem ly0_K_1449 {h : ah_T} {a : Nat} (L : LY0 h a) : ah_kd h (a + 1449) = 40 := (L.1.2 (0, 1, 40, 1449, 40, 20) (List.mem_of_getElem? (i := 48) rfl)).2.2.1
theorem ly0_N_1449 {h : ah_T} {a : Nat} (L : LY0 h a) : ah_ln h (a + 1449) = 20 := (L.1.2 (0, 1, 40, 1449, 40, 20) (List.mem_of_getElem? (i := 48) rfl)).2.2.2
theorem ly0_A_1449 {h : ah_T} {a : Nat} {i : Int32} (L : LY0 h a) (hi : vp_in i 20) : aok h 40 (a + 1449) i := ⟨ly0_K_1449 L, by rw [ly0_N_1449 L]; exact hi⟩
theorem ly0_R_0_41 {h : ah_T} {a : Nat} (L : LY0 h a) : ah_R h a 41 = a + 1450 := (L.1.2 (0, 1, 41, 1450, 40, 6) (List.mem_of_getElem? (i := 49) rfl)).2.1
theorem ly0_K_1450 {h : ah_T} {a : Nat} (L : LY0 h a) : ah_kd h (a + 1450) = 40 := (L.1.2 (0, 1, 41, 1450, 40, 6) (List.mem_of_getElem? (i := 49) rfl)).2.2.1
theorem ly0_N_1450 {h : ah_T} {a : Nat} (L : LY0 h a) : ah_ln h (a + 1450) = 6 := (L.1.2 (0, 1, 41, 1450, 40, 6) (List.mem_of_getElem? (i := 49) rfl)).2.2.2
theorem ly0_A_1450 {h : ah_T} {a : Nat} {i : Int32} (L : LY0 h a) (hi : vp_in i 6) : aok h 40 (a + 1450) i := ⟨ly0_K_1450 L, by rw [ly0_N_1450 L]; exact hi⟩
theorem ly0_R_0_42 {h : ah_T} {a : Nat} (L : LY0 h a) : ah_R h a 42 = a + 1451 := (L.1.2 (0, 1, 42, 1451, 40, 8) (List.mem_of_getElem? (i := 50) rfl)).2.1
theorem ly0_K_1451 {h : ah_T} {a : Nat} (L : LY0 h a) : ah_kd h (a + 1451) = 40 := (L.1.2 (0, 1, 42, 1451, 40, 8) (List.mem_of_getElem? (i := 50) rfl)).2.2.1
theorem ly0_N_1451 {h : ah_T} {a : Nat} (L : LY0 h a) : ah_ln h (a + 1451) = 8 := (L.1.2 (0, 1, 42, 1451, 40, 8) (List.mem_of_getElem? (i := 50) rfl)).2.2.2
theorem ly0_A_1451 {h : ah_T} {a : Nat} {i : Int32} (L : LY0 h a) (hi : vp_in i 8) : aok h 40 (a + 1451) i := ⟨ly0_K_1451 L, by rw [ly0_N_1451 L]; exact hi⟩
theorem ly0_R_0_43 {h : ah_T} {a : Nat} (L : LY0 h a) : ah_R h a 43 = a + 1452 := (L.1.2 (0, 1, 43, 1452, 40, 8) (List.mem_of_getElem? (i := 51) rfl)).2.1
theorem ly0_K_1452 {h : ah_T} {a : Nat} (L : LY0 h a) : ah_kd h (a + 1452) = 40 := (L.1.2 (0, 1, 43, 1452, 40, 8) (List.mem_of_getElem? (i := 51) rfl)).2.2.1
theorem ly0_N_1452 {h : ah_T} {a : Nat} (L : LY0 h a) : ah_ln h (a + 1452) = 8 := (L.1.2 (0, 1, 43, 1452, 40, 8) (List.mem_of_getElem? (i := 51) rfl)).2.2.2
theorem ly0_A_1452 {h : ah_T} {a : Nat} {i : Int32} (L : LY0 h a) (hi : vp_in i 8) : aok h 40 (a + 1452) i := ⟨ly0_K_1452 L, by rw [ly0_N_1452 L]; exact hi⟩
theorem ly0_R_0_44 {h : ah_T} {a : Nat} (L : LY0 h a) : ah_R h a 44 = a + 1453 := (L.1.2 (0, 1, 44, 1453, 40, 20) (List.mem_of_getElem? (i := 52) rfl)).2.1
theorem ly0_K_1453 {h : ah_T} {a : Nat} (L : LY0 h a) : ah_kd h (a + 1453) = 40 := (L.1.2 (0, 1, 44, 1453, 40, 20) (List.mem_of_getElem? (i := 52) rfl)).2.2.1
theorem ly0_N_1453 {h : ah_T} {a : Nat} (L : LY0 h a) : ah_ln h (a + 1453) = 20 := (L.1.2 (0, 1, 44, 1453, 40, 20) (List.mem_of_getElem? (i := 52) rfl)).2.2.2
theorem ly0_A_1453 {h : ah_T} {a : Nat} {i : Int32} (L : LY0 h a) (hi : vp_in i 20) : aok h 40 (a + 1453) i := ⟨ly0_K_1453 L, by rw [ly0_N_1453 L]; exact hi⟩
theorem ly0_R_0_45 {h : ah_T} {a : Nat} (L : LY0 h a) : ah_R h a 45 = a + 1454 := (L.1.2 (0, 1, 45, 1454, 54, 21) (List.mem_of_getElem? (i := 53) rfl)).2.1
theorem ly0_K_1454 {h : ah_T} {a : Nat} (L : LY0 h a) : ah_kd h (a + 1454) = 54 := (L.1.2 (0, 1, 45, 1454, 54, 21) (List.mem_of_getElem? (i := 53) rfl)).2.2.1
theorem ly0_N_1454 {h : ah_T} {a : Nat} (L : LY0 h a) : ah_ln h (a + 1454) = 21 := (L.1.2 (0, 1, 45, 1454, 54, 21) (List.mem_of_getElem? (i := 53) rfl)).2.2.2
theorem ly0_A_1454 {h : ah_T} {a : Nat} {i : Int32} (L : LY0 h a) (hi : vp_in i 21) : aok h 54 (a + 1454) i := ⟨ly0_K_1454 L, by rw [ly0_N_1454 L]; exact hi⟩
theorem ly0_R_0_47 {h : ah_T} {a : Nat} (L : LY0 h a) : ah_R h a 47 = a + 1476 := (L.1.2 (0, 1, 47, 1476, 54, 5) (List.mem_of_getElem? (i := 54) rfl)).2.1
theorem ly0_K_1476 {h : ah_T} {a : Nat} (L : LY0 h a) : ah_kd h (a + 1476) = 54 := (L.1.2 (0, 1, 47, 1476, 54, 5) (List.mem_of_getElem? (i := 54) rfl)).2.2.1
theorem ly0_N_1476 {h : ah_T} {a : Nat} (L : LY0 h a) : ah_ln h (a + 1476) = 5 := (L.1.2 (0, 1, 47, 1476, 54, 5) (List.mem_of_getElem? (i := 54) rfl)).2.2.2
theorem ly0_A_1476 {h : ah_T} {a : Nat} {i : Int32} (L : LY0 h a) (hi : vp_in i 5) : aok h 54 (a + 1476) i := ⟨ly0_K_1476 L, by rw [ly0_N_1476 L]; exact hi⟩
theorem ly0_R_0_48 {h : ah_T} {a : Nat} (L : LY0 h a) : ah_R h a 48 = a + 1482 := (L.1.2 (0, 1, 48, 1482, 54, 5) (List.mem_of_getElem? (i := 55) rfl)).2.1
theorem ly0_K_1482 {h : ah_T} {a : Nat} (L : LY0 h a) : ah_kd h (a + 1482) = 54 := (L.1.2 (0, 1, 48, 1482, 54, 5) (List.mem_of_getElem? (i := 55) rfl)).2.2.1
theorem ly0_N_1482 {h : ah_T} {a : Nat} (L : LY0 h a) : ah_ln h (a + 1482) = 5 := (L.1.2 (0, 1, 48, 1482, 54, 5) (List.mem_of_getElem? (i := 55) rfl)).2.2.2
theorem ly0_A_1482 {h : ah_T} {a : Nat} {i : Int32} (L : LY0 h a) (hi : vp_in i 5) : aok h 54 (a + 1482) i := ⟨ly0_K_1482 L, by rw [ly0_N_1482 L]; exact hi⟩
theorem ly0_R_0_49 {h : ah_T} {a : Nat} (L : LY0 h a) : ah_R h a 49 = a + 1488 := (L.1.2 (0, 1, 49, 1488, 40, 5) (List.mem_of_getElem? (i := 56) rfl)).2.1
theorem ly0_K_1488 {h : ah_T} {a : Nat} (L : LY0 h a) : ah_kd h (a + 1488) = 40 := (L.1.2 (0, 1, 49, 1488, 40, 5) (List.mem_of_getElem? (i := 56) rfl)).2.2.1
theorem ly0_N_1488 {h : ah_T} {a : Nat} (L : LY0 h a) : ah_ln h (a + 1488) = 5 := (L.1.2 (0, 1, 49, 1488, 40, 5) (List.mem_of_getElem? (i := 56) rfl)).2.2.2
theorem ly0_A_1488 {h : ah_T} {a : Nat} {i : Int32} (L : LY0 h a) (hi : vp_in i 5) : aok h 40 (a + 1488) i := ⟨ly0_K_1488 L, by rw [ly0_N_1488 L]; exact hi⟩
theorem ly0_R_0_50 {h : ah_T} {a : Nat} (L : LY0 h a) : ah_R h a 50 = a + 1489 := (L.1.2 (0, 1, 50, 1489, 40, 4) (List.mem_of_getElem? (i := 57) rfl)).2.1
theorem ly0_K_1489 {h : ah_T} {a : Nat} (L : LY0 h a) : ah_kd h (a + 1489) = 40 := (L.1.2 (0, 1, 50, 1489, 40, 4) (List.mem_of_getElem? (i := 57) rfl)).2.2.1
theorem ly0_N_1489 {h : ah_T} {a : Nat} (L : LY0 h a) : ah_ln h (a + 1489) = 4 := (L.1.2 (0, 1, 50, 1489, 40, 4) (List.mem_of_getElem? (i := 57) rfl)).2.2.2
theorem ly0_A_1489 {h : ah_T} {a : Nat} {i : Int32} (L : LY0 h a) (hi : vp_in i 4) : aok h 40 (a + 1489) i := ⟨ly0_K_1489 L, by rw [ly0_N_1489 L]; exact hi⟩
theorem ly0_R_0_51 {h : ah_T} {a : Nat} (L : LY0 h a) : ah_R h a 51 = a + 1490 := (L.1.2 (0, 1, 51, 1490, 40, 5) (List.mem_of_getElem? (i := 58) rfl)).2.1
theorem ly0_K_1490 {h : ah_T} {a : Nat} (L : LY0 h a) : ah_kd h (a + 1490) = 40 := (L.1.2 (0, 1, 51, 1490, 40, 5) (List.mem_of_getElem? (i := 58) rfl)).2.2.1
theorem ly0_N_1490 {h : ah_T} {a : Nat} (L : LY0 h a) : ah_ln h (a + 1490) = 5 := (L.1.2 (0, 1, 51, 1490, 40, 5) (List.mem_of_getElem? (i := 58) rfl)).2.2.2
theorem ly0_A_1490 {h : ah_T} {a : Nat} {i : Int32} (L : LY0 h a) (hi : vp_in i 5) : aok h 40 (a + 1490) i := ⟨ly0_K_1490 L, by rw [ly0_N_1490 L]; exact hi⟩
theorem ly0_R_0_52 {h : ah_T} {a : Nat} (L : LY0 h a) : ah_R h a 52 = a + 1491 := (L.1.2 (0, 1, 52, 1491, 40, 4) (List.mem_of_getElem? (i := 59) rfl)).2.1
theorem ly0_K_1491 {h : ah_T} {a : Nat} (L : LY0 h a) : ah_kd h (a + 1491) = 40 := (L.1.2 (0, 1, 52, 1491, 40, 4) (List.mem_of_getElem? (i := 59) rfl)).2.2.1
theorem ly0_N_1491 {h : ah_T} {a : Nat} (L : LY0 h a) : ah_ln h (a + 1491) = 4 := (L.1.2 (0, 1, 52, 1491, 40, 4) (List.mem_of_getElem? (i := 59) rfl)).2.2.2
theorem ly0_A_1491 {h : ah_T} {a : Nat} {i : Int32} (L : LY0 h a) (hi : vp_in i 4) : aok h 40 (a + 1491) i := ⟨ly0_K_1491 L, by rw [ly0_N_1491 L]; exact hi⟩
theorem ly0_R_0_53 {h : ah_T} {a : Nat} (L : LY0 h a) : ah_R h a 53 = a + 1492 := (L.1.2 (0, 1, 53, 1492, 40, 5) (List.mem_of_getElem? (i := 60) rfl)).2.1
theorem ly0_K_1492 {h : ah_T} {a : Nat} (L : LY0 h a) : ah_kd h (a + 1492) = 40 := (L.1.2 (0, 1, 53, 1492, 40, 5) (List.mem_of_getElem? (i := 60) rfl)).2.2.1
theorem ly0_N_1492 {h : ah_T} {a : Nat} (L : LY0 h a) : ah_ln h (a + 1492) = 5 := (L.1.2 (0, 1, 53, 1492, 40, 5) (List.mem_of_getElem? (i := 60) rfl)).2.2.2
theorem ly0_A_1492 {h : ah_T} {a : Nat} {i : Int32} (L : LY0 h a) (hi : vp_in i 5) : aok h 40 (a + 1492) i := ⟨ly0_K_1492 L, by rw [ly0_N_1492 L]; exact hi⟩
theorem ly0_R_0_54 {h : ah_T} {a : Nat} (L : LY0 h a) : ah_R h a 54 = a + 1493 := (L.1.2 (0, 1, 54, 1493, 40, 4) (List.mem_of_getElem? (i := 61) rfl)).2.1
theorem ly0_K_1493 {h : ah_T} {a : Nat} (L : LY0 h a) : ah_kd h (a + 1493) = 40 := (L.1.2 (0, 1, 54, 1493, 40, 4) (List.mem_of_getElem? (i := 61) rfl)).2.2.1
theorem ly0_N_1493 {h : ah_T} {a : Nat} (L : LY0 h a) : ah_ln h (a + 1493) = 4 := (L.1.2 (0, 1, 54, 1493, 40, 4) (List.mem_of_getElem? (i := 61) rfl)).2.2.2
theorem ly0_A_1493 {h : ah_T} {a : Nat} {i : Int32} (L : LY0 h a) (hi : vp_in i 4) : aok h 40 (a + 1493) i := ⟨ly0_K_1493 L, by rw [ly0_N_1493 L]; exact hi⟩
theorem ly1_G1_73 {h : ah_T} {a n : Nat} (L : LY1 h a) (hn : n < 6) : ah_R h (a + 73) n = a + (74 + n) := by have := (L.2.2.2.1.1.2 n hn).1; rw [this]; omega
theorem ly1_K1_73 {h : ah_T} {a n : Nat} (L : LY1 h a) (hn : n < 6) : ah_kd h (a + (74 + n)) = 51 := by have := (L.2.2.2.1.1.2 n hn).2.1; rw [show a + (74 + n) = a + 73 + (1 + n) by omega]; exact this
theorem ly1_N1_73 {h : ah_T} {a n : Nat} (L : LY1 h a) (hn : n < 6) : ah_ln h (a + (74 + n)) = 10 := by have := (L.2.2.2.1.1.2 n hn).2.2; rw [show a + (74 + n) = a + 73 + (1 + n) by omega]; exact this
theorem ly1_G2_73 {h : ah_T} {a n m : Nat} (L : LY1 h a) (hn : n < 6) (hm : m < 10) : ah_R h (a + (74 + n)) m = a + (117 + 22 * (10 * n + m)) := by have := (L.2.2.2.1.2 n hn m hm).1; rw [show a + (74 + n) = a + 73 + (1 + n) by omega, this]; omega
theorem ly1_H2_73 {h : ah_T} {a n m : Nat} (L : LY1 h a) (hn : n < 6) (hm : m < 10) : LY3 h (a + (117 + 22 * (10 * n + m))) := by have := (L.2.2.2.1.2 n hn m hm).2; rw [show a + (117 + 22 * (10 * n + m)) = a + 117 + 22 * (10 * n + m) by omega]; exact this
theorem ly1_G1_80 {h : ah_T} {a n : Nat} (L : LY1 h a) (hn : n < 6) : ah_R h (a + 80) n = a + (81 + n) := by have := (L.2.2.2.2.2 n hn).1; rw [this]; omega
theorem ly1_K1_80 {h : ah_T} {a n : Nat} (L : LY1 h a) (hn : n < 6) : ah_kd h (a + (81 + n)) = 41 := by have := (L.2.2.2.2.2 n hn).2.1; rw [show a + (81 + n) = a + 80 + (1 + n) by omega]; exact this
theorem ly1_N1_80 {h : ah_T} {a n : Nat} (L : LY1 h a) (hn : n < 6) : ah_ln h (a + (81 + n)) = 10 := by have := (L.2.2.2.2.2 n hn).2.2; rw [show a + (81 + n) = a + 80 + (1 + n) by omega]; exact this
theorem ly1_G1_1 {h : ah_T} {a n : Nat} (L : LY1 h a) (hn : n < 8) : ah_R h (a + 1) n = a + (2 + 7 * n) := by have := (L.2.1.2 n hn).1; rw [this]; omega
theorem ly1_K1_1 {h : ah_T} {a n : Nat} (L : LY1 h a) (hn : n < 8) : ah_kd h (a + (2 + 7 * n)) = 52 := by have := (L.2.1.2 n hn).2.2.1.1; rw [show a + (2 + 7 * n) = a + 1 + (1 + 7 * n) by omega]; exact this
theorem ly1_N1_1 {h : ah_T} {a n : Nat} (L : LY1 h a) (hn : n < 8) : ah_ln h (a + (2 + 7 * n)) = 6 := by have := (L.2.1.2 n hn).2.1; rw [show a + (2 + 7 * n) = a + 1 + (1 + 7 * n) by omega]; exact this
theorem ly1_G2_1 {h : ah_T} {a n m : Nat} (L : LY1 h a) (hn : n < 8) (hm : m < 6) : ah_R h (a + (2 + 7 * n)) m = a + (3 + 7 * n + m) := by have := ((L.2.1.2 n hn).2.2.1.2 m hm).1; rw [show a + (2 + 7 * n) = a + 1 + (1 + 7 * n) by omega, this]; omega
theorem ly1_K2_1 {h : ah_T} {a n m : Nat} (L : LY1 h a) (hn : n < 8) (hm : m < 6) : ah_kd h (a + (3 + 7 * n + m)) = 51 := by have := ((L.2.1.2 n hn).2.2.1.2 m hm).2.1; rw [show a + (3 + 7 * n + m) = a + 1 + (1 + 7 * n) + (1 + m) by omega]; exact this
theorem ly1_N2_1 {h : ah_T} {a n m : Nat} (L : LY1 h a) (hn : n < 8) (hm : m < 6) : ah_ln h (a + (3 + 7 * n + m)) = 10 := by have := ((L.2.1.2 n hn).2.2.1.2 m hm).2.2; rw [show a + (3 + 7 * n + m) = a + 1 + (1 + 7 * n) + (1 + m) by omega]; exact this
theorem ly1_G3_1 {h : ah_T} {a n m y : Nat} (L : LY1 h a) (hn : n < 8) (hm : m < 6) (hy : y < 10) : ah_R h (a + (3 + 7 * n + m)) y = a + (97 + 22 * (10 * m + y) + 2 * n) := by have := ((L.2.1.2 n hn).2.2.2 m hm y hy).1; rw [show a + (3 + 7 * n + m) = a + 1 + (1 + 7 * n) + (1 + m) by omega, this]; omega
theorem ly1_H3_1 {h : ah_T} {a n m y : Nat} (L : LY1 h a) (hn : n < 8) (hm : m < 6) (hy : y < 10) : LY3 h (a + (97 + 22 * (10 * m + y) + 2 * n)) := by have := ((L.2.1.2 n hn).2.2.2 m hm y hy).2; rw [show a + (97 + 22 * (10 * m + y) + 2 * n) = a + 97 + 2 * n + 22 * (10 * m + y) by omega]; exact this
theorem ly1_G1_58 {h : ah_T} {a n : Nat} (L : LY1 h a) (hn : n < 2) : ah_R h (a + 58) n = a + (59 + 7 * n) := by have := (L.2.2.1.2 n hn).1; rw [this]; omega
theorem ly1_K1_58 {h : ah_T} {a n : Nat} (L : LY1 h a) (hn : n < 2) : ah_kd h (a + (59 + 7 * n)) = 52 := by have := (L.2.2.1.2 n hn).2.2.1.1; rw [show a + (59 + 7 * n) = a + 58 + (1 + 7 * n) by omega]; exact this
theorem ly1_N1_58 {h : ah_T} {a n : Nat} (L : LY1 h a) (hn : n < 2) : ah_ln h (a + (59 + 7 * n)) = 6 := by have := (L.2.2.1.2 n hn).2.1; rw [show a + (59 + 7 * n) = a + 58 + (1 + 7 * n) by omega]; exact this
theorem ly1_G2_58 {h : ah_T} {a n m : Nat} (L : LY1 h a) (hn : n < 2) (hm : m < 6) : ah_R h (a + (59 + 7 * n)) m = a + (60 + 7 * n + m) := by have := ((L.2.2.1.2 n hn).2.2.1.2 m hm).1; rw [show a + (59 + 7 * n) = a + 58 + (1 + 7 * n) by omega, this]; omega
theorem ly1_K2_58 {h : ah_T} {a n m : Nat} (L : LY1 h a) (hn : n < 2) (hm : m < 6) : ah_kd h (a + (60 + 7 * n + m)) = 51 := by have := ((L.2.2.1.2 n hn).2.2.1.2 m hm).2.1; rw [show a + (60 + 7 * n + m) = a + 58 + (1 + 7 * n) + (1 + m) by omega]; exact this
theorem ly1_N2_58 {h : ah_T} {a n m : Nat} (L : LY1 h a) (hn : n < 2) (hm : m < 6) : ah_ln h (a + (60 + 7 * n + m)) = 10 := by have := ((L.2.2.1.2 n hn).2.2.1.2 m hm).2.2; rw [show a + (60 + 7 * n + m) = a + 58 + (1 + 7 * n) + (1 + m) by omega]; exact this
theorem ly1_G3_58 {h : ah_T} {a n m y : Nat} (L : LY1 h a) (hn : n < 2) (hm : m < 6) (hy : y < 10) : ah_R h (a + (60 + 7 * n + m)) y = a + (113 + 22 * (10 * m + y) + 2 * n) := by have := ((L.2.2.1.2 n hn).2.2.2 m hm y hy).1; rw [show a + (60 + 7 * n + m) = a + 58 + (1 + 7 * n) + (1 + m) by omega, this]; omega
theorem ly1_H3_58 {h : ah_T} {a n m y : Nat} (L : LY1 h a) (hn : n < 2) (hm : m < 6) (hy : y < 10) : LY3 h (a + (113 + 22 * (10 * m + y) + 2 * n)) := by have := ((L.2.2.1.2 n hn).2.2.2 m hm y hy).2; rw [show a + (113 + 22 * (10 * m + y) + 2 * n) = a + 113 + 2 * n + 22 * (10 * m + y) by omega]; exact this
theorem ly0_G1_82 {h : ah_T} {a n : Nat} (L : LY0 h a) (hn : n < 6) : ah_R h (a + 82) n = a + (83 + n) := by have := (L.2.1.2.2.2.1.1.2 n hn).1; rw [show a + 82 = a + 9 + 73 by omega, this]; omega
theorem ly0_K1_82 {h : ah_T} {a n : Nat} (L : LY0 h a) (hn : n < 6) : ah_kd h (a + (83 + n)) = 51 := by have := (L.2.1.2.2.2.1.1.2 n hn).2.1; rw [show a + (83 + n) = a + 9 + 73 + (1 + n) by omega]; exact this
theorem ly0_N1_82 {h : ah_T} {a n : Nat} (L : LY0 h a) (hn : n < 6) : ah_ln h (a + (83 + n)) = 10 := by have := (L.2.1.2.2.2.1.1.2 n hn).2.2; rw [show a + (83 + n) = a + 9 + 73 + (1 + n) by omega]; exact this
theorem ly0_G2_82 {h : ah_T} {a n m : Nat} (L : LY0 h a) (hn : n < 6) (hm : m < 10) : ah_R h (a + (83 + n)) m = a + (126 + 22 * (10 * n + m)) := by have := (L.2.1.2.2.2.1.2 n hn m hm).1; rw [show a + (83 + n) = a + 9 + 73 + (1 + n) by omega, this]; omega
theorem ly0_H2_82 {h : ah_T} {a n m : Nat} (L : LY0 h a) (hn : n < 6) (hm : m < 10) : LY3 h (a + (126 + 22 * (10 * n + m))) := by have := (L.2.1.2.2.2.1.2 n hn m hm).2; rw [show a + (126 + 22 * (10 * n + m)) = a + 9 + 117 + 22 * (10 * n + m) by omega]; exact this
theorem ly0_G1_89 {h : ah_T} {a n : Nat} (L : LY0 h a) (hn : n < 6) : ah_R h (a + 89) n = a + (90 + n) := by have := (L.2.1.2.2.2.2.2 n hn).1; rw [show a + 89 = a + 9 + 80 by omega, this]; omega
theorem ly0_K1_89 {h : ah_T} {a n : Nat} (L : LY0 h a) (hn : n < 6) : ah_kd h (a + (90 + n)) = 41 := by have := (L.2.1.2.2.2.2.2 n hn).2.1; rw [show a + (90 + n) = a + 9 + 80 + (1 + n) by omega]; exact this
theorem ly0_N1_89 {h : ah_T} {a n : Nat} (L : LY0 h a) (hn : n < 6) : ah_ln h (a + (90 + n)) = 10 := by have := (L.2.1.2.2.2.2.2 n hn).2.2; rw [show a + (90 + n) = a + 9 + 80 + (1 + n) by omega]; exact this
theorem ly0_G1_10 {h : ah_T} {a n : Nat} (L : LY0 h a) (hn : n < 8) : ah_R h (a + 10) n = a + (11 + 7 * n) := by have := (L.2.1.2.1.2 n hn).1; rw [show a + 10 = a + 9 + 1 by omega, this]; omega
theorem ly0_K1_10 {h : ah_T} {a n : Nat} (L : LY0 h a) (hn : n < 8) : ah_kd h (a + (11 + 7 * n)) = 52 := by have := (L.2.1.2.1.2 n hn).2.2.1.1; rw [show a + (11 + 7 * n) = a + 9 + 1 + (1 + 7 * n) by omega]; exact this
theorem ly0_N1_10 {h : ah_T} {a n : Nat} (L : LY0 h a) (hn : n < 8) : ah_ln h (a + (11 + 7 * n)) = 6 := by have := (L.2.1.2.1.2 n hn).2.1; rw [show a + (11 + 7 * n) = a + 9 + 1 + (1 + 7 * n) by omega]; exact this
theorem ly0_G2_10 {h : ah_T} {a n m : Nat} (L : LY0 h a) (hn : n < 8) (hm : m < 6) : ah_R h (a + (11 + 7 * n)) m = a + (12 + 7 * n + m) := by have := ((L.2.1.2.1.2 n hn).2.2.1.2 m hm).1; rw [show a + (11 + 7 * n) = a + 9 + 1 + (1 + 7 * n) by omega, this]; omega
theorem ly0_K2_10 {h : ah_T} {a n m : Nat} (L : LY0 h a) (hn : n < 8) (hm : m < 6) : ah_kd h (a + (12 + 7 * n + m)) = 51 := by have := ((L.2.1.2.1.2 n hn).2.2.1.2 m hm).2.1; rw [show a + (12 + 7 * n + m) = a + 9 + 1 + (1 + 7 * n) + (1 + m) by omega]; exact this
theorem ly0_N2_10 {h : ah_T} {a n m : Nat} (L : LY0 h a) (hn : n < 8) (hm : m < 6) : ah_ln h (a + (12 + 7 * n + m)) = 10 := by have := ((L.2.1.2.1.2 n hn).2.2.1.2 m hm).2.2; rw [show a + (12 + 7 * n + m) = a + 9 + 1 + (1 + 7 * n) + (1 + m) by omega]; exact this
theorem ly0_G3_10 {h : ah_T} {a n m y : Nat} (L : LY0 h a) (hn : n < 8) (hm : m < 6) (hy : y < 10) : ah_R h (a + (12 + 7 * n + m)) y = a + (106 + 22 * (10 * m + y) + 2 * n) := by have := ((L.2.1.2.1.2 n hn).2.2.2 m hm y hy).1; rw [show a + (12 + 7 * n + m) = a + 9 + 1 + (1 + 7 * n) + (1 + m) by omega, this]; omega
theorem ly0_H3_10 {h : ah_T} {a n m y : Nat} (L : LY0 h a) (hn : n < 8) (hm : m < 6) (hy : y < 10) : LY3 h (a + (106 + 22 * (10 * m + y) + 2 * n)) := by have := ((L.2.1.2.1.2 n hn).2.2.2 m hm y hy).2; rw [show a + (106 + 22 * (10 * m + y) + 2 * n) = a + 9 + 97 + 2 * n + 22 * (10 * m + y) by omega]; exact this
theorem ly0_G1_67 {h : ah_T} {a n : Nat} (L : LY0 h a) (hn : n < 2) : ah_R h (a + 67) n = a + (68 + 7 * n) := by have := (L.2.1.2.2.1.2 n hn).1; rw [show a + 67 = a + 9 + 58 by omega, this]; omega
theorem ly0_K1_67 {h : ah_T} {a n : Nat} (L : LY0 h a) (hn : n < 2) : ah_kd h (a + (68 + 7 * n)) = 52 := by have := (L.2.1.2.2.1.2 n hn).2.2.1.1; rw [show a + (68 + 7 * n) = a + 9 + 58 + (1 + 7 * n) by omega]; exact this
theorem ly0_N1_67 {h : ah_T} {a n : Nat} (L : LY0 h a) (hn : n < 2) : ah_ln h (a + (68 + 7 * n)) = 6 := by have := (L.2.1.2.2.1.2 n hn).2.1; rw [show a + (68 + 7 * n) = a + 9 + 58 + (1 + 7 * n) by omega]; exact this
theorem ly0_G2_67 {h : ah_T} {a n m : Nat} (L : LY0 h a) (hn : n < 2) (hm : m < 6) : ah_R h (a + (68 + 7 * n)) m = a + (69 + 7 * n + m) := by have := ((L.2.1.2.2.1.2 n hn).2.2.1.2 m hm).1; rw [show a + (68 + 7 * n) = a + 9 + 58 + (1 + 7 * n) by omega, this]; omega
theorem ly0_K2_67 {h : ah_T} {a n m : Nat} (L : LY0 h a) (hn : n < 2) (hm : m < 6) : ah_kd h (a + (69 + 7 * n + m)) = 51 := by have := ((L.2.1.2.2.1.2 n hn).2.2.1.2 m hm).2.1; rw [show a + (69 + 7 * n + m) = a + 9 + 58 + (1 + 7 * n) + (1 + m) by omega]; exact this
theorem ly0_N2_67 {h : ah_T} {a n m : Nat} (L : LY0 h a) (hn : n < 2) (hm : m < 6) : ah_ln h (a + (69 + 7 * n + m)) = 10 := by have := ((L.2.1.2.2.1.2 n hn).2.2.1.2 m hm).2.2; rw [show a + (69 + 7 * n + m) = a + 9 + 58 + (1 + 7 * n) + (1 + m) by omega]; exact this
theorem ly0_G3_67 {h : ah_T} {a n m y : Nat} (L : LY0 h a) (hn : n < 2) (hm : m < 6) (hy : y < 10) : ah_R h (a + (69 + 7 * n + m)) y = a + (122 + 22 * (10 * m + y) + 2 * n) := by have := ((L.2.1.2.2.1.2 n hn).2.2.2 m hm y hy).1; rw [show a + (69 + 7 * n + m) = a + 9 + 58 + (1 + 7 * n) + (1 + m) by omega, this]; omega
theorem ly0_H3_67 {h : ah_T} {a n m y : Nat} (L : LY0 h a) (hn : n < 2) (hm : m < 6) (hy : y < 10) : LY3 h (a + (122 + 22 * (10 * m + y) + 2 * n)) := by have := ((L.2.1.2.2.1.2 n hn).2.2.2 m hm y hy).2; rw [show a + (122 + 22 * (10 * m + y) + 2 * n) = a + 9 + 113 + 2 * n + 22 * (10 * m + y) by omega]; exact this
theorem ly0_G1_1454 {h : ah_T} {a n : Nat} (L : LY0 h a) (hn : n < 21) : ah_R h (a + 1454) n = a + (1455 + n) := by have := (L.2.2.1.2 n hn).1; omega
theorem ly0_K1_1454 {h : ah_T} {a n : Nat} (L : LY0 h a) (hn : n < 21) : ah_kd h (a + (1455 + n)) = 40 := by have := (L.2.2.1.2 n hn).2.1; rw [show a + (1455 + n) = a + 1454 + (1 + n) by omega]; exact this
theorem ly0_N1_1454 {h : ah_T} {a n : Nat} (L : LY0 h a) (hn : n < 21) : ah_ln h (a + (1455 + n)) = 256 := by have := (L.2.2.1.2 n hn).2.2; rw [show a + (1455 + n) = a + 1454 + (1 + n) by omega]; exact this
theorem ly0_G1_1476 {h : ah_T} {a n : Nat} (L : LY0 h a) (hn : n < 5) : ah_R h (a + 1476) n = a + (1477 + n) := by have := (L.2.2.2.1.2 n hn).1; omega
theorem ly0_K1_1476 {h : ah_T} {a n : Nat} (L : LY0 h a) (hn : n < 5) : ah_kd h (a + (1477 + n)) = 40 := by have := (L.2.2.2.1.2 n hn).2.1; rw [show a + (1477 + n) = a + 1476 + (1 + n) by omega]; exact this
theorem ly0_N1_1476 {h : ah_T} {a n : Nat} (L : LY0 h a) (hn : n < 5) : ah_ln h (a + (1477 + n)) = 4 := by have := (L.2.2.2.1.2 n hn).2.2; rw [show a + (1477 + n) = a + 1476 + (1 + n) by omega]; exact this
theorem ly0_G1_1482 {h : ah_T} {a n : Nat} (L : LY0 h a) (hn : n < 5) : ah_R h (a + 1482) n = a + (1483 + n) := by have := (L.2.2.2.2.1.2 n hn).1; omega
theorem ly0_K1_1482 {h : ah_T} {a n : Nat} (L : LY0 h a) (hn : n < 5) : ah_kd h (a + (1483 + n)) = 40 := by have := (L.2.2.2.2.1.2 n hn).2.1; rw [show a + (1483 + n) = a + 1482 + (1 + n) by omega]; exact this
theorem ly0_N1_1482 {h : ah_T} {a n : Nat} (L : LY0 h a) (hn : n < 5) : ah_ln h (a + (1483 + n)) = 4 := by have := (L.2.2.2.2.1.2 n hn).2.2; rw [show a + (1483 + n) = a + 1482 + (1 + n) by omega]; exact this
theorem ly0_T {h : ah_T} {a n : Nat} (L : LY0 h a) (hn : n < 4) : ah_R h (a + 1) n = a + (1494 + n) := (L.2.2.2.2.2 n hn).1
theorem ly0_TK {h : ah_T} {a n : Nat} (L : LY0 h a) (hn : n < 4) : ah_kd h (a + (1494 + n)) = 8 := (L.2.2.2.2.2 n hn).2
theorem ly3_r {h : ah_T} {a : Nat} (L : LY3 h a) : ah_R h a 0 = a + 1 := ly3_R_0_0 L

/-! ===== bits of ints ===== -/
theorem nI_and {a b : Nat} (ha : a < 4294967296) (hb : b < 4294967296) : nI a &&& nI b = nI (a &&& b) := by
  apply Int32.toBitVec_inj.mp
  apply BitVec.eq_of_toNat_eq
  show ((nI a).toBitVec &&& (nI b).toBitVec).toNat = _
  rw [BitVec.toNat_and, pk_tn ha, pk_tn hb, pk_tn (Nat.lt_of_le_of_lt Nat.and_le_left ha)]
theorem nI_or {a b : Nat} (ha : a < 4294967296) (hb : b < 4294967296) : nI a ||| nI b = nI (a ||| b) := by
  apply Int32.toBitVec_inj.mp
  apply BitVec.eq_of_toNat_eq
  show ((nI a).toBitVec ||| (nI b).toBitVec).toNat = _
  rw [BitVec.toNat_or, pk_tn ha, pk_tn hb, pk_tn (Nat.or_lt_two_pow (n := 32) ha hb)]
theorem or_low {a k b : Nat} (ha : a < 2 ^ k) (hb : b < 2) : a ||| b * 2 ^ k = a + b * 2 ^ k := by
  have : b = 0 ∨ b = 1 := by omega
  rcases this with e | e <;> subst e
  · rw [Nat.zero_mul, Nat.or_zero]; rfl
  · have q := Nat.two_pow_add_eq_or_of_lt ha 1
    rw [Nat.mul_one] at q
    rw [Nat.one_mul, Nat.or_comm, ← q, Nat.add_comm]
theorem sh31 : ∀ k, k < 32 → ((nI k &&& 31).toBitVec.smod 32).toNat = k := by decide +kernel
theorem sh1 : ∀ k, k < 31 → (1 : Int32) <<< (nI k &&& 31) = nI (2 ^ k) := by decide +kernel
theorem us31 : ∀ k, k < 32 → (((nI k).toUInt32 &&& Int32.toUInt32 31).toBitVec % 32).toNat = k := by decide +kernel
/-- one bit -/
theorem bit_n {s k : Nat} (hs : s < 2147483648) (hk : k < 32) : (nI s >>> (nI k &&& 31)) &&& (1 : Int32) = nI (s / 2 ^ k % 2) := by
  rw [pk_shrN hs _ k (sh31 k hk)]
  exact pk_andN (n := s / 2 ^ k) (m := 1) (by have := Nat.div_le_self s (2 ^ k); omega) 1 (by decide)
theorem bit_1 {s k : Nat} (hs : s < 2147483648) (hk : k < 32) : (((nI s >>> (nI k &&& 31)) &&& (1 : Int32)) = 1 ↔ s / 2 ^ k % 2 = 1) ∧ (((nI s >>> (nI k &&& 31)) &&& (1 : Int32)) = 0 ↔ s / 2 ^ k % 2 = 0) := by
  rw [bit_n hs hk, show (1 : Int32) = nI 1 from rfl, show (0 : Int32) = nI 0 from rfl, nI_eq (by omega) (by decide), nI_eq (by omega) (by decide)]
  exact ⟨Iff.rfl, Iff.rfl⟩
/-! how many bits -/
theorem and_nib {n x m M : Nat} (hn : n < 16) (hm : m < 16) : (n + 16 * x) &&& (m + 16 * M) = (n &&& m) + 16 * (x &&& M) := by
  have a := Nat.and_mod_two_pow (a := n + 16 * x) (b := m + 16 * M) (n := 4)
  have b := Nat.and_div_two_pow (a := n + 16 * x) (b := m + 16 * M) (n := 4)
  have e := Nat.mod_add_div ((n + 16 * x) &&& (m + 16 * M)) (2 ^ 4)
  rw [a, b] at e
  rw [show (n + 16 * x) % 2 ^ 4 = n by omega, show (m + 16 * M) % 2 ^ 4 = m by omega, show (n + 16 * x) / 2 ^ 4 = x by omega, show (m + 16 * M) / 2 ^ 4 = M by omega] at e
  exact e.symm
/-- five nibbles -/
def nb5 (a b c d e : Nat) : Nat := a + 16 * (b + 16 * (c + 16 * (d + 16 * e)))
theorem nb5_and {a b c d e : Nat} (ha : a < 16) (hb : b < 16) (hc : c < 16) (hd : d < 16) (he : e < 16) (p q r s t : Nat) (hp : p < 16) (hq : q < 16) (hr : r < 16) (hs : s < 16) : nb5 a b c d e &&& nb5 p q r s t = nb5 (a &&& p) (b &&& q) (c &&& r) (d &&& s) (e &&& t) := by
  unfold nb5
  rw [and_nib ha hp, and_nib hb hq, and_nib hc hr, and_nib hd hs]
theorem nib1 : ∀ n, n < 16 → ∀ y, y < 2 → (n / 2 + 8 * y) &&& 5 = (n / 2) &&& 5 := by decide +kernel
theorem nib2 : ∀ n, n < 16 → ∀ y, y < 4 → (n / 4 + 4 * y) &&& 3 = n / 4 &&& 3 := by decide +kernel
theorem nibA : ∀ n, n < 16 → n / 2 &&& 5 ≤ n ∧ n - (n / 2 &&& 5) < 16 ∧ ((n - (n / 2 &&& 5)) &&& 3) + ((n - (n / 2 &&& 5)) / 4 &&& 3) = n % 2 + n / 2 % 2 + n / 4 % 2 + n / 8 % 2 := by decide +kernel
theorem and_cut {x : Nat} (M : Nat) (hM : M < 4294967296) (hx : x < 1048576) : x &&& M = x &&& (M % 1048576) := by
  have a := Nat.and_mod_two_pow (a := x) (b := M) (n := 20)
  have b : x &&& M < 2 ^ 20 := Nat.lt_of_le_of_lt Nat.and_le_left hx
  rw [Nat.mod_eq_of_lt b, Nat.mod_eq_of_lt (show x < 2 ^ 20 from hx)] at a
  exact a
theorem nb5_of {x : Nat} (h : x < 1048576) : x = nb5 (x % 16) (x / 16 % 16) (x / 256 % 16) (x / 4096 % 16) (x / 65536) := by
  unfold nb5; omega
/-- the three first steps, by nibbles -/
theorem swA {a b c d e : Nat} (ha : a < 16) (hb : b < 16) (hc : c < 16) (hd : d < 16) (he : e < 16) : nb5 a b c d e / 2 &&& 1431655765 = nb5 (a / 2 &&& 5) (b / 2 &&& 5) (c / 2 &&& 5) (d / 2 &&& 5) (e / 2 &&& 5) := by
  have h : nb5 a b c d e < 1048576 := by unfold nb5; omega
  rw [and_cut 1431655765 (by decide) (by omega), show (1431655765 : Nat) % 1048576 = nb5 5 5 5 5 5 from by decide]
  have e0 : nb5 a b c d e / 2 = nb5 (a / 2 + 8 * (b % 2)) (b / 2 + 8 * (c % 2)) (c / 2 + 8 * (d % 2)) (d / 2 + 8 * (e % 2)) (e / 2 + 8 * 0) := by unfold nb5; omega
  rw [e0, nb5_and (by omega) (by omega) (by omega) (by omega) (by omega) _ _ _ _ _ (by decide) (by decide) (by decide) (by decide), nib1 a ha _ (by omega), nib1 b hb _ (by omega), nib1 c hc _ (by omega), nib1 d hd _ (by omega), nib1 e he 0 (by omega)]
theorem swB {a b c d e : Nat} (ha : a < 16) (hb : b < 16) (hc : c < 16) (hd : d < 16) (he : e < 16) : (nb5 a b c d e &&& 858993459) = nb5 (a &&& 3) (b &&& 3) (c &&& 3) (d &&& 3) (e &&& 3) ∧ nb5 a b c d e / 4 &&& 858993459 = nb5 (a / 4 &&& 3) (b / 4 &&& 3) (c / 4 &&& 3) (d / 4 &&& 3) (e / 4 &&& 3) := by
  have h : nb5 a b c d e < 1048576 := by unfold nb5; omega
  have m : (858993459 : Nat) % 1048576 = nb5 3 3 3 3 3 := by decide
  constructor
  · rw [and_cut 858993459 (by decide) h, m, nb5_and ha hb hc hd he _ _ _ _ _ (by decide) (by decide) (by decide) (by decide)]
  · rw [and_cut 858993459 (by decide) (by omega), m]
    have e0 : nb5 a b c d e / 4 = nb5 (a / 4 + 4 * (b % 4)) (b / 4 + 4 * (c % 4)) (c / 4 + 4 * (d % 4)) (d / 4 + 4 * (e % 4)) (e / 4 + 4 * 0) := by unfold nb5; omega
    rw [e0, nb5_and (by omega) (by omega) (by omega) (by omega) (by omega) _ _ _ _ _ (by decide) (by decide) (by decide) (by decide), nib2 a ha _ (by omega), nib2 b hb _ (by omega), nib2 c hc _ (by omega), nib2 d hd _ (by omega), nib2 e he 0 (by omega)]
theorem nib3 : ∀ n, n < 16 → n &&& 15 = n ∧ n &&& 0 = 0 := by decide +kernel
def pc4 (n : Nat) : Nat := n % 2 + n / 2 % 2 + n / 4 % 2 + n / 8 % 2
theorem pc4_le (n : Nat) : pc4 n ≤ 4 := by unfold pc4; omega
theorem sN_ap {f : Nat → Nat} {a : Nat} : ∀ b, sN f (a + b) = sN f a + sN (fun i => f (a + i)) b
  | 0 => rfl
  | b + 1 => by
    show sN f (a + b) + f (a + b) = sN f a + (sN (fun i => f (a + i)) b + f (a + b))
    rw [sN_ap b]; omega
theorem pcn_nib {n y : Nat} (hn : n < 16) (k : Nat) : pcn (n + 16 * y) (4 + k) = pc4 n + pcn y k := by
  unfold pcn
  rw [sN_ap k]
  have e2 : sN (fun i => (n + 16 * y) / 2 ^ (4 + i) % 2) k = sN (fun i => y / 2 ^ i % 2) k := sN_ext (fun i _ => by
    show (n + 16 * y) / 2 ^ (4 + i) % 2 = y / 2 ^ i % 2
    rw [Nat.pow_add, ← Nat.div_div_eq_div_mul, show (n + 16 * y) / 2 ^ 4 = y by omega])
  rw [e2]
  congr 1
  show 0 + (n + 16 * y) / 1 % 2 + (n + 16 * y) / 2 % 2 + (n + 16 * y) / 4 % 2 + (n + 16 * y) / 8 % 2 = pc4 n
  unfold pc4; omega
theorem pcn_20 {a b c d e : Nat} (ha : a < 16) (hb : b < 16) (hc : c < 16) (hd : d < 16) (he : e < 16) : pcn (nb5 a b c d e) 20 = pc4 a + pc4 b + pc4 c + pc4 d + pc4 e := by
  have q0 := pcn_nib (y := 0) he 0
  have q1 := pcn_nib (y := e) hd 4
  have q2 := pcn_nib (y := d + 16 * e) hc 8
  have q3 := pcn_nib (y := c + 16 * (d + 16 * e)) hb 12
  have q4 := pcn_nib (y := b + 16 * (c + 16 * (d + 16 * e))) ha 16
  have z : pcn 0 0 = 0 := rfl
  have q0 : pcn e 4 = pc4 e + pcn 0 0 := q0
  show pcn (a + 16 * (b + 16 * (c + 16 * (d + 16 * e)))) (4 + 16) = _
  rw [q4, show (16 : Nat) = 4 + 12 from rfl]
  have q3 : pcn (b + 16 * (c + 16 * (d + 16 * e))) (4 + 12) = _ := q3
  have q2 : pcn (c + 16 * (d + 16 * e)) 12 = _ := q2
  have q1 : pcn (d + 16 * e) 8 = _ := q1
  have e1 : pcn (b + (4 + 12) * (c + (4 + 12) * (d + (4 + 12) * e))) (4 + 12) = pc4 b + pcn (c + 16 * (d + 16 * e)) 12 := q3
  rw [e1, q2, q1, q0, z]; omega
def ib1 (x : Int32) : Int32 := x - ((x.toUInt32 >>> ((1 : Int32).toUInt32 &&& Int32.toUInt32 31)).toInt32 &&& (1431655765 : Int32))
def ib2 (x : Int32) : Int32 := (x &&& (858993459 : Int32)) + ((x.toUInt32 >>> ((2 : Int32).toUInt32 &&& Int32.toUInt32 31)).toInt32 &&& (858993459 : Int32))
def ib3 (x : Int32) : Int32 := (x + (x.toUInt32 >>> ((4 : Int32).toUInt32 &&& Int32.toUInt32 31)).toInt32) &&& (252645135 : Int32)
def ib4 (x : Int32) : Int32 := x + (x.toUInt32 >>> ((8 : Int32).toUInt32 &&& Int32.toUInt32 31)).toInt32
def ib5 (x : Int32) : Int32 := (x + (x.toUInt32 >>> ((16 : Int32).toUInt32 &&& Int32.toUInt32 31)).toInt32) &&& (63 : Int32)
theorem iBits_s (x : Int32) : iBits x = ib5 (ib4 (ib3 (ib2 (ib1 x)))) := by
  unfold iBits ib5 ib4 ib3 ib2 ib1
  rfl
theorem us_n {n k : Nat} (hn : n < 4294967296) (hk : k < 32) : ((nI n).toUInt32 >>> ((nI k).toUInt32 &&& Int32.toUInt32 31)).toInt32 = nI (n / 2 ^ k) := pk_ushrN hn (nI k) k (us31 k hk)
theorem ib1_n {n m : Nat} (hn : n < 4294967296) (hm : n / 2 &&& 1431655765 = m) (hl : m ≤ n) : ib1 (nI n) = nI (n - m) := by
  have u := us_n (k := 1) hn (by decide)
  have u : ((nI n).toUInt32 >>> ((1 : Int32).toUInt32 &&& Int32.toUInt32 31)).toInt32 = nI (n / 2) := u
  unfold ib1
  rw [u, show (1431655765 : Int32) = nI 1431655765 from rfl, nI_and (by omega) (by decide), hm, pk_sub hl]
theorem ib2_n {n a b : Nat} (hn : n < 4294967296) (ha : n &&& 858993459 = a) (hb : n / 4 &&& 858993459 = b) : ib2 (nI n) = nI (a + b) := by
  have u := us_n (k := 2) hn (by decide)
  have u : ((nI n).toUInt32 >>> ((2 : Int32).toUInt32 &&& Int32.toUInt32 31)).toInt32 = nI (n / 4) := u
  unfold ib2
  rw [u, show (858993459 : Int32) = nI 858993459 from rfl, nI_and hn (by decide), nI_and (by omega) (by decide), ha, hb, nI_add]
theorem ib3_n {n m : Nat} (hn : n < 1048576) (hm : (n + n / 16) &&& 252645135 = m) : ib3 (nI n) = nI m := by
  have u := us_n (n := n) (k := 4) (by omega) (by decide)
  have u : ((nI n).toUInt32 >>> ((4 : Int32).toUInt32 &&& Int32.toUInt32 31)).toInt32 = nI (n / 16) := u
  unfold ib3
  rw [u, nI_add, show (252645135 : Int32) = nI 252645135 from rfl, nI_and (by omega) (by decide), hm]
theorem ib4_n {n : Nat} (hn : n < 1048576) : ib4 (nI n) = nI (n + n / 256) := by
  have u := us_n (n := n) (k := 8) (by omega) (by decide)
  have u : ((nI n).toUInt32 >>> ((8 : Int32).toUInt32 &&& Int32.toUInt32 31)).toInt32 = nI (n / 256) := u
  unfold ib4
  rw [u, nI_add]
theorem ib5_n {n : Nat} (hn : n < 2097152) : ib5 (nI n) = nI ((n + n / 65536) % 64) := by
  have u := us_n (n := n) (k := 16) (by omega) (by decide)
  have u : ((nI n).toUInt32 >>> ((16 : Int32).toUInt32 &&& Int32.toUInt32 31)).toInt32 = nI (n / 65536) := u
  unfold ib5
  rw [u, nI_add]
  exact pk_andN (m := 63) (by omega) 6 (by decide)
theorem ib_end {A B C D E : Nat} (pa : A ≤ 4) (pb : B ≤ 4) (pc : C ≤ 4) (pd : D ≤ 4) (pe : E ≤ 4) : (nb5 (A + B) 0 (C + D) 0 E + nb5 (A + B) 0 (C + D) 0 E / 256 + (nb5 (A + B) 0 (C + D) 0 E + nb5 (A + B) 0 (C + D) 0 E / 256) / 65536) % 64 = A + B + C + D + E := by
  have w0 : nb5 (A + B) 0 (C + D) 0 E = (A + B) + 256 * (C + D) + 65536 * E := by unfold nb5; omega
  have h1 : ((A + B) + 256 * (C + D) + 65536 * E) / 256 = (C + D) + 256 * E := by omega
  have h2 : ((A + B) + 256 * (C + D) + 65536 * E + ((C + D) + 256 * E)) / 65536 = E := by omega
  rw [w0, h1, h2]
  omega
theorem iBits_n {x : Nat} (h : x < 1048576) : iBits (nI x) = nI (pcn x 20) := by
  have hx := nb5_of h
  generalize ea : x % 16 = a at hx
  generalize eb : x / 16 % 16 = b at hx
  generalize ec : x / 256 % 16 = c at hx
  generalize ed : x / 4096 % 16 = d at hx
  generalize ee : x / 65536 = e at hx
  have ha : a < 16 := by omega
  have hb : b < 16 := by omega
  have hc : c < 16 := by omega
  have hd : d < 16 := by omega
  have he : e < 16 := by omega
  clear ea eb ec ed ee
  subst hx
  rw [pcn_20 ha hb hc hd he]
  obtain ⟨a1, a2, a3⟩ := nibA a ha
  obtain ⟨b1, b2, b3⟩ := nibA b hb
  obtain ⟨c1, c2, c3⟩ := nibA c hc
  obtain ⟨d1, d2, d3⟩ := nibA d hd
  obtain ⟨e1, e2, e3⟩ := nibA e he
  have A := swA ha hb hc hd he
  have B := swB a2 b2 c2 d2 e2
  have pa := pc4_le a
  have pb := pc4_le b
  have pc := pc4_le c
  have pd := pc4_le d
  have pe := pc4_le e
  have a3 : _ = pc4 a := a3
  have b3 : _ = pc4 b := b3
  have c3 : _ = pc4 c := c3
  have d3 : _ = pc4 d := d3
  have e3 : _ = pc4 e := e3
  generalize a / 2 &&& 5 = a5 at *
  generalize b / 2 &&& 5 = b5 at *
  generalize c / 2 &&& 5 = c5 at *
  generalize d / 2 &&& 5 = d5 at *
  generalize e / 2 &&& 5 = e5 at *
  have a6e : a - a5 + a5 = a := by omega
  generalize a - a5 = a6 at *
  have b6e : b - b5 + b5 = b := by omega
  generalize b - b5 = b6 at *
  have c6e : c - c5 + c5 = c := by omega
  generalize c - c5 = c6 at *
  have d6e : d - d5 + d5 = d := by omega
  generalize d - d5 = d6 at *
  have e6e : e - e5 + e5 = e := by omega
  generalize e - e5 = e6 at *
  have le : nb5 a5 b5 c5 d5 e5 ≤ nb5 a b c d e := by unfold nb5; omega
  have S1 : nb5 a b c d e - nb5 a5 b5 c5 d5 e5 = nb5 a6 b6 c6 d6 e6 := Nat.sub_eq_of_eq_add (by unfold nb5; omega)
  have l0 : nb5 a b c d e < 4294967296 := by unfold nb5; omega
  rw [iBits_s, ib1_n l0 A le, S1]
  have lt1 : nb5 a6 b6 c6 d6 e6 < 1048576 := by unfold nb5; omega
  rw [ib2_n (by omega) B.1 B.2]
  clear A B S1 le lt1
  generalize a6 &&& 3 = p1 at *
  generalize b6 &&& 3 = p2 at *
  generalize c6 &&& 3 = p3 at *
  generalize d6 &&& 3 = p4 at *
  generalize e6 &&& 3 = p5 at *
  generalize a6 / 4 &&& 3 = q1 at *
  generalize b6 / 4 &&& 3 = q2 at *
  generalize c6 / 4 &&& 3 = q3 at *
  generalize d6 / 4 &&& 3 = q4 at *
  generalize e6 / 4 &&& 3 = q5 at *
  have S2 : nb5 p1 p2 p3 p4 p5 + nb5 q1 q2 q3 q4 q5 = nb5 (pc4 a) (pc4 b) (pc4 c) (pc4 d) (pc4 e) := by
    unfold nb5; omega
  rw [S2]
  clear S2 a3 b3 c3 d3 e3
  generalize pc4 a = A4 at *
  generalize pc4 b = B4 at *
  generalize pc4 c = C4 at *
  generalize pc4 d = D4 at *
  generalize pc4 e = E4 at *
  have S3 : nb5 A4 B4 C4 D4 E4 + nb5 A4 B4 C4 D4 E4 / 16 = nb5 (A4 + B4) (B4 + C4) (C4 + D4) (D4 + E4) E4 := by unfold nb5; omega
  have S4 : nb5 (A4 + B4) (B4 + C4) (C4 + D4) (D4 + E4) E4 &&& 252645135 = nb5 (A4 + B4) 0 (C4 + D4) 0 E4 := by
    rw [and_cut 252645135 (by decide) (by unfold nb5; omega), show (252645135 : Nat) % 1048576 = nb5 15 0 15 0 15 from by decide, nb5_and (by omega) (by omega) (by omega) (by omega) (by omega) _ _ _ _ _ (by decide) (by decide) (by decide) (by decide), (nib3 _ (by omega)).1, (nib3 _ (by omega)).2, (nib3 _ (by omega)).1, (nib3 _ (by omega)).2, (nib3 _ (by omega)).1]
  rw [← S3] at S4
  have lz : nb5 A4 B4 C4 D4 E4 < 1048576 := by unfold nb5; omega
  have lw : nb5 (A4 + B4) 0 (C4 + D4) 0 E4 < 1048576 := by unfold nb5; omega
  rw [ib3_n lz S4, ib4_n lw, ib5_n (by omega)]
  rw [ib_end pa pb pc pd pe]

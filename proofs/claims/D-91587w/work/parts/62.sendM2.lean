/-! ===== send: the model's call ===== -/
theorem i6_ad {a b : Int64} (h0 : -9223372036854775808 ≤ a.toInt + b.toInt) (h1 : a.toInt + b.toInt < 9223372036854775808) : (a + b).toInt = a.toInt + b.toInt := by
  rw [Int64.toInt_add]
  exact Int.bmod_eq_of_le (by omega) (by omega)
theorem i6_sb {a b : Int64} (h0 : -9223372036854775808 ≤ a.toInt - b.toInt) (h1 : a.toInt - b.toInt < 9223372036854775808) : (a - b).toInt = a.toInt - b.toInt := by
  rw [Int64.toInt_sub]
  exact Int.bmod_eq_of_le (by omega) (by omega)
theorem i6_3 {a : Int64} (h0 : -2147483648 ≤ a.toInt) (h1 : a.toInt < 2147483648) : a.toInt32.toInt = a.toInt := by
  rw [Int64.toInt_toInt32]
  exact Int.bmod_eq_of_le (by omega) (by omega)
/-- numbers that are good -/
def sok1 (nu : Nat → Int64) (a n : Nat) (hi : Int64) : Prop := ∀ k, k < n → ¬ nu (40 * a + k) < 0 ∧ ¬ hi < nu (40 * a + k)
def sok (nu : Nat → Int64) (a n b m e : Nat) : Prop := sok1 nu a n 30 ∧ sok1 nu b m 30 ∧ sok1 nu e (n * m) 100
def snv (nu : Nat → Int64) (a : Nat) : Nat → Int := fun k => (nu (40 * a + k)).toInt
def snc (nu : Nat → Int64) (e o : Nat) : Nat → Nat → Int := fun i j => (nu (40 * e + (o * i + j))).toInt
/-- as it begins -/
def sn0 (nu : Nat → Int64) (a b : Nat) : sn_T := (snv nu a, snv nu b, fun _ _ => 0)
noncomputable def sn_it (b o : Nat) (c : Nat → Nat → Int) (t : sn_T) : Nat → sn_T
  | 0 => t
  | n + 1 => sn_n b o c (sn_it b o c t n)
noncomputable def sn_Z (b o : Nat) (c : Nat → Nat → Int) (t : sn_T) : Nat → Int
  | 0 => 0
  | n + 1 => sn_Z b o c t n + sn_c b o c (sn_it b o c t n)
def wy_send (S : MS) (x1 x2 x3 x4 x5 : Int32) : Int32 := if (0 ≤ x1.toInt ∧ x1.toInt ≤ 3) ∧ (0 ≤ x3.toInt ∧ x3.toInt ≤ 3) ∧ (0 ≤ x5.toInt ∧ x5.toInt ≤ 3) then (if 0 ≤ (S.1 2 x1.toNatClampNeg).toInt ∧ 0 ≤ (S.1 2 x3.toNatClampNeg).toInt ∧ 0 ≤ (S.1 2 x5.toNatClampNeg).toInt then (if (1 ≤ x2.toInt ∧ x2.toInt ≤ 5) ∧ (1 ≤ x4.toInt ∧ x4.toInt ≤ 4) then (if x2.toInt ≤ (S.1 2 x1.toNatClampNeg).toInt ∧ x4.toInt ≤ (S.1 2 x3.toNatClampNeg).toInt ∧ (x2 * x4).toInt ≤ (S.1 2 x5.toNatClampNeg).toInt then 0 else 4) else 5) else 3) else 1
theorem sok1_r {nu : Nat → Int64} {a n : Nat} (x : sok1 nu a n 30) {k : Nat} (hk : k < n) : 0 ≤ snv nu a k ∧ snv nu a k ≤ 30 := by
  have := x k hk
  rw [i6_lt, i6_lt] at this
  have e1 : (0 : Int64).toInt = 0 := by decide
  have e2 : (30 : Int64).toInt = 30 := by decide
  rw [e1, e2] at this
  show 0 ≤ (nu (40 * a + k)).toInt ∧ (nu (40 * a + k)).toInt ≤ 30
  omega
theorem sok1_c {nu : Nat → Int64} {e n o : Nat} (x : sok1 nu e (n * o) 100) : sn_C n o (snc nu e o) := by
  intro i j hi hj
  have := x (o * i + j) (sn_ij_lt hi hj)
  rw [i6_lt, i6_lt] at this
  have e1 : (0 : Int64).toInt = 0 := by decide
  have e2 : (100 : Int64).toInt = 100 := by decide
  rw [e1, e2] at this
  show 0 ≤ (nu (40 * e + (o * i + j))).toInt ∧ (nu (40 * e + (o * i + j))).toInt ≤ 100
  omega
theorem bf_sum_le {f : Nat → Int} {c : Int} : ∀ N, (∀ v, v < N → f v ≤ c) → bf_sum f N ≤ c * N
  | 0, _ => by simp [bf_sum]
  | N + 1, h => by
    have a := bf_sum_le N (fun v hv => h v (by omega))
    have b := h N (by omega)
    show bf_sum f N + f N ≤ c * ((N + 1 : Nat) : Int)
    rw [Int.natCast_add, Int.mul_add]
    simp
    omega
theorem bf_sum_x {f g : Nat → Int} : ∀ N, (∀ v, v < N → f v = g v) → bf_sum f N = bf_sum g N
  | 0, _ => rfl
  | N + 1, h => by
    show bf_sum f N + f N = bf_sum g N + g N
    rw [bf_sum_x N (fun v hv => h v (by omega)), h N (by omega)]
theorem sok_sum {nu : Nat → Int64} {a n : Nat} (x : sok1 nu a n 30) {k : Nat} (hk : k ≤ n) : 0 ≤ bf_sum (snv nu a) k ∧ bf_sum (snv nu a) k ≤ 30 * k := by
  have a1 := bf_sum_ge (f := snv nu a) (c := 0) k (fun v hv => (sok1_r x (by omega)).1)
  have a2 := bf_sum_le (f := snv nu a) (c := 30) k (fun v hv => (sok1_r x (by omega)).2)
  rw [Int.zero_mul] at a1
  exact ⟨a1, a2⟩
/-- the beginning is good, and stays so -/
theorem sn0_I {nu : Nat → Int64} {a n b m e : Nat} (x : sok nu a n b m e) : sn_I n m (snc nu e m) (bf_sum (snv nu a) n) (bf_sum (snv nu b) m) 0 (sn0 nu a b) := by
  refine ⟨fun i hi => sok1_r x.1 hi, fun j hj => sok1_r x.2.1 hj, fun i j hi hj => ⟨Int.le_refl _, Int.le_refl _⟩, ?_, ?_, fun _ => 0, fun i j hi hj => ⟨?_, fun q => absurd q (by show ¬ (0 : Int) < 0; omega)⟩⟩
  · show bf_sum (snv nu a) n = _; omega
  · show bf_sum (snv nu b) m = _; omega
  · have := (sok1_c x.2.2 i j hi hj).1
    show (0 : Int) ≤ 0 + _
    omega
theorem sn_it_I {b o : Nat} {c : Nat → Nat → Int} {m q : Int} {t : sn_T} (C : sn_C b o c) (hb : b ≤ 5) (ho : o ≤ 4) (I : sn_I b o c m q 0 t) (hq : q ≤ m) : ∀ n : Nat, (n : Int) ≤ q → sn_I b o c m q n (sn_it b o c t n)
  | 0, _ => I
  | n + 1, h => (sn_step C hb ho (sn_it_I C hb ho I hq n (by omega)) hq (by omega)).2.2.2.2.2.2.2.2.2
theorem sn_Z_b {b o : Nat} {c : Nat → Nat → Int} {m q : Int} {t : sn_T} (C : sn_C b o c) (hb : b ≤ 5) (ho : o ≤ 4) (I : sn_I b o c m q 0 t) (hq : q ≤ m) : ∀ n : Nat, (n : Int) ≤ q → -900 * (n : Int) ≤ sn_Z b o c t n ∧ sn_Z b o c t n ≤ 100000 * n
  | 0, _ => by show -900 * ((0 : Nat) : Int) ≤ 0 ∧ (0 : Int) ≤ 100000 * ((0 : Nat) : Int); omega
  | n + 1, h => by
    have ih := sn_Z_b C hb ho I hq n (by omega)
    have J := sn_it_I C hb ho I hq n (by omega)
    obtain ⟨s1, s2, s3, s4, s5, s6, s7, s8, s9, s10⟩ := sn_step C hb ho J hq (by omega)
    obtain ⟨J1, J2, J3, J4, J5, p, P⟩ := J
    have BD := (sn_bd (hv := (sn_it b o c t n).1) C P hb ho (r := b + o) (by omega) (Nat.zero_le (b * o))).2 (b + sn_B b o c (sn_it b o c t n)) (by omega)
    have BD : -900 ≤ sn_c b o c (sn_it b o c t n) ∧ sn_c b o c (sn_it b o c t n) ≤ 100000 := ⟨BD.1, BD.2.1⟩
    show -900 * ((n + 1 : Nat) : Int) ≤ sn_Z b o c t n + sn_c b o c (sn_it b o c t n) ∧ sn_Z b o c t n + sn_c b o c (sn_it b o c t n) ≤ 100000 * ((n + 1 : Nat) : Int)
    omega
theorem wy_send_in (S : MS) (x1 x2 x3 x4 x5 : Int32) : wy_send S x1 x2 x3 x4 x5 = 0 ∨ wy_send S x1 x2 x3 x4 x5 = 1 ∨ wy_send S x1 x2 x3 x4 x5 = 3 ∨ wy_send S x1 x2 x3 x4 x5 = 5 ∨ wy_send S x1 x2 x3 x4 x5 = 4 := by
  unfold wy_send
  repeat' split
  all_goals simp
theorem wy_send_0 {S : MS} {x1 x2 x3 x4 x5 : Int32} (w : wy_send S x1 x2 x3 x4 x5 = 0) : (0 ≤ x1.toInt ∧ x1.toInt ≤ 3) ∧ (0 ≤ x3.toInt ∧ x3.toInt ≤ 3) ∧ (0 ≤ x5.toInt ∧ x5.toInt ≤ 3) ∧ (1 ≤ x2.toInt ∧ x2.toInt ≤ 5) ∧ (1 ≤ x4.toInt ∧ x4.toInt ≤ 4) := by
  unfold wy_send at w
  split at w
  · rename_i c1
    split at w
    · rename_i c2
      split at w
      · rename_i c3
        exact ⟨c1.1, c1.2.1, c1.2.2, c3.1, c3.2⟩
      · exact absurd w (by decide)
    · exact absurd w (by decide)
  · exact absurd w (by decide)
/-- nothing of it is kept but the status -/
theorem sn_kept {h g3 : ah_T} {M : Nat} {S : MS} (eS : mv h M = S) (m : mch [71, 72, 73, 74, 75, 76] [0, 1] M h g3) (z0 : ah_I g3 M 0 = 0) : kept (uI S 0 0 0) (mv g3 M) := by
  have d1 : ∀ a, a ∈ mk_a → a ∉ [71, 72, 73, 74, 75, 76] ∧ a ≠ 0 := by decide
  have d2 : ∀ k, k ∈ mk_z → k ≠ 0 → k ∉ [0, 1] := by decide
  refine ⟨fun a ha => ⟨funext fun j => ?_, funext fun j => ?_⟩, fun k hk => ?_⟩
  · obtain ⟨n1, n2⟩ := d1 a ha
    show _ = ah_I g3 (M + a) j
    rw [m.ar a n1 n2, mk_r eS, uI_n n2]
  · obtain ⟨n1, n2⟩ := d1 a ha
    show S.2 a j = ah_J g3 (M + a) j
    rw [m.arJ a n1 n2, mk_j eS]
  · rw [uI_e]
    show (if 0 = 0 ∧ k = 0 then 0 else S.1 0 k) = ah_I g3 M k
    rcases Nat.decEq k 0 with c2 | c2
    · rw [if_neg (fun q => c2 q.2), m.sc k (d2 k hk c2) (by decide), mk_z0 eS]
    · rw [if_pos ⟨rfl, c2⟩, c2]; exact z0.symm
section
variable {G : ma_G} {d M a n b m e : Nat} {h : ah_T} {S : MS} {Q : Option ma_V → ah_T → Prop} {E : Nat → ah_T → Prop} {x1 x2 x3 x4 x5 : Int32}

theorem m_asks_136 (ha : a < 4) (hb : b < 4) (he : e < 4) (hn : n ≤ 5) (hm : m ≤ 4) (L : LY8 h M) (K5 : ¬ sok1 (ah_J h (M + 3)) a (n) 30 → Q (some (iv 5)) h) (K : sok1 (ah_J h (M + 3)) a (n) 30 → MX G mi_X8_asksSend (d + 1) 170 [some (rv M), some (iv (nI a)), some (iv (nI n)), some (iv (nI b)), some (iv (nI m)), some (iv (nI e)), some (iv (0)), none, none] [] h Q E) :
    MX G mi_X8_asksSend (d + 1) 136 [some (rv M), some (iv (nI a)), some (iv (nI n)), some (iv (nI b)), some (iv (nI m)), some (iv (nI e)), some (iv (0)), none, none] [] h Q E := by
  have nm : n * m ≤ 20 := Nat.mul_le_mul hn hm
  refine mx_up (α := Unit) (fun k _ => [some (rv M), some (iv (nI a)), some (iv (nI n)), some (iv (nI b)), some (iv (nI m)), some (iv (nI e)), some (iv (nI k)), none, none]) (n) (fun k _ g => g = h ∧ ∀ j, j < k → ¬ ah_J h (M + 3) (40 * a + j) < 0 ∧ ¬ 30 < ah_J h (M + 3) (40 * a + j)) (fun k _ g hk hI KK => ?_) (fun _ g hI => ?_) 0 () h (Nat.zero_le _) ⟨rfl, fun j hj => absurd hj (Nat.not_lt_zero _)⟩
  · obtain ⟨e', q⟩ := hI
    subst e'
    have i1 := wx_40 (t := a) (k := k) (by assumption) (by omega)
    refine v_X8_asksSend_136 L ⟨fun c => absurd c (by skip; exact nI_ge hk (by omega)), fun _ => ?_⟩
    rw [i1.1, nI_clamp (n := 40 * a + k) (by omega), nI_1]
    refine ⟨vp_in_nI i1.2 (by decide), fun c => K5 (fun z => (z k hk).1 c), fun c1 => ⟨fun c => K5 (fun z => (z k hk).2 c), fun c2 => ?_⟩⟩
    refine KK () g ⟨rfl, fun j hj => ?_⟩
    rcases Nat.lt_or_ge j k with z | z
    · exact q j z
    · rw [show j = k by omega]; exact ⟨c1, c2⟩
  · obtain ⟨e', q⟩ := hI
    subst e'
    exact v_X8_asksSend_136 L ⟨fun _ => K q, fun c => absurd (by skip; exact nI_le (Nat.le_refl _) (by omega)) c⟩
theorem m_asks_170 (ha : a < 4) (hb : b < 4) (he : e < 4) (hn : n ≤ 5) (hm : m ≤ 4) (L : LY8 h M) (K5 : ¬ sok1 (ah_J h (M + 3)) b (m) 30 → Q (some (iv 5)) h) (K : sok1 (ah_J h (M + 3)) b (m) 30 → MX G mi_X8_asksSend (d + 1) 205 [some (rv M), some (iv (nI a)), some (iv (nI n)), some (iv (nI b)), some (iv (nI m)), some (iv (nI e)), some (iv (0)), none, none] [] h Q E) :
    MX G mi_X8_asksSend (d + 1) 170 [some (rv M), some (iv (nI a)), some (iv (nI n)), some (iv (nI b)), some (iv (nI m)), some (iv (nI e)), some (iv (0)), none, none] [] h Q E := by
  have nm : n * m ≤ 20 := Nat.mul_le_mul hn hm
  refine mx_up (α := Unit) (fun k _ => [some (rv M), some (iv (nI a)), some (iv (nI n)), some (iv (nI b)), some (iv (nI m)), some (iv (nI e)), some (iv (nI k)), none, none]) (m) (fun k _ g => g = h ∧ ∀ j, j < k → ¬ ah_J h (M + 3) (40 * b + j) < 0 ∧ ¬ 30 < ah_J h (M + 3) (40 * b + j)) (fun k _ g hk hI KK => ?_) (fun _ g hI => ?_) 0 () h (Nat.zero_le _) ⟨rfl, fun j hj => absurd hj (Nat.not_lt_zero _)⟩
  · obtain ⟨e', q⟩ := hI
    subst e'
    have i1 := wx_40 (t := b) (k := k) (by assumption) (by omega)
    refine v_X8_asksSend_170 L ⟨fun c => absurd c (by skip; exact nI_ge hk (by omega)), fun _ => ?_⟩
    rw [i1.1, nI_clamp (n := 40 * b + k) (by omega), nI_1]
    refine ⟨vp_in_nI i1.2 (by decide), fun c => K5 (fun z => (z k hk).1 c), fun c1 => ⟨fun c => K5 (fun z => (z k hk).2 c), fun c2 => ?_⟩⟩
    refine KK () g ⟨rfl, fun j hj => ?_⟩
    rcases Nat.lt_or_ge j k with z | z
    · exact q j z
    · rw [show j = k by omega]; exact ⟨c1, c2⟩
  · obtain ⟨e', q⟩ := hI
    subst e'
    exact v_X8_asksSend_170 L ⟨fun _ => K q, fun c => absurd (by skip; exact nI_le (Nat.le_refl _) (by omega)) c⟩
theorem m_asks_205 (ha : a < 4) (hb : b < 4) (he : e < 4) (hn : n ≤ 5) (hm : m ≤ 4) (L : LY8 h M) (K5 : ¬ sok1 (ah_J h (M + 3)) e (n * m) 100 → Q (some (iv 5)) h) (K : sok1 (ah_J h (M + 3)) e (n * m) 100 → MX G mi_X8_asksSend (d + 1) 246 [some (rv M), some (iv (nI a)), some (iv (nI n)), some (iv (nI b)), some (iv (nI m)), none, some (jv 0), none, some (iv 0)] [] h Q E) :
    MX G mi_X8_asksSend (d + 1) 205 [some (rv M), some (iv (nI a)), some (iv (nI n)), some (iv (nI b)), some (iv (nI m)), some (iv (nI e)), some (iv (0)), none, none] [] h Q E := by
  have nm : n * m ≤ 20 := Nat.mul_le_mul hn hm
  refine mx_up (α := Unit) (fun k _ => [some (rv M), some (iv (nI a)), some (iv (nI n)), some (iv (nI b)), some (iv (nI m)), some (iv (nI e)), some (iv (nI k)), none, none]) (n * m) (fun k _ g => g = h ∧ ∀ j, j < k → ¬ ah_J h (M + 3) (40 * e + j) < 0 ∧ ¬ 100 < ah_J h (M + 3) (40 * e + j)) (fun k _ g hk hI KK => ?_) (fun _ g hI => ?_) 0 () h (Nat.zero_le _) ⟨rfl, fun j hj => absurd hj (Nat.not_lt_zero _)⟩
  · obtain ⟨e', q⟩ := hI
    subst e'
    have i1 := wx_40 (t := e) (k := k) (by assumption) (by omega)
    refine v_X8_asksSend_205 L ⟨fun c => absurd c (by rw [pk_mul]; exact nI_ge hk (by omega)), fun _ => ?_⟩
    rw [i1.1, nI_clamp (n := 40 * e + k) (by omega), nI_1]
    refine ⟨vp_in_nI i1.2 (by decide), fun c => K5 (fun z => (z k hk).1 c), fun c1 => ⟨fun c => K5 (fun z => (z k hk).2 c), fun c2 => ?_⟩⟩
    refine KK () g ⟨rfl, fun j hj => ?_⟩
    rcases Nat.lt_or_ge j k with z | z
    · exact q j z
    · rw [show j = k by omega]; exact ⟨c1, c2⟩
  · obtain ⟨e', q⟩ := hI
    subst e'
    exact v_X8_asksSend_205 L ⟨fun _ => K q, fun c => absurd (by rw [pk_mul]; exact nI_le (Nat.le_refl _) (by omega)) c⟩
theorem m_asks_273 {x6 : Int64} {z : Int} (hx : x6.toInt = z) (hz : 0 ≤ z ∧ z ≤ 1000) (hb : b < 4) (hm : m ≤ 4) (L : LY8 h M) (ok : sok1 (ah_J h (M + 3)) b m 30) (K9 : z < bf_sum (snv (ah_J h (M + 3)) b) m → Q (some (iv 9)) h) (K0 : ¬ z < bf_sum (snv (ah_J h (M + 3)) b) m → Q (some (iv 0)) h) :
    MX G mi_X8_asksSend (d + 1) 273 [some (rv M), none, none, some (iv (nI b)), some (iv (nI m)), none, some (jv x6), none, some (iv 0)] [] h Q E := by
  refine mx_up (α := Int64) (fun k x => [some (rv M), none, none, some (iv (nI b)), some (iv (nI m)), none, some (jv x), none, some (iv (nI k))]) m (fun k x g => g = h ∧ x.toInt = z - bf_sum (snv (ah_J h (M + 3)) b) k) (fun k x g hk hI KK => ?_) (fun x g hI => ?_) 0 x6 h (Nat.zero_le _) ⟨rfl, by rw [hx]; show z = z - 0; omega⟩
  · obtain ⟨e', q⟩ := hI
    subst e'
    have i1 := wx_40 (t := b) (k := k) hb (by omega)
    have r1 := sok1_r ok hk
    have r2 := sok_sum ok (Nat.le_of_lt hk)
    have r3 : (ah_J g (M + 3) (40 * b + k)).toInt = snv (ah_J g (M + 3)) b k := rfl
    refine v_X8_asksSend_273 L ⟨fun c => absurd c (nI_ge hk (by omega)), fun _ => ?_⟩
    rw [i1.1, nI_clamp (n := 40 * b + k) (by omega), nI_1]
    refine ⟨vp_in_nI i1.2 (by decide), KK _ g ⟨rfl, ?_⟩⟩
    rw [i6_sb (by rw [q, r3]; omega) (by rw [q, r3]; omega), q, r3]
    show _ = z - (bf_sum (snv (ah_J g (M + 3)) b) k + snv (ah_J g (M + 3)) b k)
    omega
  · obtain ⟨e', q⟩ := hI
    subst e'
    have e0 : (0 : Int64).toInt = 0 := by decide
    refine v_X8_asksSend_273 L ⟨fun _ => ⟨fun c => K0 ?_, fun c => K9 ?_⟩, fun c => absurd (nI_le (Nat.le_refl m) (by omega)) c⟩
    · rw [i6_le, q, e0] at c; omega
    · rw [i6_le, q, e0] at c; omega
theorem m_asks_246 (ha : a < 4) (hb : b < 4) (hn : n ≤ 5) (hm : m ≤ 4) (L : LY8 h M) (ok0 : sok1 (ah_J h (M + 3)) a n 30) (ok : sok1 (ah_J h (M + 3)) b m 30) (K9 : bf_sum (snv (ah_J h (M + 3)) a) n < bf_sum (snv (ah_J h (M + 3)) b) m → Q (some (iv 9)) h) (K0 : ¬ bf_sum (snv (ah_J h (M + 3)) a) n < bf_sum (snv (ah_J h (M + 3)) b) m → Q (some (iv 0)) h) :
    MX G mi_X8_asksSend (d + 1) 246 [some (rv M), some (iv (nI a)), some (iv (nI n)), some (iv (nI b)), some (iv (nI m)), none, some (jv 0), none, some (iv 0)] [] h Q E := by
  refine mx_up (α := Int64) (fun k x => [some (rv M), some (iv (nI a)), some (iv (nI n)), some (iv (nI b)), some (iv (nI m)), none, some (jv x), none, some (iv (nI k))]) n (fun k x g => g = h ∧ x.toInt = bf_sum (snv (ah_J h (M + 3)) a) k) (fun k x g hk hI KK => ?_) (fun x g hI => ?_) 0 0 h (Nat.zero_le _) ⟨rfl, by show (0 : Int64).toInt = 0; decide⟩
  · obtain ⟨e', q⟩ := hI
    subst e'
    have i1 := wx_40 (t := a) (k := k) ha (by omega)
    have r1 := sok1_r ok0 hk
    have r2 := sok_sum ok0 (Nat.le_of_lt hk)
    have r3 : (ah_J g (M + 3) (40 * a + k)).toInt = snv (ah_J g (M + 3)) a k := rfl
    refine v_X8_asksSend_246 L ⟨fun c => absurd c (nI_ge hk (by omega)), fun _ => ?_⟩
    rw [i1.1, nI_clamp (n := 40 * a + k) (by omega), nI_1]
    refine ⟨vp_in_nI i1.2 (by decide), KK _ g ⟨rfl, ?_⟩⟩
    rw [i6_ad (by rw [q, r3]; omega) (by rw [q, r3]; omega), q, r3]
    rfl
  · obtain ⟨e', q⟩ := hI
    subst e'
    have r2 := sok_sum ok0 (Nat.le_refl n)
    exact v_X8_asksSend_246 L ⟨fun _ => m_asks_273 q (by omega) hb hm L ok K9 K0, fun c => absurd (nI_le (Nat.le_refl n) (by omega)) c⟩
theorem m_asks_all (ha : a < 4) (hb : b < 4) (he : e < 4) (hn : n ≤ 5) (hm : m ≤ 4) (L : LY8 h M) (K5 : ¬ sok (ah_J h (M + 3)) a n b m e → Q (some (iv 5)) h) (K9 : sok (ah_J h (M + 3)) a n b m e → bf_sum (snv (ah_J h (M + 3)) a) n < bf_sum (snv (ah_J h (M + 3)) b) m → Q (some (iv 9)) h) (K0 : sok (ah_J h (M + 3)) a n b m e → ¬ bf_sum (snv (ah_J h (M + 3)) a) n < bf_sum (snv (ah_J h (M + 3)) b) m → Q (some (iv 0)) h) :
    MX G mi_X8_asksSend (d + 1) 136 [some (rv M), some (iv (nI a)), some (iv (nI n)), some (iv (nI b)), some (iv (nI m)), some (iv (nI e)), some (iv 0), none, none] [] h Q E := by
  refine m_asks_136 ha hb he hn hm L (fun c => K5 (fun z => c z.1)) (fun o1 => ?_)
  refine m_asks_170 ha hb he hn hm L (fun c => K5 (fun z => c z.2.1)) (fun o2 => ?_)
  refine m_asks_205 ha hb he hn hm L (fun c => K5 (fun z => c z.2.2)) (fun o3 => ?_)
  exact m_asks_246 ha hb hn hm L o1 o2 (K9 ⟨o1, o2, o3⟩) (K0 ⟨o1, o2, o3⟩)
/-- the rows taken over -/
theorem m_send_35 (ha : a < 4) (hb : b < 4) (he : e < 4) (hn : n ≤ 5) (hm : m ≤ 4) (L : LY8 h M) (ok : sok (ah_J h (M + 3)) a n b m e)
    (K : ∀ g x, mch [71, 72, 73, 74] [] M h g → sn_h g M n m (snc (ah_J h (M + 3)) e m) (sn0 (ah_J h (M + 3)) a b) → x.toInt = bf_sum (snv (ah_J h (M + 3)) b) m → MX G mi_X8_send (d + 1) 153 [some (rv M), none, some (iv (nI n)), none, some (iv (nI m)), none, some (iv x), some (iv 0), some (iv 0)] [] g Q E) :
    MX G mi_X8_send (d + 1) 35 [some (rv M), some (iv (nI a)), some (iv (nI n)), some (iv (nI b)), some (iv (nI m)), some (iv (nI e)), some (iv 0), some (iv 0), none] [] h Q E := by
  have nm : n * m ≤ 20 := Nat.mul_le_mul hn hm
  refine mx_up (α := Unit) (fun k _ => [some (rv M), some (iv (nI a)), some (iv (nI n)), some (iv (nI b)), some (iv (nI m)), some (iv (nI e)), some (iv 0), some (iv (nI k)), none]) n (fun k _ g => mch [71, 72, 73, 74] [] M h g ∧ ∀ j, j < k → (ah_I g (M + 71) j).toInt = snv (ah_J h (M + 3)) a j) (fun k _ g hk hI KK => ?_) (fun _ g hI => ?_) 0 () h (Nat.zero_le _) ⟨mch.rf, fun j hj => absurd hj (Nat.not_lt_zero _)⟩
  · obtain ⟨mm, q⟩ := hI
    have i1 := wx_40 (t := a) (k := k) ha (by omega)
    have r1 := sok1_r ok.1 hk
    refine v_X8_send_35 (mm.ly L) ⟨fun c => absurd c (nI_ge hk (by omega)), fun _ => ?_⟩
    rw [i1.1, nI_clamp (n := 40 * a + k) (by omega), nI_clamp (n := k) (by omega), nI_1, mm.arJ 3 (by decide) (by decide)]
    refine ⟨vp_in_nI i1.2 (by decide), vp_in_nI (by omega) (by decide), ?_⟩
    intro h4 e4 _
    subst e4
    refine KK () _ ⟨mm.wI (by decide), fun j hj => ?_⟩
    rw [rd_II]
    by_cases z : j = k
    · subst z; rw [if_pos ⟨rfl, rfl⟩]; exact i6_3 (by show _ ≤ snv (ah_J h (M + 3)) a j; omega) (by show snv (ah_J h (M + 3)) a j < _; omega)
    · rw [if_neg (fun w => z w.2)]; exact q j (by omega)
  · obtain ⟨mm, q⟩ := hI
    refine v_X8_send_35 (mm.ly L) ⟨fun _ => ?_, fun c => absurd (nI_le (Nat.le_refl n) (by omega)) c⟩
    refine mx_up (α := Int32) (fun k x => [some (rv M), none, some (iv (nI n)), some (iv (nI b)), some (iv (nI m)), some (iv (nI e)), some (iv x), some (iv (nI k)), none]) m (fun k x g => mch [71, 72, 73, 74] [] M h g ∧ (∀ j, j < n → (ah_I g (M + 71) j).toInt = snv (ah_J h (M + 3)) a j) ∧ (∀ j, j < k → (ah_I g (M + 72) j).toInt = snv (ah_J h (M + 3)) b j) ∧ x.toInt = bf_sum (snv (ah_J h (M + 3)) b) k) (fun k x g hk hI KK => ?_) (fun x g hI => ?_) 0 0 g (Nat.zero_le _) ⟨mm, q, fun j hj => absurd hj (Nat.not_lt_zero _), i3_0⟩
    · obtain ⟨mm, q, q2, hx⟩ := hI
      have i1 := wx_40 (t := b) (k := k) hb (by omega)
      have r1 := sok1_r ok.2.1 hk
      have r2 := sok_sum ok.2.1 (Nat.le_of_lt hk)
      have r3 : (ah_J h (M + 3) (40 * b + k)).toInt32.toInt = snv (ah_J h (M + 3)) b k := i6_3 (by show _ ≤ snv (ah_J h (M + 3)) b k; omega) (by show snv (ah_J h (M + 3)) b k < _; omega)
      refine v_X8_send_65 (mm.ly L) ⟨fun c => absurd c (nI_ge hk (by omega)), fun _ => ?_⟩
      rw [i1.1, nI_clamp (n := 40 * b + k) (by omega), nI_clamp (n := k) (by omega), nI_1, mm.arJ 3 (by decide) (by decide)]
      refine ⟨vp_in_nI i1.2 (by decide), vp_in_nI (by omega) (by decide), ?_⟩
      intro h4 e4 _
      subst e4
      refine KK _ _ ⟨mm.wI (by decide), fun j hj => ?_, fun j hj => ?_, ?_⟩
      · rw [rd_Ia (by omega)]; exact q j hj
      · rw [rd_II]
        by_cases z : j = k
        · subst z; rw [if_pos ⟨rfl, rfl⟩]; exact r3
        · rw [if_neg (fun w => z w.2)]; exact q2 j (by omega)
      · rw [i3_ad (by rw [hx, r3]; omega) (by rw [hx, r3]; omega), hx, r3]; rfl
    · obtain ⟨mm, q, q2, hx⟩ := hI
      refine v_X8_send_65 (mm.ly L) ⟨fun _ => ?_, fun c => absurd (nI_le (Nat.le_refl m) (by omega)) c⟩
      refine mx_up (α := Unit) (fun k _ => [some (rv M), none, some (iv (nI n)), none, some (iv (nI m)), some (iv (nI e)), some (iv x), some (iv (nI k)), none]) (n * m) (fun k _ g => mch [71, 72, 73, 74] [] M h g ∧ (∀ j, j < n → (ah_I g (M + 71) j).toInt = snv (ah_J h (M + 3)) a j) ∧ (∀ j, j < m → (ah_I g (M + 72) j).toInt = snv (ah_J h (M + 3)) b j) ∧ ∀ j, j < k → (ah_I g (M + 73) j).toInt = (ah_J h (M + 3) (40 * e + j)).toInt ∧ (ah_I g (M + 74) j).toInt = 0) (fun k _ g hk hI KK => ?_) (fun _ g hI => ?_) 0 () g (Nat.zero_le _) ⟨mm, q, q2, fun j hj => absurd hj (Nat.not_lt_zero _)⟩
      · obtain ⟨mm, q, q2, q3⟩ := hI
        have i1 := wx_40 (t := e) (k := k) he (by omega)
        have r1 := ok.2.2 k hk
        have z1 : (0 : Int64).toInt = 0 := by decide
        have z2 : (100 : Int64).toInt = 100 := by decide
        rw [i6_lt, i6_lt, z1, z2] at r1
        refine v_X8_send_108 (mm.ly L) ⟨fun c => absurd c (by rw [pk_mul]; exact nI_ge hk (by omega)), fun _ => ?_⟩
        rw [i1.1, nI_clamp (n := 40 * e + k) (by omega), nI_clamp (n := k) (by omega), nI_1, mm.arJ 3 (by decide) (by decide)]
        refine ⟨vp_in_nI i1.2 (by decide), vp_in_nI (by omega) (by decide), ?_⟩
        intro h4 e4 _ h5 e5 _
        subst e4; subst e5
        refine KK () _ ⟨(mm.wI (by decide)).wI (by decide), fun j hj => ?_, fun j hj => ?_, fun j hj => ?_⟩
        · rw [rd_Ia (by omega), rd_Ia (by omega)]; exact q j hj
        · rw [rd_Ia (by omega), rd_Ia (by omega)]; exact q2 j hj
        · rw [rd_Ia (by omega), rd_II, rd_II]
          by_cases z : j = k
          · subst z; rw [if_pos ⟨rfl, rfl⟩, if_pos ⟨rfl, rfl⟩]; exact ⟨i6_3 (by omega) (by omega), i3_0⟩
          · rw [if_neg (fun w => z w.2), if_neg (fun w => z w.2), rd_Ia (by omega)]; exact q3 j (by omega)
      · obtain ⟨mm, q, q2, q3⟩ := hI
        refine v_X8_send_108 (mm.ly L) ⟨fun _ => ?_, fun c => absurd (by rw [pk_mul]; exact nI_le (Nat.le_refl _) (by omega)) c⟩
        exact K g x mm ⟨q, q2, fun i j hi hj => (q3 _ (sn_ij_lt hi hj)).1, fun i j hi hj => (q3 _ (sn_ij_lt hi hj)).2⟩ hx
/-- all bushels -/
theorem m_send_153 {t : sn_T} {c : Nat → Nat → Int} {y z : Int} {x : Int32} (C : sn_C n m c) (hn : n ≤ 5) (hm : m ≤ 4) (I : sn_I n m c y z 0 t) (hz : z ≤ y) (hz2 : 0 ≤ z ∧ z ≤ 200) (hx : x.toInt = z) (L : LY8 h M) (H : sn_h h M n m c t)
    (K : ∀ g r, mch [71, 72, 74, 75, 76] [] M h g → r.toInt = sn_Z n m c t z.toNat → Q (some (iv r)) g) :
    MX G mi_X8_send (d + 1) 153 [some (rv M), none, some (iv (nI n)), none, some (iv (nI m)), none, some (iv x), some (iv 0), some (iv 0)] [] h Q E := by
  have ex : x = nI z.toNat := i3_nI (by rw [hx]; omega) (by omega)
  subst ex
  refine mx_up (α := Int32) (fun k x => [some (rv M), none, some (iv (nI n)), none, some (iv (nI m)), none, some (iv (nI z.toNat)), some (iv x), some (iv (nI k))]) z.toNat (fun k x g => mch [71, 72, 74, 75, 76] [] M h g ∧ sn_h g M n m c (sn_it n m c t k) ∧ x.toInt = sn_Z n m c t k) (fun k x g hk hI KK => ?_) (fun x g hI => ?_) 0 0 h (Nat.zero_le _) ⟨mch.rf, H, i3_0⟩
  · obtain ⟨mm, H1, q⟩ := hI
    refine v_X8_send_153 (mm.ly L) ⟨fun c => absurd c (nI_ge hk (by omega)), fun _ => ?_⟩
    have J := sn_it_I C hn hm I hz k (by omega)
    have B1 := sn_Z_b C hn hm I hz k (by omega)
    have B2 := sn_Z_b C hn hm I hz (k + 1) (by omega)
    have B3 : sn_Z n m c t (k + 1) = sn_Z n m c t k + sn_c n m c (sn_it n m c t k) := rfl
    refine m_bushel C hn hm J hz (by omega) (by omega) (mm.ly L) H1 (fun g2 r m2 H2 hr => ?_)
    intro _
    rw [nI_1]
    refine KK _ g2 ⟨mm.tr m2, H2, ?_⟩
    rw [i3_ad (by rw [q, hr]; omega) (by rw [q, hr]; omega), q, hr]
    rfl
  · obtain ⟨mm, H1, q⟩ := hI
    exact v_X8_send_153 (mm.ly L) ⟨fun _ => K g x mm q, fun c => absurd (nI_le (Nat.le_refl _) (by omega)) c⟩
theorem m_asksSend (L : LY8 h M) (e2 : ∀ k, ah_I h (M + 2) k = S.1 2 k) (e3 : ah_J h (M + 3) = S.2 3) (Kf : wy_send S x1 x2 x3 x4 x5 ≠ 0 → Q (some (iv (wy_send S x1 x2 x3 x4 x5))) h)
    (Kg : wy_send S x1 x2 x3 x4 x5 = 0 → ∀ r, (¬ sok (S.2 3) x1.toNatClampNeg x2.toNatClampNeg x3.toNatClampNeg x4.toNatClampNeg x5.toNatClampNeg ∧ r = 5) ∨ (sok (S.2 3) x1.toNatClampNeg x2.toNatClampNeg x3.toNatClampNeg x4.toNatClampNeg x5.toNatClampNeg ∧ bf_sum (snv (S.2 3) x1.toNatClampNeg) x2.toNatClampNeg < bf_sum (snv (S.2 3) x3.toNatClampNeg) x4.toNatClampNeg ∧ r = 9) ∨ (sok (S.2 3) x1.toNatClampNeg x2.toNatClampNeg x3.toNatClampNeg x4.toNatClampNeg x5.toNatClampNeg ∧ ¬ bf_sum (snv (S.2 3) x1.toNatClampNeg) x2.toNatClampNeg < bf_sum (snv (S.2 3) x3.toNatClampNeg) x4.toNatClampNeg ∧ r = 0) → Q (some (iv r)) h) :
    MX G mi_X8_asksSend (d + 1) 0 [some (rv M), some (iv x1), some (iv x2), some (iv x3), some (iv x4), some (iv x5), none, none, none] [] h Q E := by
  refine v_X8_asksSend L ?_
  simp only [e2]
  refine ⟨fun c1 => ?_, fun c1 => ?_⟩
  · skip
    have w_ : wy_send S x1 x2 x3 x4 x5 = (1 : Int32) := by
      simp only [i3_lt, i3_le, i6_lt, i6_le, i3_eq, i3_l, Int32.reduceToInt, Int64.reduceToInt, tm_1, tl_1] at c1
      unfold wy_send
      (repeat' split) <;> first | rfl | (exfalso; omega)
    rw [w_] at Kf
    exact Kf (by decide)
  · skip
    refine ⟨fun c2 => ?_, fun c2 => ?_⟩
    · skip
      have w_ : wy_send S x1 x2 x3 x4 x5 = (1 : Int32) := by
        simp only [i3_lt, i3_le, i6_lt, i6_le, i3_eq, i3_l, Int32.reduceToInt, Int64.reduceToInt, tm_1, tl_1] at c1 c2
        unfold wy_send
        (repeat' split) <;> first | rfl | (exfalso; omega)
      rw [w_] at Kf
      exact Kf (by decide)
    · skip
      refine ⟨fun c3 => ?_, fun c3 => ?_⟩
      · skip
        have w_ : wy_send S x1 x2 x3 x4 x5 = (1 : Int32) := by
          simp only [i3_lt, i3_le, i6_lt, i6_le, i3_eq, i3_l, Int32.reduceToInt, Int64.reduceToInt, tm_1, tl_1] at c1 c2 c3
          unfold wy_send
          (repeat' split) <;> first | rfl | (exfalso; omega)
        rw [w_] at Kf
        exact Kf (by decide)
      · skip
        refine ⟨fun c4 => ?_, fun c4 => ?_⟩
        · skip
          have w_ : wy_send S x1 x2 x3 x4 x5 = (1 : Int32) := by
            simp only [i3_lt, i3_le, i6_lt, i6_le, i3_eq, i3_l, Int32.reduceToInt, Int64.reduceToInt, tm_1, tl_1] at c1 c2 c3 c4
            unfold wy_send
            (repeat' split) <;> first | rfl | (exfalso; omega)
          rw [w_] at Kf
          exact Kf (by decide)
        · skip
          refine ⟨fun c5 => ?_, fun c5 => ?_⟩
          · skip
            have w_ : wy_send S x1 x2 x3 x4 x5 = (1 : Int32) := by
              simp only [i3_lt, i3_le, i6_lt, i6_le, i3_eq, i3_l, Int32.reduceToInt, Int64.reduceToInt, tm_1, tl_1] at c1 c2 c3 c4 c5
              unfold wy_send
              (repeat' split) <;> first | rfl | (exfalso; omega)
            rw [w_] at Kf
            exact Kf (by decide)
          · skip
            refine ⟨fun c6 => ?_, fun c6 => ?_⟩
            · skip
              have w_ : wy_send S x1 x2 x3 x4 x5 = (1 : Int32) := by
                simp only [i3_lt, i3_le, i6_lt, i6_le, i3_eq, i3_l, Int32.reduceToInt, Int64.reduceToInt, tm_1, tl_1] at c1 c2 c3 c4 c5 c6
                unfold wy_send
                (repeat' split) <;> first | rfl | (exfalso; omega)
              rw [w_] at Kf
              exact Kf (by decide)
            · skip
              refine ⟨?_, ?_⟩
              · exact vp_x (by simp only [i3_lt, i3_le, i6_lt, i6_le, i3_eq, i3_l, Int32.reduceToInt, Int64.reduceToInt, tm_1, tl_1] at c1 c2 c3 c4 c5 c6; omega) (by simp only [i3_lt, i3_le, i6_lt, i6_le, i3_eq, i3_l, Int32.reduceToInt, Int64.reduceToInt, tm_1, tl_1] at c1 c2 c3 c4 c5 c6; omega)
              refine ⟨fun c7 => ?_, fun c7 => ?_⟩
              · skip
                have w_ : wy_send S x1 x2 x3 x4 x5 = (3 : Int32) := by
                  simp only [i3_lt, i3_le, i6_lt, i6_le, i3_eq, i3_l, Int32.reduceToInt, Int64.reduceToInt, tm_1, tl_1] at c1 c2 c3 c4 c5 c6 c7
                  unfold wy_send
                  (repeat' split) <;> first | rfl | (exfalso; omega)
                rw [w_] at Kf
                exact Kf (by decide)
              · skip
                refine ⟨?_, ?_⟩
                · exact vp_x (by simp only [i3_lt, i3_le, i6_lt, i6_le, i3_eq, i3_l, Int32.reduceToInt, Int64.reduceToInt, tm_1, tl_1] at c1 c2 c3 c4 c5 c6 c7; omega) (by simp only [i3_lt, i3_le, i6_lt, i6_le, i3_eq, i3_l, Int32.reduceToInt, Int64.reduceToInt, tm_1, tl_1] at c1 c2 c3 c4 c5 c6 c7; omega)
                refine ⟨fun c8 => ?_, fun c8 => ?_⟩
                · skip
                  have w_ : wy_send S x1 x2 x3 x4 x5 = (3 : Int32) := by
                    simp only [i3_lt, i3_le, i6_lt, i6_le, i3_eq, i3_l, Int32.reduceToInt, Int64.reduceToInt, tm_1, tl_1] at c1 c2 c3 c4 c5 c6 c7 c8
                    unfold wy_send
                    (repeat' split) <;> first | rfl | (exfalso; omega)
                  rw [w_] at Kf
                  exact Kf (by decide)
                · skip
                  refine ⟨?_, ?_⟩
                  · exact vp_x (by simp only [i3_lt, i3_le, i6_lt, i6_le, i3_eq, i3_l, Int32.reduceToInt, Int64.reduceToInt, tm_1, tl_1] at c1 c2 c3 c4 c5 c6 c7 c8; omega) (by simp only [i3_lt, i3_le, i6_lt, i6_le, i3_eq, i3_l, Int32.reduceToInt, Int64.reduceToInt, tm_1, tl_1] at c1 c2 c3 c4 c5 c6 c7 c8; omega)
                  refine ⟨fun c9 => ?_, fun c9 => ?_⟩
                  · skip
                    refine ⟨fun c10 => ?_, fun c10 => ?_⟩
                    · skip
                      have w_ : wy_send S x1 x2 x3 x4 x5 = (5 : Int32) := by
                        simp only [i3_lt, i3_le, i6_lt, i6_le, i3_eq, i3_l, Int32.reduceToInt, Int64.reduceToInt, tm_1, tl_1] at c1 c2 c3 c4 c5 c6 c7 c8 c9 c10
                        unfold wy_send
                        (repeat' split) <;> first | rfl | (exfalso; omega)
                      rw [w_] at Kf
                      exact Kf (by decide)
                    · skip
                      refine ⟨fun c11 => ?_, fun c11 => ?_⟩
                      · skip
                        have w_ : wy_send S x1 x2 x3 x4 x5 = (5 : Int32) := by
                          simp only [i3_lt, i3_le, i6_lt, i6_le, i3_eq, i3_l, Int32.reduceToInt, Int64.reduceToInt, tm_1, tl_1] at c1 c2 c3 c4 c5 c6 c7 c8 c9 c10 c11
                          unfold wy_send
                          (repeat' split) <;> first | rfl | (exfalso; omega)
                        rw [w_] at Kf
                        exact Kf (by decide)
                      · skip
                        refine ⟨fun c12 => ?_, fun c12 => ?_⟩
                        · skip
                          have w_ : wy_send S x1 x2 x3 x4 x5 = (5 : Int32) := by
                            simp only [i3_lt, i3_le, i6_lt, i6_le, i3_eq, i3_l, Int32.reduceToInt, Int64.reduceToInt, tm_1, tl_1] at c1 c2 c3 c4 c5 c6 c7 c8 c9 c10 c11 c12
                            unfold wy_send
                            (repeat' split) <;> first | rfl | (exfalso; omega)
                          rw [w_] at Kf
                          exact Kf (by decide)
                        · skip
                          refine ⟨fun c13 => ?_, fun c13 => ?_⟩
                          · skip
                            have w_ : wy_send S x1 x2 x3 x4 x5 = (5 : Int32) := by
                              simp only [i3_lt, i3_le, i6_lt, i6_le, i3_eq, i3_l, Int32.reduceToInt, Int64.reduceToInt, tm_1, tl_1] at c1 c2 c3 c4 c5 c6 c7 c8 c9 c10 c11 c12 c13
                              unfold wy_send
                              (repeat' split) <;> first | rfl | (exfalso; omega)
                            rw [w_] at Kf
                            exact Kf (by decide)
                          · skip
                            refine ⟨fun c14 => ?_, fun c14 => ?_⟩
                            · skip
                              have w_ : wy_send S x1 x2 x3 x4 x5 = (4 : Int32) := by
                                simp only [i3_lt, i3_le, i6_lt, i6_le, i3_eq, i3_l, Int32.reduceToInt, Int64.reduceToInt, tm_1, tl_1] at c1 c2 c3 c4 c5 c6 c7 c8 c9 c10 c11 c12 c13 c14
                                unfold wy_send
                                (repeat' split) <;> first | rfl | (exfalso; omega)
                              rw [w_] at Kf
                              exact Kf (by decide)
                            · skip
                              refine ⟨fun c15 => ?_, fun c15 => ?_⟩
                              · skip
                                have w_ : wy_send S x1 x2 x3 x4 x5 = (4 : Int32) := by
                                  simp only [i3_lt, i3_le, i6_lt, i6_le, i3_eq, i3_l, Int32.reduceToInt, Int64.reduceToInt, tm_1, tl_1] at c1 c2 c3 c4 c5 c6 c7 c8 c9 c10 c11 c12 c13 c14 c15
                                  unfold wy_send
                                  (repeat' split) <;> first | rfl | (exfalso; omega)
                                rw [w_] at Kf
                                exact Kf (by decide)
                              · skip
                                refine ⟨fun c16 => ?_, fun c16 => ?_⟩
                                · skip
                                  have w_ : wy_send S x1 x2 x3 x4 x5 = (0 : Int32) := by
                                    simp only [i3_lt, i3_le, i6_lt, i6_le, i3_eq, i3_l, Int32.reduceToInt, Int64.reduceToInt, tm_1, tl_1] at c1 c2 c3 c4 c5 c6 c7 c8 c9 c10 c11 c12 c13 c14 c15 c16
                                    unfold wy_send
                                    (repeat' split) <;> first | rfl | (exfalso; omega)
                                  obtain ⟨r1, r2, r3, r4, r5⟩ := wy_send_0 w_
                                  obtain ⟨a1, a2⟩ := x_nI (x := x1) (n := 3) (by omega) (by omega)
                                  obtain ⟨b1, b2⟩ := x_nI (x := x2) (n := 5) (by omega) (by omega)
                                  obtain ⟨d1, d2⟩ := x_nI (x := x3) (n := 3) (by omega) (by omega)
                                  obtain ⟨f1, f2⟩ := x_nI (x := x4) (n := 4) (by omega) (by omega)
                                  obtain ⟨g1, g2⟩ := x_nI (x := x5) (n := 3) (by omega) (by omega)
                                  have kk := m_asks_all (G := G) (d := d) (E := E) (Q := Q) (M := M) (h := h) (a := x1.toNatClampNeg) (n := x2.toNatClampNeg) (b := x3.toNatClampNeg) (m := x4.toNatClampNeg) (e := x5.toNatClampNeg) (by omega) (by omega) (by omega) (by omega) (by omega) L (fun z => Kg w_ 5 (Or.inl ⟨by rw [e3] at z; exact z, rfl⟩)) (fun z1 z2 => Kg w_ 9 (Or.inr (Or.inl ⟨by rw [e3] at z1; exact z1, by rw [e3] at z2; exact z2, rfl⟩))) (fun z1 z2 => Kg w_ 0 (Or.inr (Or.inr ⟨by rw [e3] at z1; exact z1, by rw [e3] at z2; exact z2, rfl⟩)))
                                  rw [← a1, ← b1, ← d1, ← f1, ← g1] at kk
                                  exact kk
                                · skip
                                  have w_ : wy_send S x1 x2 x3 x4 x5 = (4 : Int32) := by
                                    simp only [i3_lt, i3_le, i6_lt, i6_le, i3_eq, i3_l, Int32.reduceToInt, Int64.reduceToInt, tm_1, tl_1] at c1 c2 c3 c4 c5 c6 c7 c8 c9 c10 c11 c12 c13 c14 c15 c16
                                    unfold wy_send
                                    (repeat' split) <;> first | rfl | (exfalso; omega)
                                  rw [w_] at Kf
                                  exact Kf (by decide)
                  · skip
                    have w_ : wy_send S x1 x2 x3 x4 x5 = (3 : Int32) := by
                      simp only [i3_lt, i3_le, i6_lt, i6_le, i3_eq, i3_l, Int32.reduceToInt, Int64.reduceToInt, tm_1, tl_1] at c1 c2 c3 c4 c5 c6 c7 c8 c9
                      unfold wy_send
                      (repeat' split) <;> first | rfl | (exfalso; omega)
                    rw [w_] at Kf
                    exact Kf (by decide)
theorem m_send (L : LY8 h M) (eS : mv h M = S) (Kf : wy_send S x1 x2 x3 x4 x5 ≠ 0 → ∀ h1, mpo M h h1 (uI S 0 0 (wy_send S x1 x2 x3 x4 x5)) → Q (some (iv (-1))) h1) (Kb : wy_send S x1 x2 x3 x4 x5 = 0 → ¬ sok (S.2 3) x1.toNatClampNeg x2.toNatClampNeg x3.toNatClampNeg x4.toNatClampNeg x5.toNatClampNeg → ∀ h1, mpo M h h1 (uI S 0 0 5) → Q (some (iv (-1))) h1)
    (Kc : wy_send S x1 x2 x3 x4 x5 = 0 → sok (S.2 3) x1.toNatClampNeg x2.toNatClampNeg x3.toNatClampNeg x4.toNatClampNeg x5.toNatClampNeg → bf_sum (snv (S.2 3) x1.toNatClampNeg) x2.toNatClampNeg < bf_sum (snv (S.2 3) x3.toNatClampNeg) x4.toNatClampNeg → ∀ h1, mpo M h h1 (uI S 0 0 9) → Q (some (iv (-1))) h1)
    (Kg : wy_send S x1 x2 x3 x4 x5 = 0 → sok (S.2 3) x1.toNatClampNeg x2.toNatClampNeg x3.toNatClampNeg x4.toNatClampNeg x5.toNatClampNeg → ¬ bf_sum (snv (S.2 3) x1.toNatClampNeg) x2.toNatClampNeg < bf_sum (snv (S.2 3) x3.toNatClampNeg) x4.toNatClampNeg → ∀ h1 r, r.toInt = sn_Z x2.toNatClampNeg x4.toNatClampNeg (snc (S.2 3) x5.toNatClampNeg x4.toNatClampNeg) (sn0 (S.2 3) x1.toNatClampNeg x3.toNatClampNeg) (bf_sum (snv (S.2 3) x3.toNatClampNeg) x4.toNatClampNeg).toNat → mpo M h h1 (uI S 0 0 0) → Q (some (iv r)) h1) :
    MX G mi_X8_send (d + 2) 0 [some (rv M), some (iv x1), some (iv x2), some (iv x3), some (iv x4), some (iv x5), none, none, none] [] h Q E := by
  refine v_X8_send (d := d + 1) L ?_
  intro h1 eh1 Xh1
  subst eh1
  have m0 : mch [71, 72, 73, 74, 75, 76] [0, 1] M h (ah_wI h M 1 0) := mch.rf.zI (by decide)
  have st : ∀ v, mpo M h (ah_wI (ah_wI h M 1 0) M 0 v) (uI S 0 0 v) := fun v => mpo.mk (A := []) (Z := [0, 1]) (by decide) ((mch.rf.zI (by decide)).zI (by decide)) (by rw [mv_zI, mv_zI, eS]; exact (kept.rf.sI (by decide) (by decide)).cI)
  refine m_asksSend (S := S) (m0.ly L) (fun k => by rw [m0.ar 2 (by decide) (by decide)]; exact mk_r eS 2 k) (funext fun k => by rw [m0.arJ 3 (by decide) (by decide)]; exact mk_j eS 3 k) (fun w => ?_) (fun w r hr => ?_)
  · intro _ h4 e4 _
    subst e4
    refine ⟨fun c => ?_, fun _ => Kf w _ (st _)⟩
    exfalso
    apply w
    have := wy_send_in S x1 x2 x3 x4 x5
    rw [i3_le, i3_0] at c
    rcases this with e | e | e | e | e
    · exact e
    all_goals (rw [e] at c; exact absurd c (by decide))
  · intro _ h4 e4 _
    subst e4
    rcases hr with ⟨n1, e⟩ | ⟨n1, n2, e⟩ | ⟨n1, n2, e⟩
    · subst e
      exact ⟨fun c => absurd c (by decide), fun _ => Kb w n1 _ (st _)⟩
    · subst e
      exact ⟨fun c => absurd c (by decide), fun _ => Kc w n1 n2 _ (st _)⟩
    · subst e
      refine ⟨fun _ => ?_, fun c => absurd (by decide) c⟩
      obtain ⟨r1, r2, r3, r4, r5⟩ := wy_send_0 w
      obtain ⟨a1, a2⟩ := x_nI (x := x1) (n := 3) (by omega) (by omega)
      obtain ⟨b1, b2⟩ := x_nI (x := x2) (n := 5) (by omega) (by omega)
      obtain ⟨c1, c2⟩ := x_nI (x := x3) (n := 3) (by omega) (by omega)
      obtain ⟨d1, d2⟩ := x_nI (x := x4) (n := 4) (by omega) (by omega)
      obtain ⟨f1, f2⟩ := x_nI (x := x5) (n := 3) (by omega) (by omega)
      have m1 : mch [71, 72, 73, 74, 75, 76] [0, 1] M h (ah_wI (ah_wI h M 1 0) M 0 0) := m0.zI (by decide)
      have eJ : ah_J (ah_wI (ah_wI h M 1 0) M 0 0) (M + 3) = S.2 3 := funext fun k => mk_j eS 3 k
      have kk := m_send_35 (G := G) (d := d + 1) (E := E) (Q := Q) (M := M) (h := ah_wI (ah_wI h M 1 0) M 0 0) (a := x1.toNatClampNeg) (n := x2.toNatClampNeg) (b := x3.toNatClampNeg) (m := x4.toNatClampNeg) (e := x5.toNatClampNeg) (by omega) (by omega) (by omega) (by omega) (by omega) (m1.ly L) (by rw [eJ]; exact n1) (fun g x m2 H2 hx => ?_)
      · rw [← a1, ← b1, ← c1, ← d1, ← f1] at kk
        exact kk
      rw [eJ] at H2 hx
      have s1 := sok_sum n1.1 (Nat.le_refl _)
      have s2 := sok_sum n1.2.1 (Nat.le_refl _)
      have m12 := m1.tr (m2.mono (by decide) (by decide))
      refine m_send_153 (sok1_c n1.2.2) (by omega) (by omega) (sn0_I n1) (by omega) (by omega) hx (m12.ly L) H2 (fun g3 r m3 hr => ?_)
      have m13 := m12.tr (m3.mono (by decide) (by decide))
      refine Kg w n1 n2 g3 r hr (mpo.mk (by decide) m13 (sn_kept eS m13 ?_))
      rw [m3.sc 0 (by decide) (by decide), m2.sc 0 (by decide) (by decide), rd_Ih]
end

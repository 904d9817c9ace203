/-! ===== bushels taken out of a heap: the class ===== -/
/-- a play was written -/
def plf (p : Nat) (h g : ah_T) : Prop := (g.1 = h.1 ∧ ah_kd g = ah_kd h ∧ ah_ln g = ah_ln h ∧ ah_R g = ah_R h) ∧ (∀ a k, (a ≤ p + 87 ∨ p + 1417 ≤ a) → ah_I g a k = ah_I h a k) ∧ ∀ a k, (a < p ∨ p + 1417 ≤ a) → ah_J g a k = ah_J h a k
/-- only ints of the addresses A were written -/
def ifr (A : List Nat) (h g : ah_T) : Prop := (g.1 = h.1 ∧ ah_kd g = ah_kd h ∧ ah_ln g = ah_ln h ∧ ah_R g = ah_R h) ∧ ah_J g = ah_J h ∧ ∀ a k, a ∉ A → ah_I g a k = ah_I h a k
/-- the heaps of a play -/
def Hp (g : ah_T) (p : Nat) (P : PS) : Prop := ∀ e y, e < 11 → y < 60 → (∀ f, f < 20 → ah_I g (p + (97 + 22 * y + 2 * e) + 1) f = nI (P e y f)) ∧ ah_I g (p + (97 + 22 * y + 2 * e)) 1 = nI (sN (P e y) 20)
section
variable {G : ma_G} {d p e y n i : Nat} {P : PS} {h g g2 : ah_T} {A : List Nat} {Q : Option ma_V → ah_T → Prop} {E : Nat → ah_T → Prop}
theorem plf.rf : plf p h h := ⟨⟨rfl, rfl, rfl, rfl⟩, fun _ _ _ => rfl, fun _ _ _ => rfl⟩
theorem plf.tr (x : plf p h g) (z : plf p g g2) : plf p h g2 := ⟨⟨z.1.1.trans x.1.1, z.1.2.1.trans x.1.2.1, z.1.2.2.1.trans x.1.2.2.1, z.1.2.2.2.trans x.1.2.2.2⟩, fun b k q => (z.2.1 b k q).trans (x.2.1 b k q), fun b k q => (z.2.2 b k q).trans (x.2.2 b k q)⟩
theorem plf.wI (x : plf p h g) {a k : Nat} {v : Int32} (ha : p + 88 ≤ a ∧ a < p + 1417) : plf p h (ah_wI g a k v) := x.tr ⟨⟨rfl, rfl, rfl, rfl⟩, fun b j q => rd_Ia (by omega), fun _ _ _ => rfl⟩
theorem plf.wJ (x : plf p h g) {a k : Nat} {v : Int64} (ha : p ≤ a ∧ a < p + 1417) : plf p h (ah_wJ g a k v) := x.tr ⟨⟨rfl, rfl, rfl, rfl⟩, fun _ _ _ => rfl, fun b j q => rd_Ja (by omega)⟩
theorem plf.ext (x : plf p h g) : ah_ext h g := ⟨by unfold ah_sz; rw [x.1.1]; exact Nat.le_refl _, fun b _ => ⟨by rw [x.1.2.1], by rw [x.1.2.2.1], fun k _ _ => by rw [x.1.2.2.2]⟩⟩
theorem plf.ly (x : plf p h g) (L : LY1 h p) : LY1 g p := L.ext x.ext
theorem sfr.pl (x : sfr A (p + 93) h g) (hA : ∀ i, i ∈ A → i < 4) : plf p h g := ⟨x.1, fun a k _ => by rw [x.2.1], fun a k q => x.2.2 a k (fun i hi => by have := hA i hi; omega)⟩
theorem ifr.rf : ifr A h h := ⟨⟨rfl, rfl, rfl, rfl⟩, rfl, fun _ _ _ => rfl⟩
theorem ifr.tr (x : ifr A h g) (z : ifr A g g2) : ifr A h g2 := ⟨⟨z.1.1.trans x.1.1, z.1.2.1.trans x.1.2.1, z.1.2.2.1.trans x.1.2.2.1, z.1.2.2.2.trans x.1.2.2.2⟩, z.2.1.trans x.2.1, fun b k q => (z.2.2 b k q).trans (x.2.2 b k q)⟩
theorem ifr.wI (x : ifr A h g) {a k : Nat} {v : Int32} (ha : a ∈ A) : ifr A h (ah_wI g a k v) := x.tr ⟨⟨rfl, rfl, rfl, rfl⟩, rfl, fun b j q => rd_Ia (fun e => q (e ▸ ha))⟩
theorem ifr.ext (x : ifr A h g) : ah_ext h g := ⟨by unfold ah_sz; rw [x.1.1]; exact Nat.le_refl _, fun b _ => ⟨by rw [x.1.2.1], by rw [x.1.2.2.1], fun k _ _ => by rw [x.1.2.2.2]⟩⟩
theorem ifr.pl (x : ifr A h g) (hA : ∀ a, a ∈ A → p + 88 ≤ a ∧ a < p + 1417) : plf p h g := ⟨x.1, fun a k q => x.2.2 a k (fun m => by have := hA a m; omega), fun a k _ => by rw [x.2.1]⟩
theorem ly1_L2 (L : LY1 h p) : LY2 h (p + 93) := by
  have q1 := L.1.2 (93, 3, 0, 94, 41, 20) (List.mem_of_getElem? (i := 10) rfl)
  have q2 := L.1.2 (93, 3, 1, 95, 41, 20) (List.mem_of_getElem? (i := 11) rfl)
  have q3 := L.1.2 (93, 3, 2, 96, 41, 20) (List.mem_of_getElem? (i := 12) rfl)
  refine ⟨q1.1, fun q hq => ?_⟩
  simp only [lyT2, List.mem_cons, List.not_mem_nil, or_false] at hq
  rcases hq with rfl | rfl | rfl
  · exact q1
  · exact q2
  · exact q3
theorem ly1_H (L : LY1 h p) (he : e < 11) (hy : y < 60) : LY3 h (p + (97 + 22 * y + 2 * e)) := by
  by_cases c : e < 8
  · have q := ly1_H3_1 (n := e) (m := y / 10) (y := y % 10) L c (by omega) (by omega)
    rw [show 97 + 22 * (10 * (y / 10) + y % 10) + 2 * e = 97 + 22 * y + 2 * e by omega] at q
    exact q
  · by_cases c2 : e < 10
    · have q := ly1_H3_58 (n := e - 8) (m := y / 10) (y := y % 10) L (by omega) (by omega) (by omega)
      rw [show 113 + 22 * (10 * (y / 10) + y % 10) + 2 * (e - 8) = 97 + 22 * y + 2 * e by omega] at q
      exact q
    · have q := ly1_H2_73 (n := y / 10) (m := y % 10) L (by omega) (by omega)
      rw [show 117 + 22 * (10 * (y / 10) + y % 10) = 97 + 22 * y + 2 * e by omega] at q
      exact q
theorem b62 {a b : Nat} (ha : a < 2147483648) (hb : b < 2147483648) : a * b < 4611686018427387904 := by
  have := Nat.mul_le_mul (show a ≤ 2147483647 by omega) (show b ≤ 2147483647 by omega)
  omega
theorem Hp.sf (x : Hp h p P) (z : sfr A (p + 93) h g) : Hp g p P := fun e y he hy => by rw [z.2.1]; exact x e y he hy
/-- one heap is written -/
theorem Hp.up {r : Nat → Nat} (x : Hp g p P) (he : e < 11) (hy : y < 60) (hr : ∀ f, f < 20 → ah_I g2 (p + (97 + 22 * y + 2 * e) + 1) f = nI (r f)) (ha : ah_I g2 (p + (97 + 22 * y + 2 * e)) 1 = nI (sN r 20)) (ho : ∀ a k, p + 97 ≤ a → a ≠ p + (97 + 22 * y + 2 * e) → a ≠ p + (97 + 22 * y + 2 * e) + 1 → ah_I g2 a k = ah_I g a k) : Hp g2 p (pr P e y r) := fun e' y' he' hy' => by
  by_cases c : e' = e ∧ y' = y
  · obtain ⟨rfl, rfl⟩ := c
    rw [pr_s]; exact ⟨hr, ha⟩
  · rw [pr_n c, ho _ 1 (by omega) (by omega) (by omega)]
    exact ⟨fun f hf => by rw [ho _ f (by omega) (by omega) (by omega)]; exact (x e' y' he' hy').1 f hf, (x e' y' he' hy').2⟩
/-- taken, into another heap -/
theorem c_takesT {e2 : Nat} (L : LY1 h p) (H : Hp h p P) (he : e < 11) (he2 : e2 < 11) (hn2 : e2 ≠ e) (hy : y < 60) (hn : n ≤ sN (P e y) 20) (hb : sN (P e y) 20 < 2147483648)
    (K : ∀ g, plf p h g → Hp g p (pr (pr P e y (fun f => P e y f - spl 20 (P e y) n f)) e2 y (fun f => P e2 y f + spl 20 (P e y) n f)) → (∀ a k, a ≤ p + 96 → ah_I g a k = ah_I h a k) → (∀ a k, a < p + 94 → ah_J g a k = ah_J h a k) → Q none g) :
    MX G mi_X3_takes (d + 2) 0 [some (rv (p + (97 + 22 * y + 2 * e))), some (iv (nI n)), some (rv (p + 93)), some (rv (p + (97 + 22 * y + 2 * e2))), some (rv 0), none, none] [] h Q E := by
  obtain ⟨H1, H2⟩ := H e y he hy
  obtain ⟨V1, V2⟩ := H e2 y he2 hy
  have LA := ly1_H L he hy
  have LB := ly1_H L he2 hy
  have q1 : ∀ f, f < 20 → spl 20 (P e y) n f ≤ P e y f := fun f hf => spl_le hn hf
  have q2 : sN (spl 20 (P e y) n) 20 = n := spl_s0 hn
  have wf : ∀ f, f < 20 → P e y f < 2147483648 := fun f hf => Nat.lt_of_le_of_lt (sN_ge hf) hb
  have n62 : n < 2147483648 := Nat.lt_of_le_of_lt hn hb
  generalize hA : p + (97 + 22 * y + 2 * e) = A at H1 H2 LA
  generalize hB : p + (97 + 22 * y + 2 * e2) = B at V1 V2 LB
  refine v_X3_takes (d := d + 1) LA (ly1_L2 L) ?_
  rw [H2, nI_l hb, nI_l n62]
  refine c_split (ly1_L2 L) (ly3_K_1 LA) (ly3_N_1 LA) H1 hb (fun f hf => b62 n62 (wf f hf)) (by omega) (fun g z hT => ?_)
  intro _
  generalize spl 20 (P e y) n = q at K q1 q2 hT
  have zp := z.pl (p := p) (by decide)
  refine mx_up (α := Unit) (fun f _ => [some (rv A), some (iv (nI n)), some (rv (p + 93)), some (rv B), some (rv 0), some (iv (nI f)), none]) 20 (fun f _ g' => ifr [A + 1, B + 1, B] g g' ∧ (∀ j, j < 20 → ah_I g' (A + 1) j = nI (if j < f then P e y j - q j else P e y j)) ∧ (∀ j, j < 20 → ah_I g' (B + 1) j = nI (if j < f then P e2 y j + q j else P e2 y j)) ∧ ah_I g' B 1 = nI (sN (P e2 y) 20 + sN q f)) (fun f _ g' hf hI KK => ?_) (fun _ g' hI => ?_) 0 () g (Nat.zero_le _) ⟨ifr.rf, fun j hj => by rw [if_neg (by omega), z.2.1]; exact H1 j hj, fun j hj => by rw [if_neg (by omega), z.2.1]; exact V1 j hj, by rw [z.2.1]; exact V2⟩
  · obtain ⟨zi, i1, i2, i3⟩ := hI
    have e0 := zi.ext
    have LA' := (LA.ext zp.ext).ext e0
    have LB' := (LB.ext zp.ext).ext e0
    have L2' := ((ly1_L2 L).ext zp.ext).ext e0
    refine v_X3_takes_18 (d := d + 1) LA' L2' ⟨fun c => ?_, fun _ => ?_⟩
    · exfalso; rw [i3_le, nI_x (by omega)] at c; have : (20 : Int) ≤ (f : Int) := c; omega
    · rw [nI_clamp (by omega)]
      have gq : (ah_J g' (p + 93 + 1) f).toInt32 = nI (q f) := by rw [zi.2.1, hT f hf, lN_i]
      rw [gq, i1 f hf, if_neg (Nat.lt_irrefl _), pk_sub (q1 f hf)]
      refine ⟨vp_in_nI hf (by decide), fun h4 e4 _ => ⟨fun c => absurd c (by omega), fun _ => ⟨ly3_k LB', ?_⟩⟩⟩
      rw [ly3_R_0_0 LB']
      refine ⟨ly3_A_1 LB' (vp_in_nI hf (by decide)), fun h11 e11 _ h12 e12 _ => ⟨fun _ => ?_, fun c => absurd rfl c⟩⟩
      have r1 : ah_I h4 (B + 1) f = nI (P e2 y f) := by rw [e4, rd_Ia (by omega), i2 f hf, if_neg (Nat.lt_irrefl _)]
      have r2 : ah_I h4 B 1 = nI (sN (P e2 y) 20 + sN q f) := by rw [e4, rd_Ia (by omega)]; exact i3
      rw [r1, nI_add] at e11
      rw [r2, nI_add] at e12
      rw [nI_1]
      refine KK () h12 ⟨by rw [e12, e11, e4]; exact ((zi.wI (by simp)).wI (by simp)).wI (by simp), fun j hj => ?_, fun j hj => ?_, ?_⟩
      · rw [e12, rd_Ia (by omega), e11, rd_Ia (by omega), e4, rd_II]
        by_cases c : j = f
        · rw [if_pos ⟨rfl, c⟩, c, if_pos (by omega)]
        · rw [if_neg (fun z => c z.2), i1 j hj]
          by_cases c2 : j < f
          · rw [if_pos c2, if_pos (by omega)]
          · rw [if_neg c2, if_neg (by omega)]
      · rw [e12, rd_Ia (by omega), e11, rd_II]
        by_cases c : j = f
        · rw [if_pos ⟨rfl, c⟩, c, if_pos (by omega)]
        · rw [if_neg (fun z => c z.2), e4, rd_Ia (by omega), i2 j hj]
          by_cases c2 : j < f
          · rw [if_pos c2, if_pos (by omega)]
          · rw [if_neg c2, if_neg (by omega)]
      · rw [e12, rd_II, if_pos ⟨rfl, rfl⟩]
        show _ = nI (sN (P e2 y) 20 + (sN q f + q f))
        rw [Nat.add_assoc]
  · obtain ⟨zi, i1, i2, i3⟩ := hI
    have e0 := zi.ext
    have LA' := (LA.ext zp.ext).ext e0
    have L2' := ((ly1_L2 L).ext zp.ext).ext e0
    refine v_X3_takes_18 (d := d + 1) LA' L2' ⟨fun _ h2 e2' _ => ?_, fun c => absurd (by decide) c⟩
    have rA : ah_I g' A 1 = nI (sN (P e y) 20) := by rw [zi.2.2 A 1 (by simp only [List.mem_cons, List.not_mem_nil, or_false]; omega), z.2.1]; exact H2
    rw [rA, pk_sub hn] at e2'
    have zi2 : plf p g h2 := by rw [e2']; exact (zi.pl (p := p) (fun a ha => by simp only [List.mem_cons, List.not_mem_nil, or_false] at ha; omega)).wI (by omega)
    have oth : ∀ a k, a ≠ A → a ≠ A + 1 → a ≠ B → a ≠ B + 1 → ah_I h2 a k = ah_I h a k := fun a k h1 h2' h3 h4 => by
      rw [e2', rd_Ia h1, zi.2.2 a k (by simp only [List.mem_cons, List.not_mem_nil, or_false]; omega), z.2.1]
    refine K h2 (zp.tr zi2) (fun e' y' he' hy' => ?_) (fun a k ha => oth a k (by omega) (by omega) (by omega) (by omega)) (fun a k ha => ?_)
    · by_cases c2 : e' = e2 ∧ y' = y
      · obtain ⟨c3, c4⟩ := c2
        rw [c3, c4, pr_s, hB]
        refine ⟨fun f hf => ?_, ?_⟩
        · rw [e2', rd_Ia (by omega), i2 f hf, if_pos hf]
        · rw [e2', rd_Ia (by omega), i3, ← sN_add]
      · rw [pr_n c2]
        by_cases c : e' = e ∧ y' = y
        · obtain ⟨c3, c4⟩ := c
          rw [c3, c4, pr_s, hA]
          refine ⟨fun f hf => ?_, ?_⟩
          · rw [e2', rd_Ia (by omega), i1 f hf, if_pos hf]
          · rw [e2', rd_II, if_pos ⟨rfl, rfl⟩]
            have := sN_sub (r := P e y) (q := q) (n := 20) q1
            congr 1; omega
        · rw [pr_n c, oth _ 1 (by omega) (by omega) (by omega) (by omega)]
          exact ⟨fun f hf => by rw [oth _ f (by omega) (by omega) (by omega) (by omega)]; exact (H e' y' he' hy').1 f hf, (H e' y' he' hy').2⟩
    · rw [e2']
      show ah_J g' a k = _
      rw [zi.2.1]
      exact z.2.2 a k (fun i hi => by simp only [List.mem_cons, List.not_mem_nil, or_false] at hi; omega)
/-- taken, into a row -/
theorem c_takesR {r : Nat → Nat} (L : LY1 h p) (H : Hp h p P) (he : e < 11) (hy : y < 60) (hi : 88 ≤ i ∧ i < 93) (kr : ah_kd h (p + i) = 40) (lr : ah_ln h (p + i) = 20) (hr : ∀ f, f < 20 → ah_I h (p + i) f = nI (r f)) (hn : n ≤ sN (P e y) 20) (hb : sN (P e y) 20 < 2147483648)
    (K : ∀ g, plf p h g → Hp g p (pr P e y (fun f => P e y f - spl 20 (P e y) n f)) → (∀ f, f < 20 → ah_I g (p + i) f = nI (r f + spl 20 (P e y) n f)) → (∀ a k, a ≤ p + 96 → a ≠ p + i → ah_I g a k = ah_I h a k) → (∀ a k, a < p + 94 → ah_J g a k = ah_J h a k) → Q none g) :
    MX G mi_X3_takes (d + 2) 0 [some (rv (p + (97 + 22 * y + 2 * e))), some (iv (nI n)), some (rv (p + 93)), some (rv 0), some (rv (p + i)), none, none] [] h Q E := by
  obtain ⟨H1, H2⟩ := H e y he hy
  have LA := ly1_H L he hy
  have q1 : ∀ f, f < 20 → spl 20 (P e y) n f ≤ P e y f := fun f hf => spl_le hn hf
  have q2 : sN (spl 20 (P e y) n) 20 = n := spl_s0 hn
  have wf : ∀ f, f < 20 → P e y f < 2147483648 := fun f hf => Nat.lt_of_le_of_lt (sN_ge hf) hb
  have n62 : n < 2147483648 := Nat.lt_of_le_of_lt hn hb
  generalize hA : p + (97 + 22 * y + 2 * e) = A at H1 H2 LA
  refine v_X3_takes (d := d + 1) LA (ly1_L2 L) ?_
  rw [H2, nI_l hb, nI_l n62]
  refine c_split (ly1_L2 L) (ly3_K_1 LA) (ly3_N_1 LA) H1 hb (fun f hf => b62 n62 (wf f hf)) (by omega) (fun g z hT => ?_)
  intro _
  generalize spl 20 (P e y) n = q at K q1 q2 hT
  have zp := z.pl (p := p) (by decide)
  refine mx_up (α := Unit) (fun f _ => [some (rv A), some (iv (nI n)), some (rv (p + 93)), some (rv 0), some (rv (p + i)), some (iv (nI f)), none]) 20 (fun f _ g' => ifr [A + 1, p + i] g g' ∧ (∀ j, j < 20 → ah_I g' (A + 1) j = nI (if j < f then P e y j - q j else P e y j)) ∧ (∀ j, j < 20 → ah_I g' (p + i) j = nI (if j < f then r j + q j else r j))) (fun f _ g' hf hI KK => ?_) (fun _ g' hI => ?_) 0 () g (Nat.zero_le _) ⟨ifr.rf, fun j hj => by rw [if_neg (by omega), z.2.1]; exact H1 j hj, fun j hj => by rw [if_neg (by omega), z.2.1]; exact hr j hj⟩
  · obtain ⟨zi, i1, i2⟩ := hI
    have e0 := zi.ext
    have LA' := (LA.ext zp.ext).ext e0
    have L2' := ((ly1_L2 L).ext zp.ext).ext e0
    refine v_X3_takes_18 (d := d + 1) LA' L2' ⟨fun c => ?_, fun _ => ?_⟩
    · exfalso; rw [i3_le, nI_x (by omega)] at c; have : (20 : Int) ≤ (f : Int) := c; omega
    · rw [nI_clamp (by omega)]
      have gq : (ah_J g' (p + 93 + 1) f).toInt32 = nI (q f) := by rw [zi.2.1, hT f hf, lN_i]
      rw [gq, i1 f hf, if_neg (Nat.lt_irrefl _), pk_sub (q1 f hf)]
      refine ⟨vp_in_nI hf (by decide), fun h4 e4 _ => ⟨fun _ => ⟨fun c => absurd c (by omega), fun _ => ⟨⟨by rw [zi.1.2.1, zp.1.2.1]; exact kr, by rw [zi.1.2.2.1, zp.1.2.2.1, lr]; exact vp_in_nI hf (by decide)⟩, fun h8 e8 _ => ?_⟩⟩, fun c => absurd rfl c⟩⟩
      have r1 : ah_I h4 (p + i) f = nI (r f) := by rw [e4, rd_Ia (by omega), i2 f hf, if_neg (Nat.lt_irrefl _)]
      rw [r1, nI_add] at e8
      rw [nI_1]
      refine KK () h8 ⟨by rw [e8, e4]; exact (zi.wI (by simp)).wI (by simp), fun j hj => ?_, fun j hj => ?_⟩
      · rw [e8, rd_Ia (by omega), e4, rd_II]
        by_cases c : j = f
        · rw [if_pos ⟨rfl, c⟩, c, if_pos (by omega)]
        · rw [if_neg (fun z => c z.2), i1 j hj]
          by_cases c2 : j < f
          · rw [if_pos c2, if_pos (by omega)]
          · rw [if_neg c2, if_neg (by omega)]
      · rw [e8, rd_II]
        by_cases c : j = f
        · rw [if_pos ⟨rfl, c⟩, c, if_pos (by omega)]
        · rw [if_neg (fun z => c z.2), e4, rd_Ia (by omega), i2 j hj]
          by_cases c2 : j < f
          · rw [if_pos c2, if_pos (by omega)]
          · rw [if_neg c2, if_neg (by omega)]
  · obtain ⟨zi, i1, i2⟩ := hI
    have e0 := zi.ext
    have LA' := (LA.ext zp.ext).ext e0
    have L2' := ((ly1_L2 L).ext zp.ext).ext e0
    refine v_X3_takes_18 (d := d + 1) LA' L2' ⟨fun _ h2 e2' _ => ?_, fun c => absurd (by decide) c⟩
    have rA : ah_I g' A 1 = nI (sN (P e y) 20) := by rw [zi.2.2 A 1 (by simp only [List.mem_cons, List.not_mem_nil, or_false]; omega), z.2.1]; exact H2
    rw [rA, pk_sub hn] at e2'
    have zi2 : plf p g h2 := by rw [e2']; exact (zi.pl (p := p) (fun a ha => by simp only [List.mem_cons, List.not_mem_nil, or_false] at ha; omega)).wI (by omega)
    have oth : ∀ a k, a ≠ A → a ≠ A + 1 → a ≠ p + i → ah_I h2 a k = ah_I h a k := fun a k h1 h2' h3 => by
      rw [e2', rd_Ia h1, zi.2.2 a k (by simp only [List.mem_cons, List.not_mem_nil, or_false]; omega), z.2.1]
    refine K h2 (zp.tr zi2) (H.up he hy (fun f hf => ?_) ?_ (fun a k h1 h2' h3 => ?_)) (fun f hf => ?_) (fun a k ha hai => oth a k (by omega) (by omega) hai) (fun a k ha => ?_)
    · rw [hA, e2', rd_Ia (by omega), i1 f hf, if_pos hf]
    · rw [hA, e2', rd_II, if_pos ⟨rfl, rfl⟩]
      have := sN_sub (r := P e y) (q := q) (n := 20) q1
      congr 1; omega
    · rw [hA] at h2' h3
      exact oth a k h2' h3 (by omega)
    · rw [e2', rd_Ia (by omega), i2 f hf, if_pos hf]
    · rw [e2']
      show ah_J g' a k = _
      rw [zi.2.1]
      exact z.2.2 a k (fun i hi => by simp only [List.mem_cons, List.not_mem_nil, or_false] at hi; omega)
end

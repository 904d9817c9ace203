/-! ===== tokens: words, signs, names, as the class asks them ===== -/
def ub (i j : Nat) : Nat := (ma_byt i j).toNatClampNeg
def sgK : List Nat := [1, 4, 9, 14, 18, 21, 25, 31, 36]
def sgV : List Nat := [1, 7, 14, 19, 24, 32, 38, 43, 52, 57, 63, 69]
def sgm (i m : Nat) : Nat := (if i = 0 then sgK else sgV).getD m 0
theorem ub_ok : ∀ i, i < 2 → ∀ j, j < ma_len i → ma_byt i j = nI (ub i j) ∧ ub i j < 256 := by decide +kernel
theorem sg_ok : ∀ i, i < 2 → sgm i 0 = 1 ∧ sgm i (kw i).length = ma_len i ∧ (kw i).length ≤ 11 ∧ ma_len i ≤ 100 ∧ ∀ m, m < (kw i).length → sgm i m < sgm i (m + 1) - 1 ∧ 1 ≤ sgm i m ∧ sgm i (m + 1) ≤ ma_len i ∧ ub i (sgm i (m + 1) - 1) = 32 ∧ (kw i).getD m 0 = cw 32 96 (ub i) (sgm i m) (sgm i (m + 1) - 1 - sgm i m) ∧ ∀ j, j < sgm i (m + 1) - 1 - sgm i m → 96 < ub i (sgm i m + j) ∧ ub i (sgm i m + j) < 128 := by decide +kernel
section
variable {G : ma_G} {d R n p : Nat} {h g g2 : ah_T} {t : Nat → Nat} {Q : Option ma_V → ah_T → Prop} {E : Nat → ah_T → Prop}
theorem tw_let (h : tS t n p = 2) : tF t n p < n ∧ ∀ j, j < tE t n p - tF t n p → 96 < t (tF t n p + j) ∧ t (tF t n p + j) < 128 ∧ tF t n p + j < n := by
  unfold tS at h
  by_cases c : n ≤ tF t n p
  · rw [if_pos c] at h; omega
  · rw [if_neg c] at h
    by_cases c1 : tlt t (tF t n p) = true
    · have e : tE t n p = rn (tlt t) n (tF t n p) := by unfold tE; rw [if_neg c, if_pos c1]
      refine ⟨by omega, fun j hj => ?_⟩
      rw [e] at hj
      have z := rn_in (P := tlt t) (n := n) (p := tF t n p) (k := tF t n p + j) (by omega) (by omega)
      have := of_decide_eq_true z.2
      omega
    · rw [if_neg c1] at h
      by_cases c2 : tdg t (tF t n p) = true
      · rw [if_pos c2] at h
        by_cases c3 : tE t n p - tF t n p ≤ 6
        · rw [if_pos c3] at h; omega
        · rw [if_neg c3] at h; omega
      · rw [if_neg c2] at h
        by_cases c3 : tsg (t (tF t n p)) = true
        · rw [if_pos c3] at h; omega
        · rw [if_neg c3] at h; omega
theorem tS_le : tS t n p ≤ 4 := by
  unfold tS
  repeat' split
  all_goals omega
theorem c_isWord {i k e : Nat} (hi : i < 2) (L : LY5 h R) (T : tpe h (R + 1) n t) (hp : p ≤ n) (D : rdC h R n t p) (hs : tS t n p = 2) (hk : k ≤ e) (he : e < ma_len i) (hb : ∀ j, j < e - k → 96 < ub i (k + j) ∧ ub i (k + j) < 128)
    (K : Q (some (iv (if tW t n p = cw 32 96 (ub i) k (e - k) then 1 else 0))) h) : MX G mi_X5_isWord (d + 5) 0 [some (rv R), some (rv (ma_lit G i)), some (iv (nI k)), some (iv (nI e)), none] [] h Q E := by
  obtain ⟨D2, D3, D4, D5, -⟩ := D
  have n5 := T.1
  have bF := tF_bd (t := t) hp
  have bE := tE_bd (t := t) hp
  obtain ⟨w1, w2⟩ := tw_let hs
  have hl := (sg_ok i hi).2.2.2.1
  refine v_X5_isWord hi L ?_
  rw [D4, D5, pk_sub (by omega), pk_sub (by omega), nI_eq (by omega) (by omega)]
  refine ⟨fun c => ?_, fun c => ?_⟩
  · refine mx_ind (α := Nat) (fun q => [some (rv R), some (rv (ma_lit G i)), some (iv (nI k)), some (iv (nI e)), some (iv (nI q))]) (fun q g => g = h ∧ k ≤ q ∧ q ≤ e ∧ ∀ j, j < q - k → t (tF t n p + j) = ub i (k + j)) (fun q => e - q) (fun q g hI KK => ?_) k h ⟨rfl, Nat.le_refl _, hk, fun j hj => by omega⟩
    obtain ⟨eg, q1, q2, q3⟩ := hI
    subst eg
    have hl2 := (sg_ok i hi).2.2.2.1
    refine v_X5_isWord_20 hi L ?_
    rw [nI_leI (by omega) (by omega)]
    refine ⟨fun c1 => ?_, fun c1 => ?_⟩
    · have : tW t n p = cw 32 96 (ub i) k (e - k) := by
        unfold tW
        rw [← c]
        exact cw_ext (fun j hj => q3 j (by omega))
      rw [if_pos this] at K
      exact K
    · intro r2
      rw [D2, D4, nI_add, pk_sub (by omega), nI_leI (by omega) (by omega), nI_ltI (by omega) (by omega), nI_clamp (n := q) (by omega), nI_clamp (n := tF t n p + q - k) (by omega), (ub_ok i hi q (by omega)).1, (T.2 (tF t n p + q - k) (by omega)).1, nI_eq (by have := (ub_ok i hi q (by omega)).2; omega) (by have := (T.2 (tF t n p + q - k) (by omega)).2; omega)]
      refine ⟨fun z => absurd z (nI_pos (by omega)), fun _ => ⟨fun _ => ⟨vp_in_nI (by omega) (by omega), fun z => absurd z (by omega), fun _ => ⟨vp_in_nI (by omega) (by decide), fun z => ?_, fun z => ?_⟩⟩, fun z => absurd (show q < ma_len i by omega) z⟩⟩
      · rw [nI_1]
        refine KK (q + 1) _ (by show e - (q + 1) < e - q; omega) ⟨rfl, by omega, by omega, fun j hj => ?_⟩
        by_cases w : j = q - k
        · subst w
          rw [show k + (q - k) = q by omega, show tF t n p + (q - k) = tF t n p + q - k by omega]
          exact z.symm
        · exact q3 j (by omega)
      · have : tW t n p ≠ cw 32 96 (ub i) k (e - k) := fun w => by
          have r := (cw_inj (b := 32) (z := 96) (fun j hj => ⟨(w2 j hj).1, (w2 j hj).2.1⟩) (fun j hj => hb j hj) w).2 (q - k) (by omega)
          rw [show k + (q - k) = q by omega, show tF t n p + (q - k) = tF t n p + q - k by omega] at r
          exact z r.symm
        rw [if_neg this] at K
        exact K
  · have : tW t n p ≠ cw 32 96 (ub i) k (e - k) := fun w => by
      have r := (cw_inj (b := 32) (z := 96) (fun j hj => ⟨(w2 j hj).1, (w2 j hj).2.1⟩) (fun j hj => hb j hj) w).1
      exact c r.symm
    rw [if_neg this] at K
    exact K
theorem c_in {i : Nat} (hi : i < 2) (L : LY5 h R) (T : tpe h (R + 1) n t) (hp : p ≤ n) (D : rdC h R n t p) (K : ∀ x : Int32, x.toInt = tK i t n p → Q (some (iv x)) h) : MX G mi_X5_in (d + 6) 0 [some (rv R), some (rv (ma_lit G i)), none, none, none] [] h Q E := by
  obtain ⟨s1, s2, s3, s4, s5⟩ := sg_ok i hi
  have n4 := tS_le (t := t) (n := n) (p := p)
  refine v_X5_in (d := d + 1) hi L ?_
  rw [D.2.1, show (2 : Int32) = nI 2 from rfl, nI_eq (by omega) (by omega)]
  refine ⟨fun hs => ?_, fun hs => K _ (by unfold tK; rw [if_neg hs]; decide)⟩
  have tk : tK i t n p = kix (tW t n p) ((kw i).drop 0) 0 := by unfold tK; rw [if_pos hs]; rfl
  rw [show (1 : Int32) = nI (sgm i 0) from by rw [s1]; rfl]
  refine mx_ind (α := Nat) (fun m => [some (rv R), some (rv (ma_lit G i)), some (iv (nI m)), some (iv (nI (sgm i m))), none]) (fun m g => g = h ∧ m ≤ (kw i).length ∧ kix (tW t n p) ((kw i).drop m) m = tK i t n p) (fun m => (kw i).length - m) (fun m g hI KK => ?_) 0 h ⟨rfl, Nat.zero_le _, tk.symm⟩
  obtain ⟨eg, q1, q2⟩ := hI
  subst eg
  rcases Nat.lt_or_ge m (kw i).length with c | c
  · obtain ⟨f1, f0, f2, f3, f4, f5⟩ := s5 m c
    have dr : (kw i).drop m = (kw i).getD m 0 :: (kw i).drop (m + 1) := by
      rw [List.drop_eq_getElem_cons c, List.getD_eq_getElem?_getD, List.getElem?_eq_getElem c]; rfl
    rw [dr, kix] at q2
    refine v_X5_in_14 (d := d + 1) hi L ⟨fun z => absurd z (nI_ge (by omega) (by omega)), fun _ => ?_⟩
    refine mx_ind (α := Nat) (fun q => [some (rv R), some (rv (ma_lit G i)), some (iv (nI m)), some (iv (nI (sgm i m))), some (iv (nI q))]) (fun q g' => g' = g ∧ sgm i m ≤ q ∧ q ≤ sgm i (m + 1) - 1) (fun q => sgm i (m + 1) - q) (fun q g' hI2 KK2 => ?_) (sgm i m) g ⟨rfl, Nat.le_refl _, by omega⟩
    obtain ⟨eg, r1, r2⟩ := hI2
    subst eg
    refine v_X5_in_25 (d := d + 1) hi L ?_
    intro _
    rw [nI_ltI (by omega) (by omega), nI_clamp (n := q) (by omega), (ub_ok i hi q (by omega)).1, show (32 : Int32) = nI 32 from rfl, nI_eq (by have := (ub_ok i hi q (by omega)).2; omega) (by omega)]
    refine ⟨fun z => absurd z (nI_pos (by omega)), fun _ => ⟨fun _ => ⟨vp_in_nI (by omega) (by omega), fun z => ?_, fun z => ?_⟩, fun z => absurd (show q < ma_len i by omega) z⟩⟩
    · have qe : q = sgm i (m + 1) - 1 := by
        rcases Nat.lt_or_ge q (sgm i (m + 1) - 1) with w | w
        · have := f5 (q - sgm i m) (by omega)
          rw [show sgm i m + (q - sgm i m) = q by omega] at this
          omega
        · omega
      refine c_isWord (d := d) hi L T hp D hs r1 (by omega) (fun j hj => f5 j (by omega)) ?_
      intro _
      rw [qe, ← f4]
      by_cases w : tW t n p = (kw i).getD m 0
      · rw [if_pos w]
        rw [if_pos w] at q2
        refine ⟨fun z => absurd z (by decide), fun _ => K _ ?_⟩
        rw [← q2, nI_x (by omega)]
      · rw [if_neg w]
        rw [if_neg w] at q2
        refine ⟨fun _ => ?_, fun z => absurd rfl z⟩
        rw [nI_1, nI_1, show sgm i (m + 1) - 1 + 1 = sgm i (m + 1) by omega]
        exact KK (m + 1) _ (by show (kw i).length - (m + 1) < (kw i).length - m; omega) ⟨rfl, by omega, q2⟩
    · have qe : q ≠ sgm i (m + 1) - 1 := fun w => z (by rw [w]; exact f3)
      rw [nI_1]
      exact KK2 (q + 1) _ (by show sgm i (m + 1) - (q + 1) < sgm i (m + 1) - q; omega) ⟨rfl, by omega, by omega⟩
  · have me : m = (kw i).length := by omega
    refine v_X5_in_14 (d := d + 1) hi L ⟨fun _ => K _ ?_, fun z => absurd (by rw [me, s2]; exact nI_le (Nat.le_refl _) (by omega)) z⟩
    rw [List.drop_eq_nil_of_le c, kix] at q2
    rw [← q2, tm_1]
theorem c_isKey {k : Nat} (hk : k < 8) (L : LY5 h R) (T : tpe h (R + 1) n t) (hp : p ≤ n) (D : rdC h R n t p) (K1 : tK 0 t n p = k → Q (some (iv 1)) h) (K0 : tK 0 t n p ≠ k → Q (some (iv 0)) h) : MX G mi_X5_isKey (d + 7) 0 [some (rv R), some (iv (nI k))] [] h Q E := by
  refine v_X5_isKey (d := d + 6) L ?_
  refine c_in (by decide) L T hp D (fun x hx => ?_)
  intro _
  refine ⟨fun z => K0 (fun w => z ?_), fun z => K1 ?_⟩
  · rw [i3_eq, hx, w, nI_x (by omega)]
  · rw [z, nI_x (by omega)] at hx; exact hx.symm
theorem c_is {c : Nat} (hc : c < 256) (L : LY5 h R) (T : tpe h (R + 1) n t) (hp : p ≤ n) (D : rdC h R n t p) (K1 : tS t n p = 4 → tV t n p = c → Q (some (iv 1)) h) (K0 : ¬ (tS t n p = 4 ∧ tV t n p = c) → Q (some (iv 0)) h) : MX G mi_X5_is d 0 [some (rv R), some (iv (nI c))] [] h Q E := by
  have n4 := tS_le (t := t) (n := n) (p := p)
  refine v_X5_is L ?_
  rw [D.2.1, show (4 : Int32) = nI 4 from rfl, nI_eq (by omega) (by omega)]
  refine ⟨fun z => K0 (fun w => z w.1), fun z => ?_⟩
  have v : tV t n p < 256 := by
    have hs := z
    unfold tS at hs
    by_cases c : n ≤ tF t n p
    · rw [if_pos c] at hs; omega
    · rw [if_neg c] at hs
      by_cases c1 : tlt t (tF t n p) = true
      · rw [if_pos c1] at hs; omega
      · rw [if_neg c1] at hs
        by_cases c2 : tdg t (tF t n p) = true
        · rw [if_pos c2] at hs
          by_cases c3 : tE t n p - tF t n p ≤ 6
          · rw [if_pos c3] at hs; omega
          · rw [if_neg c3] at hs; omega
        · unfold tV; rw [if_neg c2]; exact (T.2 _ (by omega)).2
  rw [D.2.2.2.2 (by omega), nI_l (by omega), lN_eq (by omega) (by omega)]
  exact ⟨fun w => K0 (fun q => w q.2), fun w => K1 z w⟩
theorem nm_or {a c : Nat} (hc : c < 256) : (lN a <<< ((8 : Int32).toInt64 &&& 63)) ||| lN c = lN (256 * a + c) := by
  apply Int64.toBitVec_inj.1
  rw [Int64.toBitVec_or, Int64.toBitVec_shiftLeft]
  rw [show (((8 : Int32).toInt64 &&& 63).toBitVec.smod 64) = 8#64 from by decide]
  show BitVec.ofNat 64 a <<< 8#64 ||| BitVec.ofNat 64 c = BitVec.ofNat 64 (256 * a + c)
  apply BitVec.eq_of_toNat_eq
  rw [BitVec.toNat_or]
  show (BitVec.ofNat 64 a <<< (8#64).toNat).toNat ||| _ = _
  rw [BitVec.toNat_shiftLeft, BitVec.toNat_ofNat, BitVec.toNat_ofNat, BitVec.toNat_ofNat]
  rw [show 8 % 2 ^ 64 = 8 from rfl, Nat.shiftLeft_eq, show c % 2 ^ 64 = c from Nat.mod_eq_of_lt (by omega), BitVec.toNat_ofNat]
  have p64 : (2 : Nat) ^ 64 = 18446744073709551616 := by decide
  have p8 : (2 : Nat) ^ 8 = 256 := by decide
  have e2 : (a % 2 ^ 64 * 2 ^ 8) % 2 ^ 64 = (a % 72057594037927936) <<< 8 := by
    rw [Nat.shiftLeft_eq, p64, p8]; omega
  rw [e2, ← Nat.shiftLeft_add_eq_or_of_lt (by rw [p8]; exact hc), Nat.shiftLeft_eq, p64, p8]
  omega
theorem c_name (L : LY5 h R) (T : tpe h (R + 1) n t) (hp : p ≤ n) (D : rdC h R n t p) (K1 : tS t n p = 2 → tE t n p - tF t n p ≤ 8 → Q (some (jv (lN (n256 8 (tW t n p))))) h) (K0 : ¬ (tS t n p = 2 ∧ tE t n p - tF t n p ≤ 8) → Q (some (jv (-1))) h) : MX G mi_X5_name (d + 1) 0 [some (rv R), none, none, none] [] h Q E := by
  have n4 := tS_le (t := t) (n := n) (p := p)
  have n5 := T.1
  have bF := tF_bd (t := t) hp
  have bE := tE_bd (t := t) hp
  refine v_X5_name L ?_
  rw [D.2.1, D.2.2.1, D.2.2.2.1, show (2 : Int32) = nI 2 from rfl, show (8 : Int32) = nI 8 from rfl, nI_eq (by omega) (by omega), pk_sub (by omega), nI_leI (by omega) (by omega)]
  refine ⟨fun z => K0 (fun w => z w.1), fun z => ⟨fun w => ?_, fun w => K0 (fun q => w q.2)⟩⟩
  obtain ⟨w1, w2⟩ := tw_let z
  have K := K1 z w
  rw [show tW t n p = cw 32 96 t (tF t n p) (tE t n p - tF t n p) from rfl, n256_cw w (fun j hj => ⟨(w2 j hj).1, (w2 j hj).2.1⟩)] at K
  refine mx_ind (α := Nat) (fun q => [some (rv R), some (jv (lN (cw 256 0 t (tF t n p) (q - tF t n p)))), none, some (iv (nI q))]) (fun q g => g = h ∧ tF t n p ≤ q ∧ q ≤ tE t n p) (fun q => tE t n p - q) (fun q g hI KK => ?_) (tF t n p) h ⟨rfl, Nat.le_refl _, bE.1⟩ |> fun H => by
    rw [Nat.sub_self] at H
    exact H
  obtain ⟨eg, q1, q2⟩ := hI
  subst eg
  refine v_X5_name_33 L ?_
  rw [D.1, D.2.2.2.1, nI_leI (by omega) (by omega), nI_leI (by omega) (by omega)]
  refine ⟨fun c => ?_, fun c => ⟨fun c2 => absurd c2 (by omega), fun _ => ⟨vp_in_nI (by omega) (by decide), ?_⟩⟩⟩
  · rw [show q = tE t n p by omega]; exact K
  · obtain ⟨b1, b2⟩ := T.2 q (by omega)
    rw [nI_clamp (n := q) (by omega), b1, nI_l (by omega), nm_or b2, nI_1]
    have e : 256 * cw 256 0 t (tF t n p) (q - tF t n p) + t q = cw 256 0 t (tF t n p) (q + 1 - tF t n p) := by
      rw [show q + 1 - tF t n p = (q - tF t n p) + 1 by omega, cw, show tF t n p + (q - tF t n p) = q by omega]; rfl
    rw [e]
    exact KK (q + 1) _ (by show tE t n p - (q + 1) < tE t n p - q; omega) ⟨rfl, by omega, by omega⟩
/-- a sum may begin -/
def tB (t : Nat → Nat) (n p : Nat) : Prop := tS t n p = 3 ∨ (tS t n p = 4 ∧ tV t n p = 40) ∨ tK 0 t n p = 6 ∨ tK 0 t n p = 7 ∨ (tS t n p = 2 ∧ tK 0 t n p = -1)
theorem tK_2 {i : Nat} {k : Nat} (h : tK i t n p = k) : tS t n p = 2 := by
  unfold tK at h
  by_cases c : tS t n p = 2
  · exact c
  · rw [if_neg c] at h; omega
theorem c_begins (L : LY5 h R) (T : tpe h (R + 1) n t) (hp : p ≤ n) (D : rdC h R n t p) (K1 : tB t n p → Q (some (iv 1)) h) (K0 : ¬ tB t n p → Q (some (iv 0)) h) : MX G mi_X5_begins (d + 8) 0 [some (rv R)] [] h Q E := by
  have n4 := tS_le (t := t) (n := n) (p := p)
  refine v_X5_begins (d := d + 7) L ?_
  rw [D.2.1, show (3 : Int32) = nI 3 from rfl, show (4 : Int32) = nI 4 from rfl, nI_eq (by omega) (by omega), nI_eq (by omega) (by omega)]
  have rest : tS t n p ≠ 3 → ¬ (tS t n p = 4 ∧ tV t n p = 40) → MX G mi_X5_isKey (d + 7) 0 [some (rv R), some (iv (6 : Int32))] [] h (Qi fun r4 h3 => ah_ext h h3 → (¬ r4 = 0 → Q (some (iv (1 : Int32))) h3) ∧ (r4 = 0 → MX G mi_X5_isKey (d + 7) 0 [some (rv R), some (iv (7 : Int32))] [] h3 (Qi fun r7 h6 => ah_ext h3 h6 → (¬ r7 = 0 → Q (some (iv (1 : Int32))) h6) ∧ (r7 = 0 → (¬ (ah_I h6 R 3) = (2 : Int32) → Q (some (iv (0 : Int32))) h6) ∧ ((ah_I h6 R 3) = (2 : Int32) → MX G mi_X5_in (d + 7) 0 [some (rv R), some (rv (ma_lit G 0)), none, none, none] [] h6 (Qi fun r11 h10 => ah_ext h6 h10 → (¬ r11 = (-1 : Int32) → Q (some (iv (0 : Int32))) h10) ∧ (r11 = (-1 : Int32) → Q (some (iv (1 : Int32))) h10)) E))) E)) E := fun z3 z4 => by
    refine c_isKey (d := d) (k := 6) (by decide) L T hp D (fun k6 => ?_) (fun k6 => ?_)
    · intro _
      exact ⟨fun _ => K1 (Or.inr (Or.inr (Or.inl k6))), fun z => absurd z (by decide)⟩
    · intro _
      refine ⟨fun z => absurd rfl z, fun _ => ?_⟩
      refine c_isKey (d := d) (k := 7) (by decide) L T hp D (fun k7 => ?_) (fun k7 => ?_)
      · intro _
        exact ⟨fun _ => K1 (Or.inr (Or.inr (Or.inr (Or.inl k7)))), fun z => absurd z (by decide)⟩
      · intro _
        refine ⟨fun z => absurd rfl z, fun _ => ?_⟩
        rw [D.2.1, show (2 : Int32) = nI 2 from rfl, nI_eq (by omega) (by omega)]
        have k0 : ¬ (tS t n p = 2 ∧ tK 0 t n p = -1) → Q (some (iv 0)) h := fun w => K0 (fun b => by
          rcases b with b | b | b | b | b
          · exact z3 b
          · exact z4 b
          · exact k6 b
          · exact k7 b
          · exact w b)
        refine ⟨fun z => k0 (fun w => z w.1), fun z2 => ?_⟩
        refine c_in (d := d + 1) (by decide) L T hp D (fun x hx => ?_)
        intro _
        refine ⟨fun z => k0 (fun w => z (by rw [i3_eq, hx, w.2, tm_1])), fun z => K1 (Or.inr (Or.inr (Or.inr (Or.inr ⟨z2, by rw [← hx, z, tm_1]⟩))))⟩
  refine ⟨fun z => K1 (Or.inl z), fun z3 => ⟨fun z4 => rest z3 (fun w => z4 w.1), fun z4 => ?_⟩⟩
  have v : tV t n p < 2147483648 := by
    have hs := z4
    unfold tS at hs
    by_cases c : n ≤ tF t n p
    · rw [if_pos c] at hs; omega
    · rw [if_neg c] at hs
      by_cases c1 : tlt t (tF t n p) = true
      · rw [if_pos c1] at hs; omega
      · rw [if_neg c1] at hs
        by_cases c2 : tdg t (tF t n p) = true
        · rw [if_pos c2] at hs
          by_cases c3 : tE t n p - tF t n p ≤ 6
          · rw [if_pos c3] at hs; omega
          · rw [if_neg c3] at hs; omega
        · unfold tV; rw [if_neg c2]; have := (T.2 (tF t n p) (by omega)).2; omega
  rw [D.2.2.2.2 (by omega), show (40 : Int32) = nI 40 from rfl, nI_l (by omega), lN_eq (by omega) (by omega)]
  exact ⟨fun w => rest z3 (fun q => w q.2), fun w => K1 (Or.inr (Or.inl ⟨z4, w⟩))⟩
end

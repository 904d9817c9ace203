/-! ===== acts: the class reads ===== -/
/-- a word of at most 8 letters -/
def wrd (w : Nat) : Prop := ∃ (t : Nat → Nat) (f m : Nat), 1 ≤ m ∧ m ≤ 8 ∧ (∀ j, j < m → 96 < t (f + j) ∧ t (f + j) < 123) ∧ w = cw 32 96 t f m
theorem wrd_n {w : Nat} (h : wrd w) : n256 8 w < 9223372036854775808 := by
  obtain ⟨t, f, m, h0, h1, h2, e⟩ := h
  rw [e, n256_cw h1 (fun j hj => ⟨(h2 j hj).1, by have := (h2 j hj).2; omega⟩)]
  cases m with
  | zero => omega
  | succ m =>
    have a : ∀ k, k ≤ m → cw 256 0 t f (k + 1) < 123 * 256 ^ k := by
      intro k
      induction k with
      | zero =>
        intro _
        have := (h2 0 (by omega)).2
        show 256 * 0 + (t (f + 0) - 0) < 123 * 256 ^ 0
        rw [Nat.pow_zero]; omega
      | succ k ih =>
        intro hk
        have i1 := ih (by omega)
        have := (h2 (k + 1) (by omega)).2
        show 256 * cw 256 0 t f (k + 1) + (t (f + (k + 1)) - 0) < 123 * 256 ^ (k + 1)
        rw [Nat.pow_succ]
        omega
    have := a m (Nat.le_refl _)
    have p7 : (256 : Nat) ^ m ≤ 256 ^ 7 := Nat.pow_le_pow_right (by omega) (by omega)
    have e7 : (256 : Nat) ^ 7 = 72057594037927936 := by decide
    omega
theorem wrd_i {w v : Nat} (h : wrd w) (h' : wrd v) : lN (n256 8 w) = lN (n256 8 v) ↔ w = v := by
  rw [pk_lEQ (wrd_n h) (wrd_n h')]
  obtain ⟨t, f, m, h0, h1, h2, e⟩ := h
  obtain ⟨u, g, k, k0, k1, k2, e'⟩ := h'
  rw [e, e', n256_cw h1 (fun j hj => ⟨(h2 j hj).1, by have := (h2 j hj).2; omega⟩), n256_cw k1 (fun j hj => ⟨(k2 j hj).1, by have := (k2 j hj).2; omega⟩)]
  constructor
  · intro z
    obtain ⟨r1, r2⟩ := cw_inj (b := 256) (z := 0) (fun j hj => by have := h2 j hj; omega) (fun j hj => by have := k2 j hj; omega) z
    subst r1
    exact cw_ext r2
  · intro z
    obtain ⟨r1, r2⟩ := cw_inj (b := 32) (z := 96) (fun j hj => by have := h2 j hj; omega) (fun j hj => by have := k2 j hj; omega) z
    subst r1
    exact cw_ext r2
theorem wrd_t {t : Nat → Nat} {n p : Nat} (hs : tS t n p = 2) (h8 : tE t n p - tF t n p ≤ 8) : wrd (tW t n p) := by
  have hs' := hs
  unfold tS at hs'
  by_cases c : n ≤ tF t n p
  · rw [if_pos c] at hs'; omega
  · rw [if_neg c] at hs'
    by_cases c1 : tlt t (tF t n p) = true
    · have e : tE t n p = rn (tlt t) n (tF t n p) := by unfold tE; rw [if_neg c, if_pos c1]
      have l1 := rn_1 (n := n) (by omega) c1
      have l2 := rn_le (P := tlt t) (n := n) (p := tF t n p + 1)
      refine ⟨t, tF t n p, tE t n p - tF t n p, by omega, h8, fun j hj => ?_, rfl⟩
      rw [e] at hj
      have z := rn_in (P := tlt t) (n := n) (p := tF t n p) (k := tF t n p + j) (by omega) (by omega)
      have := of_decide_eq_true z.2
      omega
    · rw [if_neg c1] at hs'
      by_cases c2 : tdg t (tF t n p) = true
      · rw [if_pos c2] at hs'
        by_cases c3 : tE t n p - tF t n p ≤ 6
        · rw [if_pos c3] at hs'; omega
        · rw [if_neg c3] at hs'; omega
      · rw [if_neg c2] at hs'
        by_cases c3 : tsg (t (tF t n p)) = true
        · rw [if_pos c3] at hs'; omega
        · rw [if_neg c3] at hs'; omega
/-- the law's names -/
def nmC (h : ah_T) (Lw : Nat) (nm : List Nat) : Prop := LY17 h Lw ∧ nm.length ≤ 10 ∧ ah_I h Lw 2 = nI nm.length ∧ ∀ i, i < nm.length → ah_J h (Lw + 1) i = lN (n256 8 (nm.getD i 0)) ∧ wrd (nm.getD i 0)
theorem c_find17 {G : ma_G} {d Lw w : Nat} {h : ah_T} {nm : List Nat} {Q : Option ma_V → ah_T → Prop} {E : Nat → ah_T → Prop} (N : nmC h Lw nm) (hw : wrd w) (K : ∀ x : Int32, x.toInt = kix w nm 0 → Q (some (iv x)) h) : MX G mi_X17_find d 0 [some (rv Lw), some (jv (lN (n256 8 w))), none, none] [] h Q E := by
  obtain ⟨N1, N2, N3, N4⟩ := N
  refine v_X17_find N1 ?_
  refine mx_ind (α := Nat) (fun k => [some (rv Lw), some (jv (lN (n256 8 w))), none, some (iv (nI k))]) (fun k g => g = h ∧ k ≤ nm.length ∧ kix w (nm.drop k) k = kix w nm 0) (fun k => nm.length - k) (fun k g hI KK => ?_) 0 h ⟨rfl, Nat.zero_le _, rfl⟩
  obtain ⟨eg, q1, q2⟩ := hI
  subst eg
  refine v_X17_find_2 N1 ?_
  rw [N3, nI_leI (by omega) (by omega)]
  refine ⟨fun ck => K _ ?_, fun ck => ⟨vp_in_nI (by omega) (by decide), ?_⟩⟩
  · rw [List.drop_eq_nil_of_le ck, kix] at q2
    rw [← q2, tm_1]
  · obtain ⟨e1, e2⟩ := N4 k (by omega)
    have dr : nm.drop k = nm.getD k 0 :: nm.drop (k + 1) := by
      rw [List.drop_eq_getElem_cons (by omega), List.getD_eq_getElem?_getD, List.getElem?_eq_getElem (by omega)]; rfl
    rw [dr, kix] at q2
    rw [nI_clamp (n := k) (by omega), e1, wrd_i e2 hw, nI_1]
    refine ⟨fun z => ?_, fun z => ?_⟩
    · rw [if_neg (fun y => z y.symm)] at q2
      exact KK (k + 1) g (by show nm.length - (k + 1) < nm.length - k; omega) ⟨rfl, by omega, q2⟩
    · rw [if_pos z.symm] at q2
      exact K _ (by rw [← q2, nI_x (by omega)])
/-- what the reading leaves of what was there below lo: all but the reader's own numbers and the fault's -/
def pf (lo R W : Nat) (h g : ah_T) : Prop := ah_ext h g ∧ ∀ a, a < lo → ah_kd g a = ah_kd h a ∧ (∀ k, ah_R g a k = ah_R h a k) ∧ (∀ k, ¬ (a = R ∧ 3 ≤ k ∧ k ≤ 6) → ¬ (a = W ∧ 6 ≤ k) → ah_I g a k = ah_I h a k) ∧ ∀ k, ¬ (a = R ∧ 3 ≤ k ∧ k ≤ 6) → ah_J g a k = ah_J h a k
/-- at p, with room for s cells more than the tape behind it asks -/
def CPre (R W Lw n : Nat) (t : Nat → Nat) (nm : List Nat) (s p : Nat) (h : ah_T) : Prop := (W + 1 = R ∧ R + 1 < Lw ∧ Lw + 2 < ah_sz h) ∧ LY5 h R ∧ tpe h (R + 1) n t ∧ p ≤ n ∧ rdC h R n t p ∧ (ah_R h R 7 = Lw ∧ nmC h Lw nm) ∧ (ah_R h R 8 = W ∧ ah_kd h W = 5) ∧ 4 * (n - p) + s ≤ ah_rc h ∧ 7 * (4 * (n - p) + s) ≤ ah_rs h
/-- read: it goes on at q, T tells D -/
def CPost (G : ma_G) (A R W n : Nat) (t : Nat → Nat) (c dp p q : Nat) (D : PD) (T : Nat) (h g : ah_T) : Prop := pf (ah_sz h) R W h g ∧ rdC g R n t q ∧ TV G A W (ah_sz h) (ah_sz g) g T dp D ∧ ah_R g T 0 = 0 ∧ T ≠ 0 ∧ ah_rc h + c ≤ ah_rc g + 4 * (q - p) ∧ ah_rs h + 7 * c ≤ ah_rs g + 28 * (q - p)
/-- a fault -/
def CFlt (lo R W n s p : Nat) (f : Nat × Nat) (h g : ah_T) : Prop := pf lo R W h g ∧ ah_I g W 6 = nI f.1 ∧ ah_I g W 7 = nI f.2 ∧ ah_rc h ≤ ah_rc g + (4 * (n - p) + s) ∧ ah_rs h ≤ ah_rs g + 7 * (4 * (n - p) + s)
def ccon (G : ma_G) (A R W Lw n : Nat) (t : Nat → Nat) (nm : List Nat) (mi : ma_M) (tl : List (Option ma_V)) (c s d : Nat) (x : Int32) (dp : Nat) (F : Nat → PR) : Prop := ∀ (h : ah_T) (p : Nat) (Q : Option ma_V → ah_T → Prop) (E : Nat → ah_T → Prop), CPre R W Lw n t nm s p h → (∀ q D g T, F p = .inr (q, D) → CPost G A R W n t c dp p q D T h g → Q (some (rv T)) g) → (∀ f g, F p = .inl f → CFlt (ah_sz h) R W n s p f h g → E W g) → MX G mi d 0 (some (rv R) :: some (iv x) :: tl) [] h Q E
section
variable {G : ma_G} {A R W Lw n p q s c c1 d dp T lo : Nat} {h g g2 : ah_T} {t : Nat → Nat} {nm : List Nat} {Q : Option ma_V → ah_T → Prop} {E : Nat → ah_T → Prop} {x : Int32} {D : PD}
theorem pf.rf : pf lo R W h h := ⟨ah_ext.rf, fun _ _ => ⟨rfl, fun _ => rfl, fun _ _ _ => rfl, fun _ _ => rfl⟩⟩
theorem pf.tr (x : pf lo R W h g) (z : pf lo R W g g2) : pf lo R W h g2 := ⟨x.1.tr z.1, fun a ha => by
  obtain ⟨x1, x2, x3, x4⟩ := x.2 a ha
  obtain ⟨z1, z2, z3, z4⟩ := z.2 a ha
  exact ⟨z1.trans x1, fun k => (z2 k).trans (x2 k), fun k h1 h2 => (z3 k h1 h2).trans (x3 k h1 h2), fun k h1 => (z4 k h1).trans (x4 k h1)⟩⟩
theorem pf.mn {lo' : Nat} (x : pf lo R W h g) (hl : lo' ≤ lo) : pf lo' R W h g := ⟨x.1, fun a ha => x.2 a (by omega)⟩
theorem rch.pf (x : rch R h g) : pf lo R W h g := ⟨x.ext, fun a _ => by
  obtain ⟨⟨x1, x2, x3, x4⟩, x5⟩ := x
  exact ⟨by rw [x2], fun k => by rw [x4], fun k h1 _ => (x5 a k (by omega)).1, fun k h1 => (x5 a k (by omega)).2⟩⟩
/-- a cell behind all that was there -/
theorem pf.nw (x : pf lo R W h g) (hl : lo ≤ ah_sz g) {kd ln cs : Nat} (xt : ah_ext g (ah_new g kd ln cs)) : pf lo R W h (ah_new g kd ln cs) := ⟨x.1.tr xt, fun a ha => by
  obtain ⟨x1, x2, x3, x4⟩ := x.2 a ha
  exact ⟨by rw [rn_k, if_neg (by omega)]; exact x1, fun k => by rw [rn_R, if_neg (by omega)]; exact x2 k, fun k h1 h2 => by rw [rn_I, if_neg (by omega)]; exact x3 k h1 h2, fun k h1 => by rw [rn_J, if_neg (by omega)]; exact x4 k h1⟩⟩
/-- what lies behind the reader stays -/
theorem pf.agr {lo1 : Nat} {xs : List (Nat × Nat)} (x : pf lo R W h g) (hR : R < lo1) (hW : W < lo1) : agr lo1 lo xs T h g := fun a a1 a2 _ => by
  obtain ⟨x1, x2, x3, x4⟩ := x.2 a a2
  exact ⟨x1, fun k _ => x2 k, fun k _ => x3 k (by omega) (by omega), fun k => x4 k (by omega)⟩
theorem CPre.fr {s' : Nat} (P : CPre R W Lw n t nm s p h) (m : pf lo R W h g) (hlo : Lw + 2 < lo) (hq : q ≤ n) (D : rdC g R n t q) (r1 : 4 * (n - q) + s' ≤ ah_rc g) (r2 : 7 * (4 * (n - q) + s') ≤ ah_rs g) : CPre R W Lw n t nm s' q g := by
  obtain ⟨⟨p1, p2, p3⟩, P2, P3, P4, P5, ⟨P6, P7, P8, P9, P10⟩, ⟨P11, P12⟩, P13, P14⟩ := P
  have l := m.1.1
  refine ⟨⟨p1, p2, by omega⟩, P2.ext m.1, ⟨P3.1, fun k hk => ?_⟩, hq, D, ⟨?_, P7.ext m.1, P8, ?_, fun i hi => ?_⟩, ⟨?_, ?_⟩, r1, r2⟩
  · rw [(m.2 (R + 1) (by omega)).2.2.1 k (by omega) (by omega)]; exact P3.2 k hk
  · rw [(m.2 R (by omega)).2.1]; exact P6
  · rw [(m.2 Lw (by omega)).2.2.1 2 (by omega) (by omega)]; exact P9
  · rw [(m.2 (Lw + 1) (by omega)).2.2.2 i (by omega)]; exact P10 i hi
  · rw [(m.2 R (by omega)).2.1]; exact P11
  · rw [(m.2 W (by omega)).1]; exact P12
/-- one token on -/
theorem c_nx (P : CPre R W Lw n t nm s p h) (hs : tS t n p ≠ 0) (K : ∀ g, rch R h g → CPre R W Lw n t nm (s + 4) (tE t n p) g → Q none g) : MX G mi_X5_next (d + 1) 0 [some (rv R), none] [] h Q E := by
  have P' := P
  obtain ⟨⟨p1, p2, p3⟩, P2, P3, P4, P5, P6, P7, P8, P9⟩ := P
  have a := tE_s P4 hs
  refine c_next P2 P3 a.2 P5.1 P5.2.2.2.1 (fun g m D => ?_)
  have e1 : ah_rc g = ah_rc h := by unfold ah_rc; rw [m.1.1]
  have e2 : ah_rs g = ah_rs h := by unfold ah_rs; rw [m.1.1]
  exact K g m (P'.fr (lo := ah_sz h) m.pf p3 a.2 D (by omega) (by omega))
/-- a fault here -/
theorem wc_ok {k : Nat} {y : Int32} (hy : y = nI k) (P : CPre R W Lw n t nm s p h) (K : E W (ah_wI (ah_wI h W 6 (nI (pw t n p k).1)) W 7 (nI (pw t n p k).2))) :
    (¬ ah_I h R 3 = (1 : Int32) → ah_kd h (ah_R h R 8) = 5 ∧ ∀ h4 : ah_T, h4 = ah_wI h (ah_R h R 8) 6 y → ah_ext h h4 → ∀ h5 : ah_T, h5 = ah_wI h4 (ah_R h R 8) 7 (ah_I h R 4) → ah_ext h4 h5 → E (ah_R h R 8) h5) ∧ (ah_I h R 3 = (1 : Int32) → ah_kd h (ah_R h R 8) = 5 ∧ ∀ h7 : ah_T, h7 = ah_wI h (ah_R h R 8) 6 (1 : Int32) → ah_ext h h7 → ∀ h8 : ah_T, h8 = ah_wI h7 (ah_R h R 8) 7 (ah_I h R 4) → ah_ext h7 h8 → E (ah_R h R 8) h8) := by
  obtain ⟨⟨p1, p2, p3⟩, P2, P3, P4, P5, P6, ⟨P7, P7'⟩, P8, P9⟩ := P
  have n4 := tS_le (t := t) (n := n) (p := p)
  rw [P7, P5.2.1, P5.2.2.1, show (1 : Int32) = nI 1 from rfl, nI_eq (by omega) (by omega)]
  unfold pw at K
  refine ⟨fun z => ⟨P7', fun h4 e4 _ h5 e5 _ => ?_⟩, fun z => ⟨P7', fun h4 e4 _ h5 e5 _ => ?_⟩⟩
  · rw [if_neg z] at K
    subst e4; subst e5
    rw [hy]; exact K
  · rw [if_pos z] at K
    subst e4; subst e5
    exact K
theorem CFlt.w {f : Nat × Nat} : CFlt lo R W n s p f h (ah_wI (ah_wI h W 6 (nI f.1)) W 7 (nI f.2)) := by
  refine ⟨⟨ah_ext.wI.tr ah_ext.wI, fun a ha => ⟨rfl, fun _ => rfl, fun k h1 h2 => ?_, fun _ _ => rfl⟩⟩, ?_, rd_Ih, ?_, ?_⟩
  · rw [rd_II, if_neg (by omega), rd_II, if_neg (by omega)]
  · rw [rd_Ik (by decide), rd_Ih]
  · show ah_rc h ≤ ah_rc h + _; omega
  · show ah_rs h ≤ ah_rs h + _; omega
/-- a fault of a later token is one of this call -/
theorem CFlt.mn {lo' : Nat} {f : Nat × Nat} (x : CFlt lo R W n s p f h g) (hl : lo' ≤ lo) : CFlt lo' R W n s p f h g := ⟨x.1.mn hl, x.2⟩
theorem CFlt.tr {f : Nat × Nat} {s' q' : Nat} (m : pf lo R W h g) (x : CFlt lo R W n s' q' f g g2) (h1 : ah_rc h + (4 * (n - q') + s') ≤ ah_rc g + (4 * (n - p) + s)) (h2 : ah_rs h + 7 * (4 * (n - q') + s') ≤ ah_rs g + 7 * (4 * (n - p) + s)) : CFlt lo R W n s p f h g2 := ⟨m.tr x.1, x.2.1, x.2.2.1, by have := x.2.2.2.1; omega, by have := x.2.2.2.2; omega⟩
theorem cd4 (P : CPre R W Lw n t nm s p h) {k : Nat} (hk : k ≤ 4) {y : Int32} (hy : y = nI k) : ah_I h R 3 = y ↔ tS t n p = k := by
  have n4 := tS_le (t := t) (n := n) (p := p)
  rw [P.2.2.2.2.1.2.1, hy, nI_eq (by omega) (by omega)]
theorem cv6 (P : CPre R W Lw n t nm s p h) (hs : 3 ≤ tS t n p) {k : Nat} (hk : k < 1000000) {y : Int32} (hy : y = nI k) : ah_J h R 6 = y.toInt64 ↔ tV t n p = k := by
  have := tV_lt P.2.2.1 hs
  rw [P.2.2.2.2.1.2.2.2.2 hs, hy, nI_l (by omega), lN_eq (by omega) (by omega)]
theorem ccon.cm {mi : ma_M} {tl : List (Option ma_V)} {F : Nat → PR} (y : ccon G A R W Lw n t nm mi tl c s d x dp F) (hc : c1 ≤ c) : ccon G A R W Lw n t nm mi tl c1 s d x dp F := fun h p Q E P K1 K2 => y h p Q E P (fun q D g T un C => K1 q D g T un ⟨C.1, C.2.1, C.2.2.1, C.2.2.2.1, C.2.2.2.2.1, by have := C.2.2.2.2.2.1; omega, by have := C.2.2.2.2.2.2; omega⟩) K2
theorem c_init (h0 : ah_kd h T ≠ 0) (K : Q none h) : MX G mi_X19_init (d + 2) 0 [some (rv T)] [] h Q E := by
  refine v_X19_init (d := d + 1) ⟨h0, v_X18_init ⟨h0, ?_⟩⟩
  intro _
  exact K

theorem c_item_19 {F : Nat → PR} {ch s0 : Nat} (hA : ∀ d, ccon G A R W Lw n t nm mi_X5_atom [none, none] 1 s (d + c + 1) x dp F) (hF : pos n F) (hlo : Lw + 2 < lo) : ∀ (f : Nat) (g : ah_T) (q l : Nat) (D : PD), n - q < f → CPre R W Lw n t nm (s + s0) q g → CP G A W lo (ah_sz g) g ch l dp D → ah_R g l 0 = 0 → ah_R g ch 0 = 0 →
    (∀ q' D' g' l', pLoop t n [42, 47, 37] F f q D = .inr (q', D') → pf lo R W g g' → rdC g' R n t q' → CP G A W lo (ah_sz g') g' ch l' dp D' → ah_R g' l' 0 = 0 → ah_R g' ch 0 = 0 → ah_rc g ≤ ah_rc g' + 4 * (q' - q) → ah_rs g ≤ ah_rs g' + 28 * (q' - q) → Q (some (rv ch)) g') →
    (∀ z g', pLoop t n [42, 47, 37] F f q D = .inl z → pf lo R W g g' → ah_I g' W 6 = nI z.1 → ah_I g' W 7 = nI z.2 → ah_rc g ≤ ah_rc g' + (4 * (n - q) + (s + s0)) → ah_rs g ≤ ah_rs g' + 7 * (4 * (n - q) + (s + s0)) → E W g') →
    MX G mi_X5_item (d + c + 2) 19 [some (rv R), some (iv x), some (rv ch), none] [] g Q E := by
  intro f
  induction f with
  | zero => intro g q l D hf; exact absurd hf (Nat.not_lt_zero _)
  | succ f ih =>
    intro g q l D hf P X el ec K1 K2
    have P' := P
    obtain ⟨⟨p1, p2, p3⟩, P2, P3, P4, P5, P6, P7, P8, P9⟩ := P'
    have stop : ¬ (tS t n q = 4 ∧ tV t n q ∈ [42, 47, 37]) → Q (some (rv ch)) g := fun z => K1 q D g l (by rw [pLoop, if_neg z]) pf.rf P5 X el ec (by omega) (by omega)
    have go : ∀ o, tV t n q = o → (o = 43 ∨ o = 45 ∨ o = 42 ∨ o = 47 ∨ o = 37) → o ∈ [42, 47, 37] → tS t n q = 4 → MX G mi_X5_next (d + c + 1) 0 [some (rv R), none] [] g (Qv fun h4 => ah_ext g h4 → MX G mi_X5_atom (d + c + 1) 0 [some (rv R), some (iv x), none, none] [] h4 (Qr fun r7 h6 => ah_ext h4 h6 → ah_kd h6 ch = 17 ∧ MX G mi_X19_add (d + c + 1) 0 [some (rv ch), some (iv (ah_J g R 6).toInt32), some (rv r7)] [] h6 (Qv fun h9 => ah_ext h6 h9 → MX G mi_X5_item (d + c + 2) 19 [some (rv R), some (iv x), some (rv ch), none] [] h9 Q E) E) E) E := fun o eo ho hm s4 => by
      have hin : tS t n q = 4 ∧ tV t n q ∈ [42, 47, 37] := ⟨s4, by rw [eo]; exact hm⟩
      have a := tE_s P4 (by rw [s4]; decide)
      have j6 : (ah_J g R 6).toInt32 = nI o := by rw [P5.2.2.2.2 (by omega), eo, lN_i]
      rw [j6]
      have X0 := X
      obtain ⟨⟨x1, x2, x3, x4, x5⟩, ⟨x6, x7, x8, x9⟩, -⟩ := X0
      refine c_nx P (by rw [s4]; decide) (fun g1 m1 Pn => ?_)
      intro _
      have sz1 : ah_sz g1 = ah_sz g := by unfold ah_sz; rw [m1.1.1]
      have rc1 : ah_rc g1 = ah_rc g := by unfold ah_rc; rw [m1.1.1]
      have rs1 : ah_rs g1 = ah_rs g := by unfold ah_rs; rw [m1.1.1]
      have Pn' : CPre R W Lw n t nm s (tE t n q) g1 := P.fr (lo := lo) m1.pf hlo a.2 Pn.2.2.2.2.1 (by omega) (by omega)
      refine hA d g1 (tE t n q) _ _ Pn' (fun q2 D2 g2 T un C2 => ?_) (fun z g2 un C2 => ?_)
      · intro _
        obtain ⟨C0, C1, C2, C3, C4, C5, C6⟩ := C2
        have pq := hF _ _ _ a.2 un
        have sz2 := C0.1.1
        have t1 := C2.1
        have t2 := C2.2.1
        have pfg : pf (ah_sz g) R W g g2 := m1.pf.tr (C0.mn (by omega))
        have kc2 : ah_kd g2 ch = 17 := by rw [(pfg.2 ch x2).1]; exact x3
        have r2 : ah_R g2 ch 2 = ah_R g ch 2 := (pfg.2 ch x2).2.1 2
        have r3 : ah_R g2 ch 3 = l := by rw [(pfg.2 ch x2).2.1 3]; exact x5
        refine ⟨kc2, v_X19_add ⟨kc2, ?_⟩⟩
        rw [r2, r3]
        refine ⟨fun _ => ?_, fun z => absurd z x4⟩
        have kl : ma_ks g2 l [16, 17, 18, 19] := by
          obtain ⟨ci, c1, c2⟩ := x9
          exact ⟨ci, c1, by rw [(pfg.2 l x7).1]; exact c2⟩
        refine ⟨kl, by rw [(pfg.2 l x7).2.1]; exact el, fun h5 e5 X5 h6 e6 X6 => ⟨C2.2.2.1, fun h8 e8 X8 => ?_⟩⟩
        intro _
        have lT : l ≠ T := by omega
        have cT : ch ≠ T := by omega
        have rR : ∀ a k, ah_R h8 a k = if a = ch ∧ k = 3 then T else if a = l ∧ k = 0 then T else ah_R g2 a k := fun a k => by
          rw [e8, rd_RI, e6, rd_RR]
          by_cases z : a = ch ∧ k = 3
          · rw [if_pos z, if_pos z]
          · rw [if_neg z, if_neg z, e5, rd_RR]
        have rI : ∀ a k, ah_I h8 a k = if a = T ∧ k = 1 then nI o else ah_I g2 a k := fun a k => by
          rw [e8, rd_II, e6, rd_IR, e5, rd_IR]
        have rJ : ∀ a k, ah_J h8 a k = ah_J g2 a k := fun a k => by rw [e8, e6, e5]; rfl
        have rk : ∀ a, ah_kd h8 a = ah_kd g2 a := fun a => by rw [e8, e6, e5]; rfl
        have rs8 : h8.1 = g2.1 := by rw [e8, e6, e5]; rfl
        have sz8 : ah_sz h8 = ah_sz g2 := by unfold ah_sz; rw [rs8]
        have rc8 : ah_rc h8 = ah_rc g2 := by unfold ah_rc; rw [rs8]
        have rS8 : ah_rs h8 = ah_rs g2 := by unfold ah_rs; rw [rs8]
        have xt8 : ah_ext g2 h8 := X5.tr (X6.tr X8)
        have pf8 : pf lo R W g h8 := by
          refine ⟨pfg.1.tr xt8, fun a ha => ?_⟩
          obtain ⟨u1, u2, u3, u4⟩ := pfg.2 a (by omega)
          exact ⟨by rw [rk]; exact u1, fun k => by rw [rR, if_neg (by omega), if_neg (by omega)]; exact u2 k, fun k v1 v2 => by rw [rI, if_neg (by omega)]; exact u3 k v1 v2, fun k v1 => by rw [rJ]; exact u4 k v1⟩
        clear e8 e6 e5
        have T8 : TV G A W (ah_sz g1) (ah_sz g2) h8 T dp D2 := C2.ag (fun a a1 a2 _ => ⟨rk a, fun k hk => by rw [rR, if_neg (by omega), if_neg (by omega)], fun k hk => by rw [rI, if_neg (by omega)], fun k => rJ a k⟩)
        have X8 : CP G A W lo (ah_sz h8) h8 ch T dp (fun v d => dop o (D v d) (D2 v d)) := by
          refine CP.add ho X (by omega) T8 (by omega) (by omega) (by rw [rI, if_pos ⟨rfl, rfl⟩]) C4 (fun a a1 a2 _ => ?_) (by rw [rR, if_neg (by omega), if_pos ⟨rfl, rfl⟩]) (by rw [rR, if_pos ⟨rfl, rfl⟩])
          obtain ⟨u1, u2, u3, u4⟩ := pfg.2 a a2
          refine ⟨(rk a).trans u1, fun k hk => ?_, fun k hk => by rw [rI, if_neg (by omega)]; exact u3 k (by omega) (by omega), fun k => (rJ a k).trans (u4 k (by omega))⟩
          rw [rR, if_neg (fun z => hk (by rw [z.1, z.2]; simp)), if_neg (fun z => hk (by rw [z.1, z.2]; simp))]
          exact u2 k
        have D8 : rdC h8 R n t q2 := by
          obtain ⟨d1, d2, d3, d4, d5⟩ := C1
          refine ⟨?_, ?_, ?_, ?_, fun z => ?_⟩
          · rw [rI, if_neg (by omega)]; exact d1
          · rw [rI, if_neg (by omega)]; exact d2
          · rw [rI, if_neg (by omega)]; exact d3
          · rw [rI, if_neg (by omega)]; exact d4
          · rw [rJ]; exact d5 z
        have Q8 : CPre R W Lw n t nm (s + s0) q2 h8 := P.fr pf8 hlo pq.2 D8 (by omega) (by omega)
        refine ih h8 q2 T (fun v d => dop o (D v d) (D2 v d)) (by omega) Q8 X8 (by rw [rR, if_neg (by omega), if_neg (by omega)]; exact C3) (by rw [rR, if_neg (by omega), if_neg (by omega), (pfg.2 ch x2).2.1]; exact ec) (fun q' D' g' l' un2 m' D' X' e1 e2 b1 b2 => ?_) (fun z g' un2 m' f1 f2 b1 b2 => ?_)
        · refine K1 q' _ g' l' ?_ (pf8.tr m') D' X' e1 e2 ?_ ?_
          · rw [pLoop, if_pos hin, un, eo]; exact un2
          · have := pos_loop hF pq.2 un2
            omega
          · have := pos_loop hF pq.2 un2
            omega
        · refine K2 z g' ?_ (pf8.tr m') f1 f2 (by omega) (by omega)
          rw [pLoop, if_pos hin, un, eo]; exact un2
      · obtain ⟨F0, F1, F2, F3, F4⟩ := C2
        exact K2 z g2 (by rw [pLoop, if_pos hin, un]) (m1.pf.tr (F0.mn (by omega))) F1 F2 (by omega) (by omega)
    refine v_X5_item_19 (d := d + c + 1) P2 ?_
    rw [cd4 P (k := 4) (by decide) (y := (4 : Int32)) rfl]
    refine ⟨fun s4 => stop (fun z => s4 z.1), fun s4 => ?_⟩
    have go := fun o e1 e2 e3 => go o e1 e2 e3 s4
    rw [cv6 P (by omega) (k := 42) (by decide) (y := (42 : Int32)) rfl, cv6 P (by omega) (k := 47) (by decide) (y := (47 : Int32)) rfl, cv6 P (by omega) (k := 37) (by decide) (y := (37 : Int32)) rfl]
    exact ⟨fun z1 => ⟨fun z2 => ⟨fun z3 => stop (fun z => by have := z.2; simp at this; omega), fun z3 => go 37 z3 (by omega) (by decide)⟩, fun z2 => go 47 z2 (by omega) (by decide)⟩, fun z1 => go 42 z1 (by omega) (by decide)⟩
theorem c_item {F : Nat → PR} (hA : ∀ d, ccon G A R W Lw n t nm mi_X5_atom [none, none] (c1 + 1) s (d + c + 1) x dp F) (hF : pos n F) (hc : 1 ≤ c) (hs : 1 ≤ s) : ccon G A R W Lw n t nm mi_X5_item [none, none] c1 (s + 1) (d + c + 2) x (dp + 1) (pChain t n [42, 47, 37] F) := by
  intro h p Q E P K1 K2
  have P' := P
  obtain ⟨⟨p1, p2, p3⟩, P2, P3, P4, P5, P6, P7, P8, P9⟩ := P'
  refine v_X5_item (d := d + c + 1) P2 ⟨⟨by omega, by omega⟩, fun h2 e2 X2 _ => ?_⟩
  have rs2 : ah_sz h2 = ah_sz h + 1 ∧ ah_rc h2 = ah_rc h - 1 ∧ ah_rs h2 = ah_rs h - 4 := by rw [e2]; exact ⟨rfl, rfl, rfl⟩
  have kc : ah_kd h2 (ah_sz h) = 17 := by rw [e2, rn_k, if_pos rfl]
  have rc0 : ∀ k, ah_R h2 (ah_sz h) k = 0 := fun k => by rw [e2, rn_R, if_pos rfl]
  have m2 : pf (ah_sz h) R W h h2 := by rw [e2]; exact pf.rf.nw (Nat.le_refl _) (by rw [← e2]; exact X2)
  have D2 : rdC h2 R n t p := by
    obtain ⟨d1, d2, d3, d4, d5⟩ := P5
    rw [e2]
    refine ⟨?_, ?_, ?_, ?_, fun z => ?_⟩
    · rw [rn_I, if_neg (by omega)]; exact d1
    · rw [rn_I, if_neg (by omega)]; exact d2
    · rw [rn_I, if_neg (by omega)]; exact d3
    · rw [rn_I, if_neg (by omega)]; exact d4
    · rw [rn_J, if_neg (by omega)]; exact d5 z
  clear e2
  obtain ⟨c', rfl⟩ : ∃ c', c = c' + 1 := ⟨c - 1, by omega⟩
  refine c_init (d := d + c') (by rw [kc]; decide) ?_
  intro _
  have Pn : CPre R W Lw n t nm s p h2 := P.fr m2 p3 P4 D2 (by omega) (by omega)
  refine hA d h2 p _ _ Pn (fun q D g T un C2 => ?_) (fun z g un C2 => ?_)
  · intro _
    obtain ⟨C0, C1, C2, C3, C4, C5, C6⟩ := C2
    have pq := hF _ _ _ P4 un
    have sz2 := C0.1.1
    have t1 := C2.1
    have t2 := C2.2.1
    have kc2 : ah_kd g (ah_sz h) = 17 := by rw [(C0.2 (ah_sz h) (by omega)).1]; exact kc
    have r0 : ∀ k, ah_R g (ah_sz h) k = 0 := fun k => by rw [(C0.2 (ah_sz h) (by omega)).2.1]; exact rc0 k
    refine v_X19_add ⟨kc2, ?_⟩
    rw [r0 2]
    refine ⟨fun z => absurd rfl z, fun _ => ⟨rfl, fun h5 e5 X5 h6 e6 X6 => ⟨C2.2.2.1, fun h8 e8 X8 => ?_⟩⟩⟩
    intro _
    have cT : ah_sz h ≠ T := by omega
    have rR : ∀ a k, ah_R h8 a k = if a = ah_sz h ∧ k = 3 then T else if a = ah_sz h ∧ k = 2 then T else ah_R g a k := fun a k => by
      rw [e8, rd_RI, e6, rd_RR]
      by_cases z : a = ah_sz h ∧ k = 3
      · rw [if_pos z, if_pos z]
      · rw [if_neg z, if_neg z, e5, rd_RR]
    have rI : ∀ a k, ah_I h8 a k = if a = T ∧ k = 1 then 43 else ah_I g a k := fun a k => by
      rw [e8, rd_II, e6, rd_IR, e5, rd_IR]
    have rJ : ∀ a k, ah_J h8 a k = ah_J g a k := fun a k => by rw [e8, e6, e5]; rfl
    have rk : ∀ a, ah_kd h8 a = ah_kd g a := fun a => by rw [e8, e6, e5]; rfl
    have rs8 : h8.1 = g.1 := by rw [e8, e6, e5]; rfl
    have sz8 : ah_sz h8 = ah_sz g := by unfold ah_sz; rw [rs8]
    have rc8 : ah_rc h8 = ah_rc g := by unfold ah_rc; rw [rs8]
    have rS8 : ah_rs h8 = ah_rs g := by unfold ah_rs; rw [rs8]
    have xt8 : ah_ext g h8 := X5.tr (X6.tr X8)
    clear e8 e6 e5
    have pfg : pf (ah_sz h) R W h g := m2.tr (C0.mn (by omega))
    have pf8 : pf (ah_sz h) R W h h8 := by
      refine ⟨pfg.1.tr xt8, fun a ha => ?_⟩
      obtain ⟨u1, u2, u3, u4⟩ := pfg.2 a ha
      exact ⟨by rw [rk]; exact u1, fun k => by rw [rR, if_neg (by omega), if_neg (by omega)]; exact u2 k, fun k v1 v2 => by rw [rI, if_neg (by omega)]; exact u3 k v1 v2, fun k v1 => by rw [rJ]; exact u4 k v1⟩
    have T8 : TV G A W (ah_sz h2) (ah_sz g) h8 T dp D := C2.ag (fun a a1 a2 _ => ⟨rk a, fun k hk => by rw [rR, if_neg (by omega), if_neg (by omega)], fun k hk => by rw [rI, if_neg (by omega)], fun k => rJ a k⟩)
    have X8 : CP G A W (ah_sz h) (ah_sz h8) h8 (ah_sz h) T dp D := CP.mk (Nat.le_refl _) (by omega) ((rk _).trans kc2) (by rw [rR, if_neg (by omega), if_pos ⟨rfl, rfl⟩]) (by rw [rR, if_pos ⟨rfl, rfl⟩]) C4 T8 (by omega) (by omega) (by omega) (by rw [rI, if_pos ⟨rfl, rfl⟩])
    have D8 : rdC h8 R n t q := by
      obtain ⟨d1, d2, d3, d4, d5⟩ := C1
      refine ⟨?_, ?_, ?_, ?_, fun z => ?_⟩
      · rw [rI, if_neg (by omega)]; exact d1
      · rw [rI, if_neg (by omega)]; exact d2
      · rw [rI, if_neg (by omega)]; exact d3
      · rw [rI, if_neg (by omega)]; exact d4
      · rw [rJ]; exact d5 z
    have Q8 : CPre R W Lw n t nm (s + 0) q h8 := P.fr pf8 p3 pq.2 D8 (by omega) (by omega)
    refine c_item_19 (lo := ah_sz h) (ch := ah_sz h) (s0 := 0) (fun d => (hA d).cm (by omega)) hF p3 (n + 1) h8 q T D (by omega) Q8 X8 (by rw [rR, if_neg (by omega), if_neg (by omega)]; exact C3) (by rw [rR, if_neg (by omega), if_neg (by omega)]; exact r0 0) (fun q' D' g' l' un2 m' D'' X' e1 e2 b1 b2 => ?_) (fun z g' un2 m' f1 f2 b1 b2 => ?_)
    · have pq2 := pos_loop hF pq.2 un2
      refine K1 q' D' g' (ah_sz h) ?_ ⟨pf8.tr m', D'', X'.tv e1, e2, by omega, by omega, by omega⟩
      rw [pChain, un]; exact un2
    · refine K2 z g' ?_ ⟨pf8.tr m', f1, f2, by omega, by omega⟩
      rw [pChain, un]; exact un2
  · refine K2 z g (by rw [pChain, un]) ((C2.mn (by omega)).tr m2 (by omega) (by omega))
theorem c_sum_19 {F : Nat → PR} {ch s0 : Nat} (hA : ∀ d, ccon G A R W Lw n t nm mi_X5_item [none, none] 1 s (d + c + 1) x dp F) (hF : pos n F) (hlo : Lw + 2 < lo) : ∀ (f : Nat) (g : ah_T) (q l : Nat) (D : PD), n - q < f → CPre R W Lw n t nm (s + s0) q g → CP G A W lo (ah_sz g) g ch l dp D → ah_R g l 0 = 0 → ah_R g ch 0 = 0 →
    (∀ q' D' g' l', pLoop t n [43, 45] F f q D = .inr (q', D') → pf lo R W g g' → rdC g' R n t q' → CP G A W lo (ah_sz g') g' ch l' dp D' → ah_R g' l' 0 = 0 → ah_R g' ch 0 = 0 → ah_rc g ≤ ah_rc g' + 4 * (q' - q) → ah_rs g ≤ ah_rs g' + 28 * (q' - q) → Q (some (rv ch)) g') →
    (∀ z g', pLoop t n [43, 45] F f q D = .inl z → pf lo R W g g' → ah_I g' W 6 = nI z.1 → ah_I g' W 7 = nI z.2 → ah_rc g ≤ ah_rc g' + (4 * (n - q) + (s + s0)) → ah_rs g ≤ ah_rs g' + 7 * (4 * (n - q) + (s + s0)) → E W g') →
    MX G mi_X5_sum (d + c + 2) 19 [some (rv R), some (iv x), some (rv ch), none] [] g Q E := by
  intro f
  induction f with
  | zero => intro g q l D hf; exact absurd hf (Nat.not_lt_zero _)
  | succ f ih =>
    intro g q l D hf P X el ec K1 K2
    have P' := P
    obtain ⟨⟨p1, p2, p3⟩, P2, P3, P4, P5, P6, P7, P8, P9⟩ := P'
    have stop : ¬ (tS t n q = 4 ∧ tV t n q ∈ [43, 45]) → Q (some (rv ch)) g := fun z => K1 q D g l (by rw [pLoop, if_neg z]) pf.rf P5 X el ec (by omega) (by omega)
    have go : ∀ o, tV t n q = o → (o = 43 ∨ o = 45 ∨ o = 42 ∨ o = 47 ∨ o = 37) → o ∈ [43, 45] → tS t n q = 4 → MX G mi_X5_next (d + c + 1) 0 [some (rv R), none] [] g (Qv fun h4 => ah_ext g h4 → MX G mi_X5_item (d + c + 1) 0 [some (rv R), some (iv x), none, none] [] h4 (Qr fun r7 h6 => ah_ext h4 h6 → ah_kd h6 ch = 17 ∧ MX G mi_X19_add (d + c + 1) 0 [some (rv ch), some (iv (ah_J g R 6).toInt32), some (rv r7)] [] h6 (Qv fun h9 => ah_ext h6 h9 → MX G mi_X5_sum (d + c + 2) 19 [some (rv R), some (iv x), some (rv ch), none] [] h9 Q E) E) E) E := fun o eo ho hm s4 => by
      have hin : tS t n q = 4 ∧ tV t n q ∈ [43, 45] := ⟨s4, by rw [eo]; exact hm⟩
      have a := tE_s P4 (by rw [s4]; decide)
      have j6 : (ah_J g R 6).toInt32 = nI o := by rw [P5.2.2.2.2 (by omega), eo, lN_i]
      rw [j6]
      have X0 := X
      obtain ⟨⟨x1, x2, x3, x4, x5⟩, ⟨x6, x7, x8, x9⟩, -⟩ := X0
      refine c_nx P (by rw [s4]; decide) (fun g1 m1 Pn => ?_)
      intro _
      have sz1 : ah_sz g1 = ah_sz g := by unfold ah_sz; rw [m1.1.1]
      have rc1 : ah_rc g1 = ah_rc g := by unfold ah_rc; rw [m1.1.1]
      have rs1 : ah_rs g1 = ah_rs g := by unfold ah_rs; rw [m1.1.1]
      have Pn' : CPre R W Lw n t nm s (tE t n q) g1 := P.fr (lo := lo) m1.pf hlo a.2 Pn.2.2.2.2.1 (by omega) (by omega)
      refine hA d g1 (tE t n q) _ _ Pn' (fun q2 D2 g2 T un C2 => ?_) (fun z g2 un C2 => ?_)
      · intro _
        obtain ⟨C0, C1, C2, C3, C4, C5, C6⟩ := C2
        have pq := hF _ _ _ a.2 un
        have sz2 := C0.1.1
        have t1 := C2.1
        have t2 := C2.2.1
        have pfg : pf (ah_sz g) R W g g2 := m1.pf.tr (C0.mn (by omega))
        have kc2 : ah_kd g2 ch = 17 := by rw [(pfg.2 ch x2).1]; exact x3
        have r2 : ah_R g2 ch 2 = ah_R g ch 2 := (pfg.2 ch x2).2.1 2
        have r3 : ah_R g2 ch 3 = l := by rw [(pfg.2 ch x2).2.1 3]; exact x5
        refine ⟨kc2, v_X19_add ⟨kc2, ?_⟩⟩
        rw [r2, r3]
        refine ⟨fun _ => ?_, fun z => absurd z x4⟩
        have kl : ma_ks g2 l [16, 17, 18, 19] := by
          obtain ⟨ci, c1, c2⟩ := x9
          exact ⟨ci, c1, by rw [(pfg.2 l x7).1]; exact c2⟩
        refine ⟨kl, by rw [(pfg.2 l x7).2.1]; exact el, fun h5 e5 X5 h6 e6 X6 => ⟨C2.2.2.1, fun h8 e8 X8 => ?_⟩⟩
        intro _
        have lT : l ≠ T := by omega
        have cT : ch ≠ T := by omega
        have rR : ∀ a k, ah_R h8 a k = if a = ch ∧ k = 3 then T else if a = l ∧ k = 0 then T else ah_R g2 a k := fun a k => by
          rw [e8, rd_RI, e6, rd_RR]
          by_cases z : a = ch ∧ k = 3
          · rw [if_pos z, if_pos z]
          · rw [if_neg z, if_neg z, e5, rd_RR]
        have rI : ∀ a k, ah_I h8 a k = if a = T ∧ k = 1 then nI o else ah_I g2 a k := fun a k => by
          rw [e8, rd_II, e6, rd_IR, e5, rd_IR]
        have rJ : ∀ a k, ah_J h8 a k = ah_J g2 a k := fun a k => by rw [e8, e6, e5]; rfl
        have rk : ∀ a, ah_kd h8 a = ah_kd g2 a := fun a => by rw [e8, e6, e5]; rfl
        have rs8 : h8.1 = g2.1 := by rw [e8, e6, e5]; rfl
        have sz8 : ah_sz h8 = ah_sz g2 := by unfold ah_sz; rw [rs8]
        have rc8 : ah_rc h8 = ah_rc g2 := by unfold ah_rc; rw [rs8]
        have rS8 : ah_rs h8 = ah_rs g2 := by unfold ah_rs; rw [rs8]
        have xt8 : ah_ext g2 h8 := X5.tr (X6.tr X8)
        have pf8 : pf lo R W g h8 := by
          refine ⟨pfg.1.tr xt8, fun a ha => ?_⟩
          obtain ⟨u1, u2, u3, u4⟩ := pfg.2 a (by omega)
          exact ⟨by rw [rk]; exact u1, fun k => by rw [rR, if_neg (by omega), if_neg (by omega)]; exact u2 k, fun k v1 v2 => by rw [rI, if_neg (by omega)]; exact u3 k v1 v2, fun k v1 => by rw [rJ]; exact u4 k v1⟩
        clear e8 e6 e5
        have T8 : TV G A W (ah_sz g1) (ah_sz g2) h8 T dp D2 := C2.ag (fun a a1 a2 _ => ⟨rk a, fun k hk => by rw [rR, if_neg (by omega), if_neg (by omega)], fun k hk => by rw [rI, if_neg (by omega)], fun k => rJ a k⟩)
        have X8 : CP G A W lo (ah_sz h8) h8 ch T dp (fun v d => dop o (D v d) (D2 v d)) := by
          refine CP.add ho X (by omega) T8 (by omega) (by omega) (by rw [rI, if_pos ⟨rfl, rfl⟩]) C4 (fun a a1 a2 _ => ?_) (by rw [rR, if_neg (by omega), if_pos ⟨rfl, rfl⟩]) (by rw [rR, if_pos ⟨rfl, rfl⟩])
          obtain ⟨u1, u2, u3, u4⟩ := pfg.2 a a2
          refine ⟨(rk a).trans u1, fun k hk => ?_, fun k hk => by rw [rI, if_neg (by omega)]; exact u3 k (by omega) (by omega), fun k => (rJ a k).trans (u4 k (by omega))⟩
          rw [rR, if_neg (fun z => hk (by rw [z.1, z.2]; simp)), if_neg (fun z => hk (by rw [z.1, z.2]; simp))]
          exact u2 k
        have D8 : rdC h8 R n t q2 := by
          obtain ⟨d1, d2, d3, d4, d5⟩ := C1
          refine ⟨?_, ?_, ?_, ?_, fun z => ?_⟩
          · rw [rI, if_neg (by omega)]; exact d1
          · rw [rI, if_neg (by omega)]; exact d2
          · rw [rI, if_neg (by omega)]; exact d3
          · rw [rI, if_neg (by omega)]; exact d4
          · rw [rJ]; exact d5 z
        have Q8 : CPre R W Lw n t nm (s + s0) q2 h8 := P.fr pf8 hlo pq.2 D8 (by omega) (by omega)
        refine ih h8 q2 T (fun v d => dop o (D v d) (D2 v d)) (by omega) Q8 X8 (by rw [rR, if_neg (by omega), if_neg (by omega)]; exact C3) (by rw [rR, if_neg (by omega), if_neg (by omega), (pfg.2 ch x2).2.1]; exact ec) (fun q' D' g' l' un2 m' D' X' e1 e2 b1 b2 => ?_) (fun z g' un2 m' f1 f2 b1 b2 => ?_)
        · refine K1 q' _ g' l' ?_ (pf8.tr m') D' X' e1 e2 ?_ ?_
          · rw [pLoop, if_pos hin, un, eo]; exact un2
          · have := pos_loop hF pq.2 un2
            omega
          · have := pos_loop hF pq.2 un2
            omega
        · refine K2 z g' ?_ (pf8.tr m') f1 f2 (by omega) (by omega)
          rw [pLoop, if_pos hin, un, eo]; exact un2
      · obtain ⟨F0, F1, F2, F3, F4⟩ := C2
        exact K2 z g2 (by rw [pLoop, if_pos hin, un]) (m1.pf.tr (F0.mn (by omega))) F1 F2 (by omega) (by omega)
    refine v_X5_sum_19 (d := d + c + 1) P2 ?_
    rw [cd4 P (k := 4) (by decide) (y := (4 : Int32)) rfl]
    refine ⟨fun s4 => stop (fun z => s4 z.1), fun s4 => ?_⟩
    have go := fun o e1 e2 e3 => go o e1 e2 e3 s4
    rw [cv6 P (by omega) (k := 43) (by decide) (y := (43 : Int32)) rfl, cv6 P (by omega) (k := 45) (by decide) (y := (45 : Int32)) rfl]
    exact ⟨fun z1 => ⟨fun z2 => stop (fun z => by have := z.2; simp at this; omega), fun z2 => go 45 z2 (by omega) (by decide)⟩, fun z1 => go 43 z1 (by omega) (by decide)⟩
theorem c_sum {F : Nat → PR} (hA : ∀ d, ccon G A R W Lw n t nm mi_X5_item [none, none] (c1 + 1) s (d + c + 1) x dp F) (hF : pos n F) (hc : 1 ≤ c) (hs : 1 ≤ s) : ccon G A R W Lw n t nm mi_X5_sum [none, none] c1 (s + 1) (d + c + 2) x (dp + 1) (pChain t n [43, 45] F) := by
  intro h p Q E P K1 K2
  have P' := P
  obtain ⟨⟨p1, p2, p3⟩, P2, P3, P4, P5, P6, P7, P8, P9⟩ := P'
  refine v_X5_sum (d := d + c + 1) P2 ⟨⟨by omega, by omega⟩, fun h2 e2 X2 _ => ?_⟩
  have rs2 : ah_sz h2 = ah_sz h + 1 ∧ ah_rc h2 = ah_rc h - 1 ∧ ah_rs h2 = ah_rs h - 4 := by rw [e2]; exact ⟨rfl, rfl, rfl⟩
  have kc : ah_kd h2 (ah_sz h) = 17 := by rw [e2, rn_k, if_pos rfl]
  have rc0 : ∀ k, ah_R h2 (ah_sz h) k = 0 := fun k => by rw [e2, rn_R, if_pos rfl]
  have m2 : pf (ah_sz h) R W h h2 := by rw [e2]; exact pf.rf.nw (Nat.le_refl _) (by rw [← e2]; exact X2)
  have D2 : rdC h2 R n t p := by
    obtain ⟨d1, d2, d3, d4, d5⟩ := P5
    rw [e2]
    refine ⟨?_, ?_, ?_, ?_, fun z => ?_⟩
    · rw [rn_I, if_neg (by omega)]; exact d1
    · rw [rn_I, if_neg (by omega)]; exact d2
    · rw [rn_I, if_neg (by omega)]; exact d3
    · rw [rn_I, if_neg (by omega)]; exact d4
    · rw [rn_J, if_neg (by omega)]; exact d5 z
  clear e2
  obtain ⟨c', rfl⟩ : ∃ c', c = c' + 1 := ⟨c - 1, by omega⟩
  refine c_init (d := d + c') (by rw [kc]; decide) ?_
  intro _
  have Pn : CPre R W Lw n t nm s p h2 := P.fr m2 p3 P4 D2 (by omega) (by omega)
  refine hA d h2 p _ _ Pn (fun q D g T un C2 => ?_) (fun z g un C2 => ?_)
  · intro _
    obtain ⟨C0, C1, C2, C3, C4, C5, C6⟩ := C2
    have pq := hF _ _ _ P4 un
    have sz2 := C0.1.1
    have t1 := C2.1
    have t2 := C2.2.1
    have kc2 : ah_kd g (ah_sz h) = 17 := by rw [(C0.2 (ah_sz h) (by omega)).1]; exact kc
    have r0 : ∀ k, ah_R g (ah_sz h) k = 0 := fun k => by rw [(C0.2 (ah_sz h) (by omega)).2.1]; exact rc0 k
    refine v_X19_add ⟨kc2, ?_⟩
    rw [r0 2]
    refine ⟨fun z => absurd rfl z, fun _ => ⟨rfl, fun h5 e5 X5 h6 e6 X6 => ⟨C2.2.2.1, fun h8 e8 X8 => ?_⟩⟩⟩
    intro _
    have cT : ah_sz h ≠ T := by omega
    have rR : ∀ a k, ah_R h8 a k = if a = ah_sz h ∧ k = 3 then T else if a = ah_sz h ∧ k = 2 then T else ah_R g a k := fun a k => by
      rw [e8, rd_RI, e6, rd_RR]
      by_cases z : a = ah_sz h ∧ k = 3
      · rw [if_pos z, if_pos z]
      · rw [if_neg z, if_neg z, e5, rd_RR]
    have rI : ∀ a k, ah_I h8 a k = if a = T ∧ k = 1 then 43 else ah_I g a k := fun a k => by
      rw [e8, rd_II, e6, rd_IR, e5, rd_IR]
    have rJ : ∀ a k, ah_J h8 a k = ah_J g a k := fun a k => by rw [e8, e6, e5]; rfl
    have rk : ∀ a, ah_kd h8 a = ah_kd g a := fun a => by rw [e8, e6, e5]; rfl
    have rs8 : h8.1 = g.1 := by rw [e8, e6, e5]; rfl
    have sz8 : ah_sz h8 = ah_sz g := by unfold ah_sz; rw [rs8]
    have rc8 : ah_rc h8 = ah_rc g := by unfold ah_rc; rw [rs8]
    have rS8 : ah_rs h8 = ah_rs g := by unfold ah_rs; rw [rs8]
    have xt8 : ah_ext g h8 := X5.tr (X6.tr X8)
    clear e8 e6 e5
    have pfg : pf (ah_sz h) R W h g := m2.tr (C0.mn (by omega))
    have pf8 : pf (ah_sz h) R W h h8 := by
      refine ⟨pfg.1.tr xt8, fun a ha => ?_⟩
      obtain ⟨u1, u2, u3, u4⟩ := pfg.2 a ha
      exact ⟨by rw [rk]; exact u1, fun k => by rw [rR, if_neg (by omega), if_neg (by omega)]; exact u2 k, fun k v1 v2 => by rw [rI, if_neg (by omega)]; exact u3 k v1 v2, fun k v1 => by rw [rJ]; exact u4 k v1⟩
    have T8 : TV G A W (ah_sz h2) (ah_sz g) h8 T dp D := C2.ag (fun a a1 a2 _ => ⟨rk a, fun k hk => by rw [rR, if_neg (by omega), if_neg (by omega)], fun k hk => by rw [rI, if_neg (by omega)], fun k => rJ a k⟩)
    have X8 : CP G A W (ah_sz h) (ah_sz h8) h8 (ah_sz h) T dp D := CP.mk (Nat.le_refl _) (by omega) ((rk _).trans kc2) (by rw [rR, if_neg (by omega), if_pos ⟨rfl, rfl⟩]) (by rw [rR, if_pos ⟨rfl, rfl⟩]) C4 T8 (by omega) (by omega) (by omega) (by rw [rI, if_pos ⟨rfl, rfl⟩])
    have D8 : rdC h8 R n t q := by
      obtain ⟨d1, d2, d3, d4, d5⟩ := C1
      refine ⟨?_, ?_, ?_, ?_, fun z => ?_⟩
      · rw [rI, if_neg (by omega)]; exact d1
      · rw [rI, if_neg (by omega)]; exact d2
      · rw [rI, if_neg (by omega)]; exact d3
      · rw [rI, if_neg (by omega)]; exact d4
      · rw [rJ]; exact d5 z
    have Q8 : CPre R W Lw n t nm (s + 0) q h8 := P.fr pf8 p3 pq.2 D8 (by omega) (by omega)
    refine c_sum_19 (lo := ah_sz h) (ch := ah_sz h) (s0 := 0) (fun d => (hA d).cm (by omega)) hF p3 (n + 1) h8 q T D (by omega) Q8 X8 (by rw [rR, if_neg (by omega), if_neg (by omega)]; exact C3) (by rw [rR, if_neg (by omega), if_neg (by omega)]; exact r0 0) (fun q' D' g' l' un2 m' D'' X' e1 e2 b1 b2 => ?_) (fun z g' un2 m' f1 f2 b1 b2 => ?_)
    · have pq2 := pos_loop hF pq.2 un2
      refine K1 q' D' g' (ah_sz h) ?_ ⟨pf8.tr m', D'', X'.tv e1, e2, by omega, by omega, by omega⟩
      rw [pChain, un]; exact un2
    · refine K2 z g' ?_ ⟨pf8.tr m', f1, f2, by omega, by omega⟩
      rw [pChain, un]; exact un2
  · refine K2 z g (by rw [pChain, un]) ((C2.mn (by omega)).tr m2 (by omega) (by omega))
end
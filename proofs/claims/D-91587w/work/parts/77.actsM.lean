/-! ===== acts: the model's call ===== -/
def pd0 : PD := fun _ _ => none
/-- the defs read so far, in the model -/
def MDs (m bg : Nat → Int32) (nm : List Nat) (Ds : List PD) (b : Nat) : Prop := Ds.length = nm.length ∧ (∀ i j, i < nm.length → j < nm.length → nm.getD i 0 = nm.getD j 0 → i = j) ∧ ∃ bs : Nat → Nat, bs 0 = 0 ∧ bs nm.length = b ∧ (∀ i, i ≤ nm.length → bg i = nI (bs i)) ∧ ∀ i, i < nm.length → bs i ≤ bs (i + 1) ∧ RD m (bs i) (bs (i + 1)) (Ds.getD i pd0)
theorem bs_le {bs : Nat → Nat} {n : Nat} (h : ∀ i, i < n → bs i ≤ bs (i + 1)) : ∀ k i, i + k ≤ n → bs i ≤ bs (i + k)
  | 0, i, _ => Nat.le_refl _
  | k + 1, i, hk => Nat.le_trans (bs_le h k i (by omega)) (h (i + k) (by omega))
def tbS (S : MS) : Nat → Nat := fun k => (S.1 35 k &&& (255 : Int32)).toNatClampNeg
theorem tbS_ok {S : MS} {a n : Nat} {h : ah_T} (hn : n ≤ 500) (e : ∀ k, ah_I h a k = S.1 35 k) : tpe h a n (tbS S) := by
  refine ⟨hn, fun k _ => ?_⟩
  rw [e]
  obtain ⟨j, h1, h2⟩ := pk_andE (S.1 35 k) (m := (255 : Int32)) 8 (by decide)
  have h1 : j < 256 := h1
  unfold tbS
  rw [h2, nI_clamp (by omega)]
  exact ⟨rfl, h1⟩
def wy_acts (S : MS) (x1 x2 : Int32) : Int32 := if (0 ≤ x1.toInt ∧ x1.toInt ≤ nP S) ∧ (0 ≤ x2.toInt ∧ x2.toInt ≤ 519) then (if nT S = 4 then 7 else 0) else 5
noncomputable def rActs (S : MS) (x1 : Int32) : (Nat × Nat) ⊕ (List Nat × List PD) := pAll (tbS S) x1.toNatClampNeg (x1.toNatClampNeg + 1) 0 [] []
def se_acts (S : MS) (z : Nat × Nat) : MS := uI (uI (uI (uI S 0 44 0) 0 46 (nI z.1)) 0 47 (nI z.2)) 0 0 10
/-- a text more -/
def txt (S S2 : MS) (x2 : Int32) (nm : List Nat) (Ds : List PD) : Prop :=
  (∀ a, a ∈ mk_a → a ∉ [36, 37, 38, 39, 42] → S2.1 a = S.1 a ∧ S2.2 a = S.2 a) ∧
  (∀ k, k ∈ mk_z → k ∉ [0, 44, 46, 47, 56] → S2.1 0 k = S.1 0 k) ∧
  (S2.1 0 0 = 0 ∧ S2.1 0 44 = 0 ∧ S2.1 0 46 = 0 ∧ S2.1 0 47 = -1 ∧ S2.1 0 56 = nI (nT S + 1)) ∧
  (∀ j, S2.1 36 j = if j = nT S then x2 else S.1 36 j) ∧ (∀ j, S2.1 37 j = if j = nT S then nI nm.length else S.1 37 j) ∧
  (∀ j, j < 1100 * nT S → S2.1 39 j = S.1 39 j) ∧ (∀ j, j < 11 * nT S → S2.1 38 j = S.1 38 j) ∧ (∀ j, j < 10 * nT S → S2.2 42 j = S.2 42 j) ∧
  (nm.length ≤ 10 ∧ (∀ i, i < nm.length → S2.2 42 (10 * nT S + i) = lN (nm.getD i 0) ∧ nm.getD i 0 < 1099511627776)) ∧
  ∃ b, b ≤ 500 ∧ MDs (fun k => S2.1 39 (1100 * nT S + k)) (fun k => S2.1 38 (11 * nT S + k)) nm Ds b
section
variable {G : ma_G} {d M n p q b e B c T : Nat} {h g g2 : ah_T} {S : MS} {t : Nat → Nat} {nm : List Nat} {Ds : List PD} {Q : Option ma_V → ah_T → Prop} {E : Nat → ah_T → Prop} {x1 x2 : Int32} {D : PD}
theorem MDs.app {m1 g1 : Nat → Int32} (X : MDs m1 g1 nm Ds b) {m2 g2 : Nat → Int32} (hm : ∀ k, k < b → m2 k = m1 k) (hg : ∀ k, k ≤ nm.length → g2 k = g1 k) {w : Nat} (hw : ∀ i, i < nm.length → nm.getD i 0 ≠ w) (hbe : b ≤ e) (ge : g2 (nm.length + 1) = nI e) (R : RD m2 b e D) : MDs m2 g2 (nm ++ [w]) (Ds ++ [D]) e := by
  obtain ⟨X1, X2, bs, X3, X4, X5, X6⟩ := X
  have len : (nm ++ [w]).length = nm.length + 1 := by simp
  refine ⟨by simp [X1], fun i j hi hj => ?_, fun i => if i ≤ nm.length then bs i else e, ?_, ?_, fun i hi => ?_, fun i hi => ?_⟩
  · rw [len] at hi hj
    rw [gD_app, gD_app]
    by_cases c1 : i < nm.length
    · rw [if_pos c1]
      by_cases c2 : j < nm.length
      · rw [if_pos c2]; exact X2 i j c1 c2
      · rw [if_neg c2, if_pos (by omega)]; intro z; exact absurd z (hw i c1)
    · rw [if_neg c1, if_pos (by omega)]
      by_cases c2 : j < nm.length
      · rw [if_pos c2]; intro z; exact absurd z.symm (hw j c2)
      · omega
  · show (if 0 ≤ nm.length then bs 0 else e) = 0
    rw [if_pos (by omega)]; exact X3
  · rw [len]
    show (if nm.length + 1 ≤ nm.length then bs _ else e) = e
    rw [if_neg (by omega)]
  · rw [len] at hi
    show g2 i = nI (if i ≤ nm.length then bs i else e)
    by_cases c : i ≤ nm.length
    · rw [if_pos c, hg i c]; exact X5 i c
    · rw [if_neg c, show i = nm.length + 1 by omega]; exact ge
  · rw [len] at hi
    show (if i ≤ nm.length then bs i else e) ≤ (if i + 1 ≤ nm.length then bs (i + 1) else e) ∧ RD m2 (if i ≤ nm.length then bs i else e) (if i + 1 ≤ nm.length then bs (i + 1) else e) _
    rw [if_pos (by omega), gD_app, X1]
    by_cases c : i < nm.length
    · rw [if_pos (by omega), if_pos c]
      refine ⟨(X6 i c).1, (X6 i c).2.ag (fun j j1 j2 => (hm j ?_).symm)⟩
      have := bs_le (fun i hi => (X6 i hi).1) (nm.length - (i + 1)) (i + 1) (by omega)
      rw [show i + 1 + (nm.length - (i + 1)) = nm.length by omega, X4] at this
      omega
    · have ei : i = nm.length := by omega
      subst ei
      rw [if_neg (by omega), if_neg c, if_pos rfl, X4]
      exact ⟨hbe, R⟩
theorem m_acts_91 (hn : n ≤ 500) : ∀ (f : Nat) (g : ah_T) (b p : Nat) (nm : List Nat) (Ds : List PD), n - p < f → MP g M n t nm b p → MDs (ah_I g (M + 41)) (ah_I g (M + 40)) nm Ds b →
    (∀ g' z, pAll t n f p nm Ds = .inl z → MD0 M g g' → MCf M 1000 z g' → MX G mi_X8_acts (d + 65) 112 [some (rv M), none, some (iv x2), none] [] g' Q E) →
    (∀ g' nm' Ds' b' p', pAll t n f p nm Ds = .inr (nm', Ds') → MD0 M g g' → MP g' M n t nm' b' p' → MDs (ah_I g' (M + 41)) (ah_I g' (M + 40)) nm' Ds' b' → MX G mi_X8_acts (d + 65) 112 [some (rv M), none, some (iv x2), none] [] g' Q E) →
    MX G mi_X8_acts (d + 65) 91 [some (rv M), none, some (iv x2), none] [] g Q E := by
  intro f
  induction f with
  | zero => intro g b p nm Ds hf; exact absurd hf (Nat.not_lt_zero _)
  | succ f ih =>
    intro g b p nm Ds hf P X K1 K2
    have P' := P
    obtain ⟨P1, P2, P3, P4, P5, P6, P7, P8⟩ := P
    refine v_X8_acts_91 (d := d + 63) P1 ?_
    rw [P5, md P4 (s := 0) (by decide) (x := (0 : Int32)) rfl]
    refine ⟨fun y => absurd rfl y, fun _ => ⟨fun s0 => K2 g nm Ds b p (by rw [pAll, if_pos s0]) mch.rf P' X, fun s0 => ?_⟩⟩
    refine m_Def (d := d) hn P' (fun g2 m2 C1 C2 => ?_)
    intro _
    cases hF : pDef t n nm p with
    | inl z =>
      have cf := C1 z hF
      refine v_X8_acts_91 (d := d + 63) (m2.ly P1) ⟨fun _ => K1 g2 z (by rw [pAll, if_neg s0, hF]) m2 cf, fun y => absurd y cf.n0.1⟩
    | inr z =>
      obtain ⟨q, D⟩ := z
      obtain ⟨e, r1, r2, r3, r4, r5, r6⟩ := C2 q D hF
      have pq := pos_def P3 hF
      obtain ⟨ok, -, ok2⟩ := pDef_ok hF
      have nw : ∀ i, i < nm.length → nm.getD i 0 ≠ tW t n p := by
        unfold nix at ok2
        rw [if_pos ⟨ok.1, ok.2.1⟩] at ok2
        exact kix_nn _ _ _ ok2
      refine ih g2 e q (nm ++ [tW t n p]) (Ds ++ [D]) (by omega) r2 (X.app r3 r6 nw r1 r5 r4) (fun g' z un m cf => K1 g' z (by rw [pAll, if_neg s0, hF]; exact un) (m2.tr m) cf) (fun g' nm' Ds' b' p' un m PP XX => K2 g' nm' Ds' b' p' (by rw [pAll, if_neg s0, hF]; exact un) (m2.tr m) PP XX)
/-- rows copied into the text's own -/
theorem m_acts_155 (hb : b ≤ 500) (hT : T < 4) (L : LY8 h M) (e56 : ah_I h M 56 = nI T) (e58 : ah_I h M 58 = nI b)
    (K : ∀ g, mch [39] [] M h g → (∀ k, k < b → ah_I g (M + 39) (1100 * T + k) = ah_I h (M + 41) k) → (∀ j, j < 1100 * T → ah_I g (M + 39) j = ah_I h (M + 39) j) → MX G mi_X8_acts (d + 2) 192 [some (rv M), none, some (iv x2), some (iv 0)] [] g Q E) :
    MX G mi_X8_acts (d + 2) 155 [some (rv M), none, some (iv x2), some (iv 0)] [] h Q E := by
  refine mx_up (α := Unit) (fun k _ => [some (rv M), none, some (iv x2), some (iv (nI k))]) b (fun k _ g => mch [39] [] M h g ∧ (∀ j, j < k → ah_I g (M + 39) (1100 * T + j) = ah_I h (M + 41) j) ∧ ∀ j, j < 1100 * T → ah_I g (M + 39) j = ah_I h (M + 39) j) (fun k _ g hk hI KK => ?_) (fun _ g hI => ?_) 0 () h (Nat.zero_le _) ⟨mch.rf, fun j hj => absurd hj (Nat.not_lt_zero _), fun _ _ => rfl⟩
  · obtain ⟨m, q1, q2⟩ := hI
    refine v_X8_acts_155 (m.ly L) ?_
    rw [m.sc 58 (by decide) (by decide), m.sc 56 (by decide) (by decide), e58, e56, m.ar 41 (by decide) (by decide), show (1100 : Int32) = nI 1100 from rfl, pk_mul, nI_add, nI_clamp (n := 1100 * T + k) (by omega), nI_clamp (n := k) (by omega), nI_1]
    refine ⟨fun y => absurd y (nI_ge hk (by omega)), fun _ => ⟨vp_in_nI (by omega) (by decide), vp_in_nI (by omega) (by decide), fun h4 e4 _ => ?_⟩⟩
    subst e4
    refine KK () _ ⟨m.wI (by decide), fun j hj => ?_, fun j hj => ?_⟩
    · rw [rd_II]
      by_cases z : j = k
      · subst z; rw [if_pos ⟨rfl, rfl⟩]
      · rw [if_neg (by omega)]; exact q1 j (by omega)
    · rw [rd_Ik (by omega)]; exact q2 j hj
  · obtain ⟨m, q1, q2⟩ := hI
    refine v_X8_acts_155 (m.ly L) ?_
    rw [m.sc 58 (by decide) (by decide), e58]
    exact ⟨fun _ => K g m q1 q2, fun y => absurd (nI_le (Nat.le_refl _) (by omega)) y⟩
theorem m_acts_192 {k0 : Nat} (hb : k0 ≤ 10) (hT : T < 4) (L : LY8 h M) (e56 : ah_I h M 56 = nI T) (e57 : ah_I h M 57 = nI k0)
    (K : ∀ g, mch [38] [] M h g → (∀ k, k ≤ k0 → ah_I g (M + 38) (11 * T + k) = ah_I h (M + 40) k) → (∀ j, j < 11 * T → ah_I g (M + 38) j = ah_I h (M + 38) j) → MX G mi_X8_acts (d + 2) 228 [some (rv M), none, some (iv x2), some (iv 0)] [] g Q E) :
    MX G mi_X8_acts (d + 2) 192 [some (rv M), none, some (iv x2), some (iv 0)] [] h Q E := by
  refine mx_up (α := Unit) (fun k _ => [some (rv M), none, some (iv x2), some (iv (nI k))]) (k0 + 1) (fun k _ g => mch [38] [] M h g ∧ (∀ j, j < k → ah_I g (M + 38) (11 * T + j) = ah_I h (M + 40) j) ∧ ∀ j, j < 11 * T → ah_I g (M + 38) j = ah_I h (M + 38) j) (fun k _ g hk hI KK => ?_) (fun _ g hI => ?_) 0 () h (Nat.zero_le _) ⟨mch.rf, fun j hj => absurd hj (Nat.not_lt_zero _), fun _ _ => rfl⟩
  · obtain ⟨m, q1, q2⟩ := hI
    refine v_X8_acts_192 (m.ly L) ?_
    rw [m.sc 57 (by decide) (by decide), m.sc 56 (by decide) (by decide), e57, e56, m.ar 40 (by decide) (by decide), show (11 : Int32) = nI 11 from rfl, pk_mul, nI_add, nI_clamp (n := 11 * T + k) (by omega), nI_clamp (n := k) (by omega), nI_1]
    refine ⟨fun y => absurd y (nI_nlt (by omega) (by omega)), fun _ => ⟨vp_in_nI (by omega) (by decide), vp_in_nI (by omega) (by decide), fun h4 e4 _ => ?_⟩⟩
    subst e4
    refine KK () _ ⟨m.wI (by decide), fun j hj => ?_, fun j hj => ?_⟩
    · rw [rd_II]
      by_cases z : j = k
      · subst z; rw [if_pos ⟨rfl, rfl⟩]
      · rw [if_neg (by omega)]; exact q1 j (by omega)
    · rw [rd_Ik (by omega)]; exact q2 j hj
  · obtain ⟨m, q1, q2⟩ := hI
    refine v_X8_acts_192 (m.ly L) ?_
    rw [m.sc 57 (by decide) (by decide), e57]
    exact ⟨fun _ => K g m (fun k hk => q1 k (by omega)) q2, fun y => absurd (nI_lt (Nat.lt_succ_self _) (by omega)) y⟩
theorem m_acts_228 {k0 : Nat} (hb : k0 ≤ 10) (hT : T < 4) (L : LY8 h M) (e56 : ah_I h M 56 = nI T) (e57 : ah_I h M 57 = nI k0)
    (K : ∀ g, mch [36, 37, 42] [56] M h g → (∀ k, k < k0 → ah_J g (M + 42) (10 * T + k) = ah_J h (M + 43) k) → (∀ j, j < 10 * T → ah_J g (M + 42) j = ah_J h (M + 42) j) → (∀ j, ah_I g (M + 42) j = ah_I h (M + 42) j) → (∀ j, ah_I g (M + 36) j = if j = T then x2 else ah_I h (M + 36) j) → (∀ j, ah_I g (M + 37) j = if j = T then nI k0 else ah_I h (M + 37) j) → ah_I g M 56 = nI (T + 1) → Q (some (iv (nI k0))) g) :
    MX G mi_X8_acts (d + 2) 228 [some (rv M), none, some (iv x2), some (iv 0)] [] h Q E := by
  refine mx_up (α := Unit) (fun k _ => [some (rv M), none, some (iv x2), some (iv (nI k))]) k0 (fun k _ g => mch [42] [] M h g ∧ (∀ j, j < k → ah_J g (M + 42) (10 * T + j) = ah_J h (M + 43) j) ∧ (∀ j, j < 10 * T → ah_J g (M + 42) j = ah_J h (M + 42) j) ∧ ∀ j, ah_I g (M + 42) j = ah_I h (M + 42) j) (fun k _ g hk hI KK => ?_) (fun _ g hI => ?_) 0 () h (Nat.zero_le _) ⟨mch.rf, fun j hj => absurd hj (Nat.not_lt_zero _), fun _ _ => rfl, fun _ => rfl⟩
  · obtain ⟨m, q1, q2, q3⟩ := hI
    refine v_X8_acts_228 (m.ly L) ?_
    rw [m.sc 57 (by decide) (by decide), m.sc 56 (by decide) (by decide), e57, e56, m.arJ 43 (by decide) (by decide), show (10 : Int32) = nI 10 from rfl, pk_mul, nI_add, nI_clamp (n := 10 * T + k) (by omega), nI_clamp (n := k) (by omega), nI_1 k]
    refine ⟨fun y => absurd y (nI_ge hk (by omega)), fun _ => ⟨vp_in_nI (by omega) (by decide), vp_in_nI (by omega) (by decide), fun h4 e4 _ => ?_⟩⟩
    subst e4
    refine KK () _ ⟨m.wJ (a := 42) (by decide), fun j hj => ?_, fun j hj => ?_, fun j => ?_⟩
    · rw [rd_JJ]
      by_cases z : j = k
      · subst z; rw [if_pos ⟨rfl, rfl⟩]
      · rw [if_neg (by omega)]; exact q1 j (by omega)
    · rw [rd_Jk (by omega)]; exact q2 j hj
    · rw [rd_IJ]; exact q3 j
  · obtain ⟨m, q1, q2, q3⟩ := hI
    refine v_X8_acts_228 (m.ly L) ?_
    rw [m.sc 57 (by decide) (by decide), m.sc 56 (by decide) (by decide), e57, e56, nI_clamp (n := T) (by omega), nI_1]
    refine ⟨fun _ => ⟨vp_in_nI hT (by decide), fun h3 e3 _ h4 e4 _ h5 e5 _ => ?_⟩, fun y => absurd (nI_le (Nat.le_refl _) (by omega)) y⟩
    subst e3; subst e4; subst e5
    refine K _ ((((m.mono (by decide) (by decide)).wI (by decide)).wI (by decide)).zI (by decide)) (fun k hk => ?_) (fun j hj => ?_) (fun j => ?_) (fun j => ?_) (fun j => ?_) rd_Ih
    · rw [rd_JI, rd_JI, rd_JI]; exact q1 k hk
    · rw [rd_JI, rd_JI, rd_JI]; exact q2 j hj
    · rw [rd_Ia (by omega), rd_Ia (by omega), rd_Ia (by omega)]; exact q3 j
    · rw [rd_Ia (by omega), rd_II]
      by_cases z : j = T
      · rw [if_pos z, if_pos ⟨rfl, z⟩]
      · rw [if_neg z, if_neg (fun w => z w.2), rd_Ia (by omega)]; exact m.ar 36 (by decide) (by decide) j
    · rw [rd_Ia (by omega), rd_Ia (by omega), rd_II]
      by_cases z : j = T
      · rw [if_pos z, if_pos ⟨rfl, z⟩]
      · rw [if_neg z, if_neg (fun w => z w.2)]; exact m.ar 37 (by decide) (by decide) j
theorem m_acts (L : LY8 h M) (eS : mv h M = S) (W : WF S) (Kf : wy_acts S x1 x2 ≠ 0 → ∀ h1, mpo M h h1 (uI S 0 0 (wy_acts S x1 x2)) → Q (some (iv (-1))) h1)
    (Ke : wy_acts S x1 x2 = 0 → ∀ z, rActs S x1 = .inl z → ∀ h1, mpo M h h1 (se_acts S z) → Q (some (iv (-1))) h1)
    (Kg : wy_acts S x1 x2 = 0 → ∀ nm Ds, rActs S x1 = .inr (nm, Ds) → ∀ h1, (∃ A Z, (∀ a, a ∈ A → a < 78) ∧ mch A Z M h h1) → txt S (mv h1 M) x2 nm Ds → Q (some (iv (nI nm.length))) h1) :
    MX G mi_X8_acts (d + 65) 0 [some (rv M), some (iv x1), some (iv x2), none] [] h Q E := by
  have e44 := mk_P eS W
  have e56 := mk_T eS W
  have nT4 : nT S ≤ 4 := W.1.2.2.2.2.2.2.2.2.1
  have nP5 : nP S ≤ 500 := W.1.2.2.2.2.2.2.2.1
  have xP : (nI (nP S)).toInt = nP S := nI_x (by omega)
  refine v_X8_acts (d := d + 63) L ?_
  rw [e44, e56]
  intro h1 eh1 Xh1
  intro h2 eh2 Xh2
  refine ⟨fun c1 => ?_, fun c1 => ?_⟩
  · skip
    intro h4 eh4 Xh4
    have w_ : wy_acts S x1 x2 = (5 : Int32) := by
      simp only [i3_lt, i3_le, i6_lt, i6_le, i3_eq, i3_l, Int32.reduceToInt, Int64.reduceToInt, tm_1, tl_1, xP] at c1
      unfold wy_acts
      (repeat' split) <;> first | rfl | (exfalso; omega)
    subst eh1
    subst eh2
    subst eh4
    exact Kf (by rw [w_]; decide) _ (by rw [w_]; exact mpo.st eS)
  · skip
    refine ⟨fun c2 => ?_, fun c2 => ?_⟩
    · skip
      intro h6 eh6 Xh6
      have w_ : wy_acts S x1 x2 = (5 : Int32) := by
        simp only [i3_lt, i3_le, i6_lt, i6_le, i3_eq, i3_l, Int32.reduceToInt, Int64.reduceToInt, tm_1, tl_1, xP] at c1 c2
        unfold wy_acts
        (repeat' split) <;> first | rfl | (exfalso; omega)
      subst eh1
      subst eh2
      subst eh6
      exact Kf (by rw [w_]; decide) _ (by rw [w_]; exact mpo.st eS)
    · skip
      refine ⟨fun c3 => ?_, fun c3 => ?_⟩
      · skip
        intro h8 eh8 Xh8
        have w_ : wy_acts S x1 x2 = (5 : Int32) := by
          simp only [i3_lt, i3_le, i6_lt, i6_le, i3_eq, i3_l, Int32.reduceToInt, Int64.reduceToInt, tm_1, tl_1, xP] at c1 c2 c3
          unfold wy_acts
          (repeat' split) <;> first | rfl | (exfalso; omega)
        subst eh1
        subst eh2
        subst eh8
        exact Kf (by rw [w_]; decide) _ (by rw [w_]; exact mpo.st eS)
      · skip
        refine ⟨fun c4 => ?_, fun c4 => ?_⟩
        · skip
          intro h10 eh10 Xh10
          have w_ : wy_acts S x1 x2 = (5 : Int32) := by
            simp only [i3_lt, i3_le, i6_lt, i6_le, i3_eq, i3_l, Int32.reduceToInt, Int64.reduceToInt, tm_1, tl_1, xP] at c1 c2 c3 c4
            unfold wy_acts
            (repeat' split) <;> first | rfl | (exfalso; omega)
          subst eh1
          subst eh2
          subst eh10
          exact Kf (by rw [w_]; decide) _ (by rw [w_]; exact mpo.st eS)
        · skip
          refine ⟨fun c5 => ?_, fun c5 => ?_⟩
          · skip
            intro h12 eh12 Xh12
            intro h13 eh13 Xh13
            intro h14 eh14 Xh14
            intro h15 eh15 Xh15
            intro h16 eh16 Xh16
            intro h17 eh17 Xh17
            intro h18 eh18 Xh18
            rw [show (4 : Int32) = nI 4 from rfl, nI_eq (by omega) (by omega)] at c5
            have w_ : wy_acts S x1 x2 = 0 := by
              simp only [i3_lt, i3_le, i6_lt, i6_le, i3_eq, i3_l, Int32.reduceToInt, Int64.reduceToInt, tm_1, tl_1, xP] at c1 c2 c3 c4
              unfold wy_acts
              (repeat' split) <;> first | rfl | (exfalso; omega)
            simp only [i3_lt, i3_le, i6_lt, i6_le, i3_eq, i3_l, Int32.reduceToInt, Int64.reduceToInt, tm_1, tl_1, xP] at c1 c2 c3 c4
            obtain ⟨a1, a2⟩ := x_nI (x := x1) (n := 500) (by omega) (by omega)
            have x1n : x1.toInt = (x1.toNatClampNeg : Int) := by have := nI_x (n := x1.toNatClampNeg) (by omega); rw [← a1] at this; exact this
            have mA : mch [40] [0, 1, 44, 45, 48, 52, 57, 58] M h h18 := by
              rw [eh18, eh17, eh16, eh15, eh14, eh13, eh12, eh2, eh1]
              exact ((((((((mch.rf.zI (by decide)).zI (by decide)).zI (by decide)).zI (by decide)).zI (by decide)).zI (by decide)).zI (by decide)).zI (by decide)).wI (by decide)
            have z45 : ah_I h18 M 45 = nI x1.toNatClampNeg := by
              rw [eh18, eh17, eh16, eh15, eh14, eh13, eh12, rd_Ia (by omega), rd_Ik (by decide), rd_Ik (by decide), rd_Ik (by decide), rd_Ik (by decide), rd_Ik (by decide), rd_Ih, ← a1]
            have z52 : ah_I h18 M 52 = nI 0 := by rw [eh18, eh17, eh16, eh15, eh14, rd_Ia (by omega), rd_Ik (by decide), rd_Ik (by decide), rd_Ik (by decide), rd_Ih]; rfl
            have z48 : ah_I h18 M 48 = 0 := by rw [eh18, eh17, eh16, eh15, rd_Ia (by omega), rd_Ik (by decide), rd_Ik (by decide), rd_Ih]
            have z57 : ah_I h18 M 57 = nI 0 := by rw [eh18, eh17, eh16, rd_Ia (by omega), rd_Ik (by decide), rd_Ih]; rfl
            have z58 : ah_I h18 M 58 = nI 0 := by rw [eh18, eh17, rd_Ia (by omega), rd_Ih]; rfl
            have z44 : ah_I h18 M 44 = 0 := by rw [eh18, eh17, eh16, eh15, eh14, eh13, rd_Ia (by omega), rd_Ik (by decide), rd_Ik (by decide), rd_Ik (by decide), rd_Ik (by decide), rd_Ih]
            have z0 : ah_I h18 M 0 = 0 := by rw [eh18, eh17, eh16, eh15, eh14, eh13, eh12, eh2, rd_Ia (by omega), rd_Ik (by decide), rd_Ik (by decide), rd_Ik (by decide), rd_Ik (by decide), rd_Ik (by decide), rd_Ik (by decide), rd_Ih]
            have z40 : ah_I h18 (M + 40) 0 = nI 0 := by rw [eh18, rd_Ih]; rfl
            clear eh18 eh17 eh16 eh15 eh14 eh13 eh12 eh2 eh1
            have T0 : tpe h18 (M + 35) x1.toNatClampNeg (tbS S) := tbS_ok (by omega) (fun k => by rw [mA.ar 35 (by decide) (by decide)]; exact mk_r eS 35 k)
            refine m_next (d := d + 63) (mA.ly L) T0 (Nat.zero_le _) z45 z52 (fun g1 m1 D1 => ?_)
            intro _
            have mB : mch [40, 41, 43] (0 :: 1 :: 44 :: 45 :: 57 :: mzs) M h g1 := (mA.mono (by decide) (by decide)).tr (m1.mono (by decide) (by decide))
            have PP : MP g1 M x1.toNatClampNeg (tbS S) [] 0 0 := ⟨mB.ly L, m1.tp (by decide) T0, Nat.zero_le _, D1, by rw [m1.sc 48 (by decide) (by decide)]; exact z48, by rw [m1.sc 58 (by decide) (by decide)]; exact z58, Nat.le_refl _, by simp, by rw [m1.sc 57 (by decide) (by decide)]; exact z57, fun i hi => by simp at hi⟩
            have XX : MDs (ah_I g1 (M + 41)) (ah_I g1 (M + 40)) [] [] 0 := ⟨rfl, fun i j hi => by simp at hi, fun _ => 0, rfl, rfl, fun i hi => by
              have : i = 0 := by simp at hi; exact hi
              subst this
              rw [m1.ar 40 (by decide) (by decide)]; exact z40, fun i hi => by simp at hi⟩
            refine m_acts_91 (d := d) (by omega) (x1.toNatClampNeg + 1) g1 0 0 [] [] (by omega) PP XX (fun g2 z un m2 cf => ?_) (fun g2 nm Ds b p un m2 P2 X2 => ?_)
            · have mC := mB.tr (m2.mono (A' := [40, 41, 43]) (Z' := 0 :: 1 :: 44 :: 45 :: 57 :: mzs) (by decide) (by decide))
              have n0 := cf.n0
              obtain ⟨f1, f2, f3, f4, -⟩ := cf
              refine v_X8_acts_112 (d := d + 63) (mC.ly L) ?_
              intro k1 ek1 _
              refine ⟨fun _ k3 ek3 _ => ⟨fun y => absurd y n0.2, fun _ k5 ek5 _ => ?_⟩, fun y => absurd y n0.1⟩
              rw [f1] at ek1
              rw [f4] at ek3
              subst ek1; subst ek3; subst ek5
              refine Ke w_ z un _ (mpo.mk (A := [40, 41, 43]) (Z := 0 :: 1 :: 44 :: 45 :: 46 :: 47 :: 57 :: mzs) (by decide) ((((mC.mono (by decide) (by decide)).zI (by decide)).zI (by decide)).zI (by decide)) ?_)
              rw [mv_zI, mv_zI, mv_zI]
              have d1 : ∀ a, a ∈ mk_a → a ∉ [40, 41, 43] ∧ a ≠ 0 := by decide
              have d2 : ∀ k, k ∈ mk_z → k ≠ 0 → k ≠ 44 → k ≠ 46 → k ≠ 47 → k ∉ (0 :: 1 :: 44 :: 45 :: 57 :: mzs) := by decide
              unfold se_acts
              refine ⟨fun a ha => ?_, fun k hk => ?_⟩
              · obtain ⟨n1, n2⟩ := d1 a ha
                rw [uI_n n2, uI_n n2, uI_n n2, uI_n n2, uI_n n2, uI_n n2, uI_n n2]
                refine ⟨funext fun j => ?_, funext fun j => ?_⟩
                · show S.1 a j = ah_I g2 (M + a) j
                  rw [mC.ar a n1 n2, mk_r eS]
                · show S.2 a j = ah_J g2 (M + a) j
                  rw [mC.arJ a n1 n2, mk_j eS]
              · rw [uI_e, uI_e, uI_e, uI_e, uI_e, uI_e, uI_e]
                show (if 0 = 0 ∧ k = 0 then (10 : Int32) else if 0 = 0 ∧ k = 47 then nI z.2 else if 0 = 0 ∧ k = 46 then nI z.1 else if 0 = 0 ∧ k = 44 then 0 else S.1 0 k) = if 0 = 0 ∧ k = 0 then (10 : Int32) else if 0 = 0 ∧ k = 47 then nI z.2 else if 0 = 0 ∧ k = 46 then nI z.1 else ah_I g2 M k
                by_cases q0 : k = 0
                · simp only [q0, and_self, reduceIte]
                · simp only [q0, and_false, reduceIte]
                  by_cases q47 : k = 47
                  · simp only [q47, and_self, reduceIte]
                  · simp only [q47, and_false, reduceIte]
                    by_cases q46 : k = 46
                    · simp only [q46, and_self, reduceIte]
                    · simp only [q46, and_false, reduceIte]
                      by_cases q44 : k = 44
                      · simp only [q44, and_self, reduceIte]
                        rw [m2.sc 44 (by decide) (by decide), m1.sc 44 (by decide) (by decide), z44]
                      · simp only [q44, and_false, reduceIte]
                        rw [mC.sc k (d2 k hk q0 q44 q46 q47) (by decide), mk_z0 eS]
            · have mC := mB.tr (m2.mono (A' := [40, 41, 43]) (Z' := 0 :: 1 :: 44 :: 45 :: 57 :: mzs) (by decide) (by decide))
              obtain ⟨P21, P22, P23, P24, P25, P26, P27, P28, P29, P210⟩ := P2
              refine v_X8_acts_112 (d := d + 63) (mC.ly L) ?_
              intro k1 ek1 _
              rw [P25] at ek1 ⊢
              refine ⟨fun y => absurd rfl y, fun _ k6 ek6 _ => ⟨fun _ => ?_, fun y => absurd le00 y⟩⟩
              have mD : mch [40, 41, 43] (0 :: 1 :: 44 :: 45 :: 46 :: 47 :: 57 :: mzs) M h k6 := by rw [ek6, ek1]; exact ((mC.mono (by decide) (by decide)).zI (by decide)).zI (by decide)
              have y46 : ah_I k6 M 46 = 0 := by rw [ek6, ek1, rd_Ik (by decide), rd_Ih]
              have y47 : ah_I k6 M 47 = -1 := by rw [ek6, rd_Ih]
              have yo : ∀ k, k ≠ 46 → k ≠ 47 → ah_I k6 M k = ah_I g2 M k := fun k q1 q2 => by rw [ek6, ek1, rd_Ik q2, rd_Ik q1]
              have ya : ∀ a j, a ≠ 0 → ah_I k6 (M + a) j = ah_I g2 (M + a) j := fun a j q1 => by rw [ek6, ek1, rd_Ia (by omega), rd_Ia (by omega)]
              have yJ : ∀ a j, ah_J k6 a j = ah_J g2 a j := fun a j => by rw [ek6, ek1]; rfl
              clear ek6 ek1
              have y56 : ah_I k6 M 56 = nI (nT S) := by rw [mD.sc 56 (by decide) (by decide)]; exact e56
              have b5 : b ≤ 500 := by omega
              have nT3 : nT S < 4 := by omega
              refine m_acts_155 (d := d + 63) (T := nT S) b5 nT3 (mD.ly L) y56 (by rw [yo 58 (by decide) (by decide)]; exact P26) (fun g3 m3 c1 c2 => ?_)
              have e57' : ah_I k6 M 57 = nI nm.length := by rw [yo 57 (by decide) (by decide)]; exact P29
              refine m_acts_192 (d := d + 63) (T := nT S) P28 nT3 ((mD.mono (A' := [36, 37, 38, 39, 40, 41, 42, 43]) (Z' := 0 :: 1 :: 44 :: 45 :: 46 :: 47 :: 56 :: 57 :: mzs) (by decide) (by decide)).tr (m3.mono (by decide) (by decide)) |>.ly L) (by rw [m3.sc 56 (by decide) (by decide)]; exact y56) (by rw [m3.sc 57 (by decide) (by decide)]; exact e57') (fun g4 m4 c3 c4 => ?_)
              have mE := ((mD.mono (A' := [36, 37, 38, 39, 40, 41, 42, 43]) (Z' := 0 :: 1 :: 44 :: 45 :: 46 :: 47 :: 56 :: 57 :: mzs) (by decide) (by decide)).tr (m3.mono (by decide) (by decide))).tr (m4.mono (by decide) (by decide))
              refine m_acts_228 (d := d + 63) (T := nT S) P28 nT3 (mE.ly L) (by rw [m4.sc 56 (by decide) (by decide), m3.sc 56 (by decide) (by decide)]; exact y56) (by rw [m4.sc 57 (by decide) (by decide), m3.sc 57 (by decide) (by decide)]; exact e57') (fun g5 m5 c5 c6 c7 c8 c9 c10 => ?_)
              have mF := mE.tr (m5.mono (by decide) (by decide))
              have d1 : ∀ a, a ∈ mk_a → a ∉ [36, 37, 38, 39, 42] → a ∉ [36, 37, 38, 39, 40, 41, 42, 43] ∧ a ≠ 0 := by decide
              have d2 : ∀ k, k ∈ mk_z → k ∉ [0, 44, 46, 47, 56] → k ∉ (0 :: 1 :: 44 :: 45 :: 46 :: 47 :: 56 :: 57 :: mzs) := by decide
              have sc5 : ∀ k, k ≠ 56 → ah_I g5 M k = ah_I k6 M k := fun k q => by rw [m5.sc k (by simp; exact q) (by decide), m4.sc k (by simp) (by decide), m3.sc k (by simp) (by decide)]
              obtain ⟨X21, X22, bs, X23, X24, X25, X26⟩ := X2
              have bsb : ∀ i, i ≤ nm.length → bs i ≤ b := fun i hi => by
                have := bs_le (fun i hi => (X26 i hi).1) (nm.length - i) i (by omega)
                rwa [show i + (nm.length - i) = nm.length by omega, X24] at this
              refine Kg w_ nm Ds un g5 ⟨_, _, by decide, mF⟩ ⟨fun a ha hn => ?_, fun k hk hn => ?_, ⟨?_, ?_, ?_, ?_, c10⟩, fun j => ?_, fun j => ?_, fun j hj => ?_, fun j hj => ?_, fun j hj => ?_, ⟨P28, fun i hi => ⟨?_, (P210 i hi).2.1⟩⟩, b, b5, X21, X22, bs, X23, X24, fun i hi => ?_, fun i hi => ⟨(X26 i hi).1, (X26 i hi).2.ag (fun j j1 j2 => ?_)⟩⟩
              · obtain ⟨n1, n2⟩ := d1 a ha hn
                exact ⟨funext fun j => by show ah_I g5 (M + a) j = S.1 a j; rw [mF.ar a n1 n2, mk_r eS], funext fun j => by show ah_J g5 (M + a) j = S.2 a j; rw [mF.arJ a n1 n2, mk_j eS]⟩
              · show ah_I g5 M k = S.1 0 k
                rw [mF.sc k (d2 k hk hn) (by decide), mk_z0 eS]
              · show ah_I g5 M 0 = 0
                rw [sc5 0 (by decide), yo 0 (by decide) (by decide), m2.sc 0 (by decide) (by decide), m1.sc 0 (by decide) (by decide), z0]
              · show ah_I g5 M 44 = 0
                rw [sc5 44 (by decide), yo 44 (by decide) (by decide), m2.sc 44 (by decide) (by decide), m1.sc 44 (by decide) (by decide), z44]
              · show ah_I g5 M 46 = 0
                rw [sc5 46 (by decide), y46]
              · show ah_I g5 M 47 = -1
                rw [sc5 47 (by decide), y47]
              · show ah_I g5 (M + 36) j = _
                rw [c8 j, m4.ar 36 (by decide) (by decide), m3.ar 36 (by decide) (by decide), mD.ar 36 (by decide) (by decide), mk_r eS]
              · show ah_I g5 (M + 37) j = _
                rw [c9 j, m4.ar 37 (by decide) (by decide), m3.ar 37 (by decide) (by decide), mD.ar 37 (by decide) (by decide), mk_r eS]
              · show ah_I g5 (M + 39) j = _
                rw [m5.ar 39 (by decide) (by decide), m4.ar 39 (by decide) (by decide), c2 j hj, mD.ar 39 (by decide) (by decide), mk_r eS]
              · show ah_I g5 (M + 38) j = _
                rw [m5.ar 38 (by decide) (by decide), c4 j hj, m3.ar 38 (by decide) (by decide), mD.ar 38 (by decide) (by decide), mk_r eS]
              · show ah_J g5 (M + 42) j = _
                rw [c6 j hj, m4.arJ 42 (by decide) (by decide), m3.arJ 42 (by decide) (by decide), mD.arJ 42 (by decide) (by decide), mk_j eS]
              · show ah_J g5 (M + 42) (10 * nT S + i) = _
                rw [c5 i hi, m4.arJ 43 (by decide) (by decide), m3.arJ 43 (by decide) (by decide), yJ]
                exact (P210 i hi).1
              · show ah_I g5 (M + 38) (11 * nT S + i) = _
                rw [m5.ar 38 (by decide) (by decide), c3 i hi, m3.ar 40 (by decide) (by decide), ya 40 i (by decide)]
                exact X25 i hi
              · show ah_I g2 (M + 41) j = ah_I g5 (M + 39) (1100 * nT S + j)
                have := bsb (i + 1) (by omega)
                rw [m5.ar 39 (by decide) (by decide), m4.ar 39 (by decide) (by decide), c1 j (by omega), ya 41 j (by decide)]
          · skip
            intro h21 eh21 Xh21
            rw [show (4 : Int32) = nI 4 from rfl, nI_eq (by omega) (by omega)] at c5
            have w_ : wy_acts S x1 x2 = (7 : Int32) := by
              simp only [i3_lt, i3_le, i6_lt, i6_le, i3_eq, i3_l, Int32.reduceToInt, Int64.reduceToInt, tm_1, tl_1, xP] at c1 c2 c3 c4
              unfold wy_acts
              (repeat' split) <;> first | rfl | (exfalso; omega)
            subst eh1
            subst eh2
            subst eh21
            exact Kf (by rw [w_]; decide) _ (by rw [w_]; exact mpo.st eS)
end

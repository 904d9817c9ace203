/-! ===== acts: the model reads ===== -/
def mzs : List Nat := [48, 49, 50, 51, 52, 53, 54, 55, 58]
def MP (h : ah_T) (M n : Nat) (t : Nat → Nat) (nm : List Nat) (b p : Nat) : Prop := LY8 h M ∧ tpe h (M + 35) n t ∧ p ≤ n ∧ rdM h M n t p ∧ ah_I h M 48 = 0 ∧ ah_I h M 58 = nI b ∧ b ≤ p ∧ nmM h M nm
abbrev MC0 (M : Nat) (h g : ah_T) : Prop := mch [41] mzs M h g
def MCf (M bd : Nat) (f : Nat × Nat) (g : ah_T) : Prop := ah_I g M 48 = nI f.1 ∧ 1 ≤ f.1 ∧ f.1 ≤ 6 ∧ ah_I g M 49 = nI f.2 ∧ ∃ e, e ≤ bd ∧ ah_I g M 58 = nI e
def MCr (M n : Nat) (t : Nat → Nat) (b p q : Nat) (X : (Nat → Int32) → Nat → Prop) (h g : ah_T) : Prop := ah_I g M 48 = 0 ∧ rdM g M n t q ∧ (∀ k, k < b → ah_I g (M + 41) k = ah_I h (M + 41) k) ∧ ∃ e, b ≤ e ∧ e + p ≤ q + b ∧ ah_I g M 58 = nI e ∧ X (ah_I g (M + 41)) e
def MC (M n : Nat) (t : Nat → Nat) (bd b p : Nat) (F : PR) (h g : ah_T) : Prop := MC0 M h g ∧ (∀ f, F = .inl f → MCf M bd f g) ∧ ∀ q D, F = .inr (q, D) → MCr M n t b p q (fun m e => RD m b e D) h g
def MCB (M n : Nat) (t : Nat → Nat) (bd b p : Nat) (F : PT) (h g : ah_T) : Prop := MC0 M h g ∧ (∀ f, F = .inl f → MCf M bd f g) ∧ ∀ q D, F = .inr (q, D) → MCr M n t b p q (fun m e => RB m b e D) h g
def mcon (G : ma_G) (M n : Nat) (t : Nat → Nat) (nm : List Nat) (mi : ma_M) (tl : List (Option ma_V)) (bd d : Nat) (x : Int32) (F : Nat → PR) : Prop := ∀ (h : ah_T) (b p : Nat) (Q : Option ma_V → ah_T → Prop) (E : Nat → ah_T → Prop), MP h M n t nm b p → (∀ g, MC M n t bd b p (F p) h g → Q none g) → MX G mi d 0 (some (rv M) :: some (iv x) :: tl) [] h Q E
def mcoB (G : ma_G) (M n : Nat) (t : Nat → Nat) (nm : List Nat) (mi : ma_M) (tl : List (Option ma_V)) (bd d : Nat) (x : Int32) (F : Nat → PT) : Prop := ∀ (h : ah_T) (b p : Nat) (Q : Option ma_V → ah_T → Prop) (E : Nat → ah_T → Prop), MP h M n t nm b p → (∀ g, MCB M n t bd b p (F p) h g → Q none g) → MX G mi d 0 (some (rv M) :: some (iv x) :: tl) [] h Q E
section
variable {G : ma_G} {d M n p q b e B c : Nat} {h g g2 : ah_T} {t : Nat → Nat} {nm : List Nat} {Q : Option ma_V → ah_T → Prop} {E : Nat → ah_T → Prop} {x : Int32} {D : PD} {W S : Nat → PR}
theorem MP.fr (P : MP h M n t nm b p) (m : MC0 M h g) : LY8 g M ∧ tpe g (M + 35) n t ∧ nmM g M nm := by
  obtain ⟨P1, P2, -, -, -, -, -, P8, P9, P10⟩ := P
  refine ⟨m.ly P1, m.tp (by decide) P2, P8, ?_, fun i hi => ?_⟩
  · rw [m.sc 57 (by decide) (by decide)]; exact P9
  · rw [m.arJ 43 (by decide) (by decide)]; exact P10 i hi
theorem MP.nx (P : MP h M n t nm b p) (m : MC0 M h g) (hq : q ≤ n) (D : rdM g M n t q) (e48 : ah_I g M 48 = 0) (e58 : ah_I g M 58 = nI e) (he : e ≤ q) : MP g M n t nm e q := by
  obtain ⟨f1, f2, f3⟩ := P.fr m
  exact ⟨f1, f2, hq, D, e48, e58, he, f3⟩
/-- one token on -/
theorem m_nx (P : MP h M n t nm b p) (K : ∀ g, MC0 M h g → (∀ k, ah_I g (M + 41) k = ah_I h (M + 41) k) → MP g M n t nm b (tE t n p) → Q none g) : MX G mi_X8_next (d + 1) 0 [some (rv M), none] [] h Q E := by
  have P' := P
  obtain ⟨P1, P2, P3, P4, P5, P6, P7, P8⟩ := P
  have bE := tE_bd (t := t) P3
  have bF := tF_bd (t := t) P3
  refine m_next P1 P2 bE.2.1 P4.1 P4.2.2.2.1 (fun g m D => ?_)
  have a41 : ∀ k, ah_I g (M + 41) k = ah_I h (M + 41) k := fun k => m.ar 41 (by decide) (by decide) k
  have m0 : MC0 M h g := m.mono (by decide) (by decide)
  exact K g m0 a41 (P'.nx m0 bE.2.1 D (by rw [m.sc 48 (by decide) (by decide)]; exact P5) (by rw [m.sc 58 (by decide) (by decide)]; exact P6) (by omega))
theorem wr_ok {W : ah_T → Prop} {A C : Prop} (D : rdM h M n t p) (e48 : ah_I h M 48 = 0) (K : W (ah_wI (ah_wI h M 48 (nI (pw t n p 2).1)) M 49 (nI (pw t n p 2).2))) :
    (¬ ah_I h M 50 = (4 : Int32) → (ah_I h M 48 ≤ 0 → ∀ h6 : ah_T, h6 = ah_wI h M 48 (2 : Int32) → ah_ext h h6 → ∀ h7 : ah_T, h7 = ah_wI h6 M 49 (ah_I h M 51) → ah_ext h6 h7 → W h7) ∧ (¬ ah_I h M 48 ≤ 0 → A)) ∧ (ah_I h M 50 = (4 : Int32) → (ah_I h M 48 ≤ 0 → ∀ h6 : ah_T, h6 = ah_wI h M 48 (1 : Int32) → ah_ext h h6 → ∀ h7 : ah_T, h7 = ah_wI h6 M 49 (ah_I h M 51) → ah_ext h6 h7 → W h7) ∧ (¬ ah_I h M 48 ≤ 0 → C)) := by
  rw [md4 D, e48, D.2.2.1]
  have z : ((0 : Int32) ≤ 0) := by decide
  unfold pw at K
  refine ⟨fun c => ⟨fun _ h6 e6 _ h7 e7 _ => ?_, fun w => absurd z w⟩, fun c => ⟨fun _ h6 e6 _ h7 e7 _ => ?_, fun w => absurd z w⟩⟩
  · rw [if_neg c] at K
    subst e6; subst e7
    exact K
  · rw [if_pos c] at K
    subst e6; subst e7
    exact K
theorem MCf.w {f : Nat × Nat} (hk : 1 ≤ f.1 ∧ f.1 ≤ 6) (e58 : ah_I h M 58 = nI e) (he : e ≤ B) : MCf M B f (ah_wI (ah_wI h M 48 (nI f.1)) M 49 (nI f.2)) := by
  refine ⟨?_, hk.1, hk.2, rd_Ih, e, he, ?_⟩
  · rw [rd_Ik (by decide), rd_Ih]
  · rw [rd_Ik (by decide), rd_Ik (by decide)]; exact e58
theorem pw_in : 1 ≤ (pw t n p 2).1 ∧ (pw t n p 2).1 ≤ 6 := by
  unfold pw
  by_cases c : tS t n p = 1
  · rw [if_pos c]; exact ⟨Nat.le_refl 1, (by decide : (1 : Nat) ≤ 6)⟩
  · rw [if_neg c]; exact ⟨(by decide : (1 : Nat) ≤ 2), (by decide : (2 : Nat) ≤ 6)⟩
/-- a fault here and now -/
theorem MP.wr (P : MP h M n t nm b p) (hB : n ≤ B) : MCf M B (pw t n p 2) (ah_wI (ah_wI h M 48 (nI (pw t n p 2).1)) M 49 (nI (pw t n p 2).2)) := MCf.w pw_in P.2.2.2.2.2.1 (by have := P.2.2.1; have := P.2.2.2.2.2.2.1; omega)
theorem MC0.w2 (m : MC0 M h g) {v w : Int32} : MC0 M h (ah_wI (ah_wI g M 48 v) M 49 w) := (m.zI (by decide)).zI (by decide)
theorem MCf.mn {B' : Nat} {f : Nat × Nat} (x : MCf M B f g) (hB : B ≤ B') : MCf M B' f g := by
  obtain ⟨a1, a2, a3, a4, e, a5, a6⟩ := x
  exact ⟨a1, a2, a3, a4, e, by omega, a6⟩
/-- a fault tells that it is one -/
theorem MCf.n0 {f : Nat × Nat} (x : MCf M B f g) : ¬ ah_I g M 48 = 0 ∧ ¬ ah_I g M 48 ≤ 0 := by
  obtain ⟨a1, a2, a3, -⟩ := x
  rw [a1]
  exact ⟨nI_ne0 (by omega) (by omega), nI_nle (by omega) (by omega)⟩
/-- a mark more, behind a fault -/
theorem MCf.mk {f : Nat × Nat} {v : Int32} (x : MCf M B f g) (hB : B ≤ 1000) : vp_in (ah_I g M 58) 1100 ∧ MCf M (B + 1) f (ah_wI (ah_wI g (M + 41) (ah_I g M 58).toNatClampNeg v) M 58 (ah_I g M 58 + 1)) := by
  obtain ⟨a1, a2, a3, a4, e, a5, a6⟩ := x
  refine ⟨by rw [a6]; exact vp_in_nI (by omega) (by decide), ?_, a2, a3, ?_, e + 1, by omega, ?_⟩
  · rw [rd_Ik (by decide), rd_Ia (by omega)]; exact a1
  · rw [rd_Ik (by decide), rd_Ia (by omega)]; exact a4
  · rw [rd_Ih, a6, nI_1]
theorem MC0.mk (m : MC0 M h g) {k : Nat} {v w : Int32} : MC0 M h (ah_wI (ah_wI g (M + 41) k v) M 58 w) := (m.wI (by decide)).zI (by decide)
theorem le00 : ((0 : Int32) ≤ 0) := by decide
theorem encE {w v : Nat} {y z : Int32} (hy : y = nI w) (hz : z = nI v) : (1048576 : Int32) * y + z = enc w v := by
  rw [hy, hz, show (1048576 : Int32) = nI 1048576 from rfl, pk_mul, nI_add]; rfl
theorem rdM.mk (D : rdM g M n t q) {k : Nat} {v w : Int32} : rdM (ah_wI (ah_wI g (M + 41) k v) M 58 w) M n t q := by
  obtain ⟨d1, d2, d3, d4, d5, d6⟩ := D
  refine ⟨?_, ?_, ?_, ?_, fun z => ?_, fun z => ⟨?_, ?_⟩⟩
  · rw [rd_Ik (by decide), rd_Ia (by omega)]; exact d1
  · rw [rd_Ik (by decide), rd_Ia (by omega)]; exact d2
  · rw [rd_Ik (by decide), rd_Ia (by omega)]; exact d3
  · rw [rd_Ik (by decide), rd_Ia (by omega)]; exact d4
  · rw [rd_Ik (by decide), rd_Ia (by omega)]; exact d5 z
  · rw [rd_JI, rd_JI]; exact (d6 z).1
  · rw [rd_Ik (by decide), rd_Ia (by omega)]; exact (d6 z).2
/-- a mark more, all being well: where marks stand then -/
theorem mk_at {v w : Int32} {k : Nat} (j : Nat) : ah_I (ah_wI (ah_wI g (M + 41) k v) M 58 w) (M + 41) j = if j = k then v else ah_I g (M + 41) j := by
  rw [rd_Ia (by omega), rd_II]
  by_cases c : j = k
  · rw [if_pos c, if_pos ⟨rfl, c⟩]
  · rw [if_neg c, if_neg (fun z => c z.2)]
theorem MP.mk (P : MP h M n t nm b p) (m : MC0 M h g) (hq : q ≤ n) (D : rdM g M n t q) (e48 : ah_I g M 48 = 0) (e58 : ah_I g M 58 = nI e) (he : e + 1 ≤ q) {v : Int32} : vp_in (ah_I g M 58) 1100 ∧ (ah_I g M 58).toNatClampNeg = e ∧ MP (ah_wI (ah_wI g (M + 41) e v) M 58 (ah_I g M 58 + 1)) M n t nm (e + 1) q := by
  have n5 := P.2.1.1
  refine ⟨by rw [e58]; exact vp_in_nI (by omega) (by decide), by rw [e58, nI_clamp (by omega)], P.nx m.mk hq D.mk ?_ ?_ he⟩
  · rw [rd_Ik (by decide), rd_Ia (by omega)]; exact e48
  · rw [rd_Ih, e58, nI_1]

theorem m_Item_5 {A : Nat → PR} (hA : ∀ d, mcon G M n t nm mi_X8_readAtom [none, none] B (d + c + 1) x A) (hAp : pos n A) (hB : B ≤ 1000) : ∀ (f : Nat) (g : ah_T) (e q : Nat) (D : PD), n - q < f → MP g M n t nm e q → b ≤ e → RD (ah_I g (M + 41)) b e D →
    (∀ g', MC0 M g g' → (∀ z, pLoop t n [42, 47, 37] A f q D = .inl z → MCf M (B + 1) z g') → (∀ q' D', pLoop t n [42, 47, 37] A f q D = .inr (q', D') → ah_I g' M 48 = 0 ∧ rdM g' M n t q' ∧ (∀ k, k < b → ah_I g' (M + 41) k = ah_I g (M + 41) k) ∧ ∃ e', b ≤ e' ∧ e' + q ≤ q' + e ∧ ah_I g' M 58 = nI e' ∧ RD (ah_I g' (M + 41)) b e' D') → Q none g') →
    MX G mi_X8_readItem (d + c + 2) 5 [some (rv M), some (iv x), none] [] g Q E := by
  intro f
  induction f with
  | zero => intro g e q D hf; exact absurd hf (Nat.not_lt_zero _)
  | succ f ih =>
    intro g e q D hf P hbe R K
    have P' := P
    obtain ⟨P1, P2, P3, P4, P5, P6, P7, P8⟩ := P
    have stop : ¬ (tS t n q = 4 ∧ tV t n q ∈ [42, 47, 37]) → Q none g := fun z => by
      refine K g mch.rf (fun w hw => ?_) (fun q' D' hw => ?_)
      · unfold pLoop at hw; rw [if_neg z] at hw; simp at hw
      · unfold pLoop at hw
        rw [if_neg z] at hw
        injection hw with hw
        injection hw with w1 w2
        subst w1; subst w2
        exact ⟨P5, P4, fun _ _ => rfl, e, hbe, by omega, P6, R⟩
    have go : tS t n q = 4 → ∀ o, tV t n q = o → (o = 43 ∨ o = 45 ∨ o = 42 ∨ o = 47 ∨ o = 37) → o ∈ [42, 47, 37] → ∀ v : Int32, v = enc (opw o) 0 → MX G mi_X8_next (d + c + 1) 0 [some (rv M), none] [] g (Qv fun h2 => ah_ext g h2 → MX G mi_X8_readAtom (d + c + 1) 0 (some (rv M) :: some (iv x) :: [none, none]) [] h2 (Qv fun h4 => ah_ext h2 h4 → vp_in (ah_I h4 M 58) 1100 ∧ ∀ h7 : ah_T, h7 = ah_wI h4 (M + 41) (ah_I h4 M 58).toNatClampNeg v → ah_ext h4 h7 → ∀ h8 : ah_T, h8 = ah_wI h7 M 58 ((ah_I h4 M 58) + (1 : Int32)) → ah_ext h7 h8 → MX G mi_X8_readItem (d + c + 2) 5 [some (rv M), some (iv x), none] [] h8 Q E) E) E := fun s4 o eo ho hm v hv => by
      have hin : tS t n q = 4 ∧ tV t n q ∈ [42, 47, 37] := ⟨s4, by rw [eo]; exact hm⟩
      have a := tE_s P3 (by rw [s4]; decide)
      refine m_nx P' (fun g1 m1 a41 Pn => ?_)
      intro _
      refine hA d g1 e (tE t n q) _ _ Pn (fun g2 C2 => ?_)
      intro _
      obtain ⟨C0, C1, C2⟩ := C2
      have m12 := m1.tr C0
      cases hF : A (tE t n q) with
      | inl z =>
        have cf := C1 z hF
        obtain ⟨v1, v2⟩ := cf.mk (v := v) hB
        refine ⟨v1, fun h7 e7 _ h8 e8 _ => ?_⟩
        subst e7; subst e8
        have mm : MC0 M g (ah_wI (ah_wI g2 (M + 41) (ah_I g2 M 58).toNatClampNeg v) M 58 (ah_I g2 M 58 + 1)) := MC0.mk m12
        refine v_X8_readItem_5 (mm.ly P1) ⟨fun _ => ?_, fun w => absurd w v2.n0.1⟩
        refine K _ mm (fun y hy => ?_) (fun q' D' hy => ?_)
        · rw [pLoop, if_pos hin, hF] at hy
          injection hy with hy
          subst hy
          exact v2
        · rw [pLoop, if_pos hin, hF] at hy; simp at hy
      | inr z =>
        obtain ⟨q2, D2⟩ := z
        obtain ⟨r1, r2, r3, e2, r4, r5, r6, r7⟩ := C2 q2 D2 hF
        have pq := hAp _ _ _ a.2 hF
        obtain ⟨k1, k2, k3⟩ := P'.mk m12 pq.2 r2 r1 r6 (by omega) (v := v)
        refine ⟨k1, fun h7 e7 _ h8 e8 _ => ?_⟩
        rw [k2] at e7
        subst e7; subst e8
        have ag : ∀ j, j < e → ah_I (ah_wI (ah_wI g2 (M + 41) e2 v) M 58 (ah_I g2 M 58 + 1)) (M + 41) j = ah_I g (M + 41) j := fun j hj => by
          rw [mk_at, if_neg (by omega), r3 j hj, a41]
        refine ih _ (e2 + 1) q2 (fun v d => dop (tV t n q) (D v d) (D2 v d)) (by omega) k3 (by omega) ?_ (fun g' m' K1 K2 => ?_)
        · rw [eo]
          refine RD.bin ho (R.ag (fun j j1 j2 => (ag j j2).symm)) (r7.ag (fun j j1 j2 => ?_)) ?_
          · rw [mk_at, if_neg (by omega)]
          · rw [mk_at, if_pos rfl]; exact hv
        · refine K g' (mch.tr (MC0.mk m12) m') (fun y hy => K1 y (by rw [pLoop, if_pos hin, hF] at hy; exact hy)) (fun q' D' hy => ?_)
          obtain ⟨s1, s2, s3, e3, s4, s5, s6, s7⟩ := K2 q' D' (by rw [pLoop, if_pos hin, hF] at hy; exact hy)
          exact ⟨s1, s2, fun k hk => by rw [s3 k hk]; exact ag k (by omega), e3, s4, by omega, s6, s7⟩
    have vv : tS t n q = 4 → ∀ o : Nat, o < 256 → ∀ y : Int32, y = nI o → (ah_I g M 53 = y ↔ tV t n q = o) := fun s4 o ho y hy => mv53 P2 P4 (by omega) (by omega) hy
    refine v_X8_readItem_5 P1 ?_
    rw [P5, md3 P4]
    refine ⟨fun w => absurd rfl w, fun _ => ⟨fun s4 => stop (fun z => s4 z.1), fun s4 => ?_⟩⟩
    have w42 := vv s4 42 (by decide) (42 : Int32) rfl
    have w47 := vv s4 47 (by decide) (47 : Int32) rfl
    have w37 := vv s4 37 (by decide) (37 : Int32) rfl
    rw [w42, w47, w37]
    have nx : (tV t n q = 42 ∨ tV t n q = 47 ∨ tV t n q = 37) → MX G mi_X8_readItem (d + c + 2) 39 [some (rv M), some (iv x), none] [] g Q E := fun hz => by
      refine v_X8_readItem_39 P1 ?_
      rw [md3 P4, w42, w47]
      refine ⟨fun w => absurd s4 w, fun _ => ⟨fun w => ⟨fun w2 => ?_, fun w2 => ?_⟩, fun w => ?_⟩⟩
      · exact go s4 37 (by omega) (by omega) (by decide) _ (encE rfl rfl)
      · exact go s4 47 w2 (by omega) (by decide) _ (encE rfl rfl)
      · exact go s4 42 w (by omega) (by decide) _ (encE rfl rfl)
    refine ⟨fun z1 => ⟨fun z2 => ⟨fun z3 => stop (fun z => ?_), fun z3 => nx (Or.inr (Or.inr z3))⟩, fun z2 => nx (Or.inr (Or.inl z2))⟩, fun z1 => nx (Or.inl z1)⟩
    have := z.2
    simp at this
    omega
theorem m_Item {A : Nat → PR} (hA : ∀ d, mcon G M n t nm mi_X8_readAtom [none, none] B (d + c + 1) x A) (hAp : pos n A) (hB : B ≤ 1000) : mcon G M n t nm mi_X8_readItem [none] (B + 1) (d + c + 2) x (pChain t n [42, 47, 37] A) := by
  intro h b p Q E P K
  have P' := P
  obtain ⟨P1, P2, P3, P4, P5, P6, P7, P8⟩ := P
  refine v_X8_readItem P1 ?_
  refine hA d h b p _ _ P' (fun g C2 => ?_)
  intro _
  obtain ⟨C0, C1, C2⟩ := C2
  cases hF : A p with
  | inl z =>
    have un : pChain t n [42, 47, 37] A p = .inl z := by rw [pChain, hF]
    have cf := C1 z hF
    refine v_X8_readItem_5 (C0.ly P1) ⟨fun _ => ?_, fun w => absurd w cf.n0.1⟩
    refine K g ⟨C0, fun y hy => ?_, fun q' D' hy => ?_⟩
    · rw [un] at hy
      injection hy with hy
      subst hy
      exact cf.mn (by omega)
    · rw [un] at hy; simp at hy
  | inr z =>
    obtain ⟨q2, D2⟩ := z
    obtain ⟨r1, r2, r3, e2, r4, r5, r6, r7⟩ := C2 q2 D2 hF
    have pq := hAp _ _ _ P3 hF
    have un : pChain t n [42, 47, 37] A p = pLoop t n [42, 47, 37] A (n + 1) q2 D2 := by rw [pChain, hF]
    have P2' := P'.nx C0 pq.2 r2 r1 r6 (by omega)
    refine m_Item_5 (b := b) hA hAp hB (n + 1) g e2 q2 D2 (by omega) P2' r4 r7 (fun g' m' K1 K2 => K g' ⟨C0.tr m', fun y hy => K1 y (by rw [← un]; exact hy), fun q' D' hy => ?_⟩)
    obtain ⟨s1, s2, s3, e3, s4, s5, s6, s7⟩ := K2 q' D' (by rw [← un]; exact hy)
    exact ⟨s1, s2, fun k hk => (s3 k hk).trans (r3 k hk), e3, s4, by omega, s6, s7⟩
theorem m_Sum_5 {A : Nat → PR} (hA : ∀ d, mcon G M n t nm mi_X8_readItem [none] B (d + c + 1) x A) (hAp : pos n A) (hB : B ≤ 1000) : ∀ (f : Nat) (g : ah_T) (e q : Nat) (D : PD), n - q < f → MP g M n t nm e q → b ≤ e → RD (ah_I g (M + 41)) b e D →
    (∀ g', MC0 M g g' → (∀ z, pLoop t n [43, 45] A f q D = .inl z → MCf M (B + 1) z g') → (∀ q' D', pLoop t n [43, 45] A f q D = .inr (q', D') → ah_I g' M 48 = 0 ∧ rdM g' M n t q' ∧ (∀ k, k < b → ah_I g' (M + 41) k = ah_I g (M + 41) k) ∧ ∃ e', b ≤ e' ∧ e' + q ≤ q' + e ∧ ah_I g' M 58 = nI e' ∧ RD (ah_I g' (M + 41)) b e' D') → Q none g') →
    MX G mi_X8_readSum (d + c + 2) 5 [some (rv M), some (iv x), none] [] g Q E := by
  intro f
  induction f with
  | zero => intro g e q D hf; exact absurd hf (Nat.not_lt_zero _)
  | succ f ih =>
    intro g e q D hf P hbe R K
    have P' := P
    obtain ⟨P1, P2, P3, P4, P5, P6, P7, P8⟩ := P
    have stop : ¬ (tS t n q = 4 ∧ tV t n q ∈ [43, 45]) → Q none g := fun z => by
      refine K g mch.rf (fun w hw => ?_) (fun q' D' hw => ?_)
      · unfold pLoop at hw; rw [if_neg z] at hw; simp at hw
      · unfold pLoop at hw
        rw [if_neg z] at hw
        injection hw with hw
        injection hw with w1 w2
        subst w1; subst w2
        exact ⟨P5, P4, fun _ _ => rfl, e, hbe, by omega, P6, R⟩
    have go : tS t n q = 4 → ∀ o, tV t n q = o → (o = 43 ∨ o = 45 ∨ o = 42 ∨ o = 47 ∨ o = 37) → o ∈ [43, 45] → ∀ v : Int32, v = enc (opw o) 0 → MX G mi_X8_next (d + c + 1) 0 [some (rv M), none] [] g (Qv fun h2 => ah_ext g h2 → MX G mi_X8_readItem (d + c + 1) 0 (some (rv M) :: some (iv x) :: [none]) [] h2 (Qv fun h4 => ah_ext h2 h4 → vp_in (ah_I h4 M 58) 1100 ∧ ∀ h7 : ah_T, h7 = ah_wI h4 (M + 41) (ah_I h4 M 58).toNatClampNeg v → ah_ext h4 h7 → ∀ h8 : ah_T, h8 = ah_wI h7 M 58 ((ah_I h4 M 58) + (1 : Int32)) → ah_ext h7 h8 → MX G mi_X8_readSum (d + c + 2) 5 [some (rv M), some (iv x), none] [] h8 Q E) E) E := fun s4 o eo ho hm v hv => by
      have hin : tS t n q = 4 ∧ tV t n q ∈ [43, 45] := ⟨s4, by rw [eo]; exact hm⟩
      have a := tE_s P3 (by rw [s4]; decide)
      refine m_nx P' (fun g1 m1 a41 Pn => ?_)
      intro _
      refine hA d g1 e (tE t n q) _ _ Pn (fun g2 C2 => ?_)
      intro _
      obtain ⟨C0, C1, C2⟩ := C2
      have m12 := m1.tr C0
      cases hF : A (tE t n q) with
      | inl z =>
        have cf := C1 z hF
        obtain ⟨v1, v2⟩ := cf.mk (v := v) hB
        refine ⟨v1, fun h7 e7 _ h8 e8 _ => ?_⟩
        subst e7; subst e8
        have mm : MC0 M g (ah_wI (ah_wI g2 (M + 41) (ah_I g2 M 58).toNatClampNeg v) M 58 (ah_I g2 M 58 + 1)) := MC0.mk m12
        refine v_X8_readSum_5 (mm.ly P1) ⟨fun _ => ?_, fun w => absurd w v2.n0.1⟩
        refine K _ mm (fun y hy => ?_) (fun q' D' hy => ?_)
        · rw [pLoop, if_pos hin, hF] at hy
          injection hy with hy
          subst hy
          exact v2
        · rw [pLoop, if_pos hin, hF] at hy; simp at hy
      | inr z =>
        obtain ⟨q2, D2⟩ := z
        obtain ⟨r1, r2, r3, e2, r4, r5, r6, r7⟩ := C2 q2 D2 hF
        have pq := hAp _ _ _ a.2 hF
        obtain ⟨k1, k2, k3⟩ := P'.mk m12 pq.2 r2 r1 r6 (by omega) (v := v)
        refine ⟨k1, fun h7 e7 _ h8 e8 _ => ?_⟩
        rw [k2] at e7
        subst e7; subst e8
        have ag : ∀ j, j < e → ah_I (ah_wI (ah_wI g2 (M + 41) e2 v) M 58 (ah_I g2 M 58 + 1)) (M + 41) j = ah_I g (M + 41) j := fun j hj => by
          rw [mk_at, if_neg (by omega), r3 j hj, a41]
        refine ih _ (e2 + 1) q2 (fun v d => dop (tV t n q) (D v d) (D2 v d)) (by omega) k3 (by omega) ?_ (fun g' m' K1 K2 => ?_)
        · rw [eo]
          refine RD.bin ho (R.ag (fun j j1 j2 => (ag j j2).symm)) (r7.ag (fun j j1 j2 => ?_)) ?_
          · rw [mk_at, if_neg (by omega)]
          · rw [mk_at, if_pos rfl]; exact hv
        · refine K g' (mch.tr (MC0.mk m12) m') (fun y hy => K1 y (by rw [pLoop, if_pos hin, hF] at hy; exact hy)) (fun q' D' hy => ?_)
          obtain ⟨s1, s2, s3, e3, s4, s5, s6, s7⟩ := K2 q' D' (by rw [pLoop, if_pos hin, hF] at hy; exact hy)
          exact ⟨s1, s2, fun k hk => by rw [s3 k hk]; exact ag k (by omega), e3, s4, by omega, s6, s7⟩
    have vv : tS t n q = 4 → ∀ o : Nat, o < 256 → ∀ y : Int32, y = nI o → (ah_I g M 53 = y ↔ tV t n q = o) := fun s4 o ho y hy => mv53 P2 P4 (by omega) (by omega) hy
    refine v_X8_readSum_5 P1 ?_
    rw [P5, md3 P4]
    refine ⟨fun w => absurd rfl w, fun _ => ⟨fun s4 => stop (fun z => s4 z.1), fun s4 => ?_⟩⟩
    have w43 := vv s4 43 (by decide) (43 : Int32) rfl
    have w45 := vv s4 45 (by decide) (45 : Int32) rfl
    rw [w43, w45]
    have nx : (tV t n q = 43 ∨ tV t n q = 45) → MX G mi_X8_readSum (d + c + 2) 30 [some (rv M), some (iv x), none] [] g Q E := fun hz => by
      refine v_X8_readSum_30 P1 ?_
      rw [md3 P4, w43]
      refine ⟨fun w => absurd s4 w, fun _ => ⟨fun w => ?_, fun w => ?_⟩⟩
      · exact go s4 45 (by omega) (by omega) (by decide) _ (encE rfl rfl)
      · exact go s4 43 w (by omega) (by decide) _ (encE rfl rfl)
    refine ⟨fun z1 => ⟨fun z2 => stop (fun z => ?_), fun z2 => nx (Or.inr z2)⟩, fun z1 => nx (Or.inl z1)⟩
    have := z.2
    simp at this
    omega
theorem m_Sum {A : Nat → PR} (hA : ∀ d, mcon G M n t nm mi_X8_readItem [none] B (d + c + 1) x A) (hAp : pos n A) (hB : B ≤ 1000) : mcon G M n t nm mi_X8_readSum [none] (B + 1) (d + c + 2) x (pChain t n [43, 45] A) := by
  intro h b p Q E P K
  have P' := P
  obtain ⟨P1, P2, P3, P4, P5, P6, P7, P8⟩ := P
  refine v_X8_readSum P1 ?_
  refine hA d h b p _ _ P' (fun g C2 => ?_)
  intro _
  obtain ⟨C0, C1, C2⟩ := C2
  cases hF : A p with
  | inl z =>
    have un : pChain t n [43, 45] A p = .inl z := by rw [pChain, hF]
    have cf := C1 z hF
    refine v_X8_readSum_5 (C0.ly P1) ⟨fun _ => ?_, fun w => absurd w cf.n0.1⟩
    refine K g ⟨C0, fun y hy => ?_, fun q' D' hy => ?_⟩
    · rw [un] at hy
      injection hy with hy
      subst hy
      exact cf.mn (by omega)
    · rw [un] at hy; simp at hy
  | inr z =>
    obtain ⟨q2, D2⟩ := z
    obtain ⟨r1, r2, r3, e2, r4, r5, r6, r7⟩ := C2 q2 D2 hF
    have pq := hAp _ _ _ P3 hF
    have un : pChain t n [43, 45] A p = pLoop t n [43, 45] A (n + 1) q2 D2 := by rw [pChain, hF]
    have P2' := P'.nx C0 pq.2 r2 r1 r6 (by omega)
    refine m_Sum_5 (b := b) hA hAp hB (n + 1) g e2 q2 D2 (by omega) P2' r4 r7 (fun g' m' K1 K2 => K g' ⟨C0.tr m', fun y hy => K1 y (by rw [← un]; exact hy), fun q' D' hy => ?_⟩)
    obtain ⟨s1, s2, s3, e3, s4, s5, s6, s7⟩ := K2 q' D' (by rw [← un]; exact hy)
    exact ⟨s1, s2, fun k hk => (s3 k hk).trans (r3 k hk), e3, s4, by omega, s6, s7⟩
end

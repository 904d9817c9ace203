/-! ===== acts: the model reads, all of it ===== -/
theorem kix_bd (w : Nat) : ∀ (l : List Nat) (k : Nat), kix w l k = -1 ∨ ((k : Int) ≤ kix w l k ∧ kix w l k < (k : Int) + l.length)
  | [], k => Or.inl rfl
  | a :: l, k => by
    rw [kix]
    by_cases c : w = a
    · rw [if_pos c]; right; simp only [List.length_cons]; omega
    · rw [if_neg c]
      rcases kix_bd w l (k + 1) with e | e
      · exact Or.inl e
      · right; simp only [List.length_cons]; omega
theorem kix_no (w : Nat) : ∀ (l : List Nat) (k : Nat), (∀ i, i < l.length → l.getD i 0 ≠ w) → kix w l k = -1
  | [], k, _ => rfl
  | a :: l, k, h => by
    rw [kix, if_neg (fun e => h 0 (by simp) (by rw [e]; rfl))]
    exact kix_no w l (k + 1) (fun i hi => h (i + 1) (by simp only [List.length_cons]; omega))
section
variable {G : ma_G} {d M n p q b e B c : Nat} {h g g2 : ah_T} {t : Nat → Nat} {nm : List Nat} {Q : Option ma_V → ah_T → Prop} {E : Nat → ah_T → Prop} {x : Int32} {D : PD} {W S : Nat → PR}
theorem tK1_bd : tK 1 t n p = -1 ∨ (0 ≤ tK 1 t n p ∧ tK 1 t n p < 11) := by
  unfold tK
  by_cases c : tS t n p = 2
  · rw [if_pos c]
    rcases kix_bd (tW t n p) (kw 1) 0 with e | e
    · exact Or.inl e
    · right
      have : (kw 1).length = 11 := rfl
      rw [this] at e
      omega
  · rw [if_neg c]; exact Or.inl rfl
theorem nix_bd : nix t n nm p = -1 ∨ (0 ≤ nix t n nm p ∧ nix t n nm p < nm.length) := by
  unfold nix
  by_cases c : tS t n p = 2 ∧ tE t n p - tF t n p ≤ 8
  · rw [if_pos c]
    rcases kix_bd (tW t n p) nm 0 with e | e
    · exact Or.inl e
    · right; omega
  · rw [if_neg c]; exact Or.inl rfl
/-- a word that is kept is no variable and no name -/
theorem kept_no (N : nmM h M nm) (hs : tS t n p = 2) (hk : tK 0 t n p ≠ -1) : tK 1 t n p = -1 ∧ nix t n nm p = -1 := by
  have hw : tW t n p = 294 ∨ tW t n p = 663726 ∨ tW t n p = 176741 ∨ tW t n p = 1476 ∨ tW t n p = 498 ∨ tW t n p = 14836 ∨ tW t n p = 12748404 ∨ tW t n p = 441972 := by
    apply Classical.byContradiction
    intro z
    exact hk (tK0n.2 (fun w => z w.2))
  constructor
  · rw [tK1e hs]
    rcases hw with e | e | e | e | e | e | e | e <;> rw [e] <;> decide
  · unfold nix
    by_cases c : tS t n p = 2 ∧ tE t n p - tF t n p ≤ 8
    · rw [if_pos c]
      refine kix_no _ _ _ (fun i hi z => ?_)
      have := (N.2.2 i hi).2.2
      rw [z] at this
      apply this
      rcases hw with e | e | e | e | e | e | e | e <;> rw [e] <;> decide
    · rw [if_neg c]
theorem MCr.a41 {X : (Nat → Int32) → Nat → Prop} {p' : Nat} (m : ∀ k, ah_I g (M + 41) k = ah_I h (M + 41) k) (r : MCr M n t b p' q X g g2) (hp : p ≤ p') : MCr M n t b p q X h g2 := by
  obtain ⟨r1, r2, r3, e2, r4, r5, r6, r7⟩ := r
  exact ⟨r1, r2, fun k hk => (r3 k hk).trans (m k), e2, r4, by omega, r6, r7⟩
/-- a leaf's mark, then on -/
theorem m_leaf {mk : Int32} (P : MP h M n t nm b p) (hs : tS t n p ≠ 0) (R : ∀ m : Nat → Int32, m b = mk → RD m b (b + 1) D) (K : ∀ g, MC0 M h g → MCr M n t b p (tE t n p) (fun m e => RD m b e D) h g → Q none g) :
    vp_in (ah_I h M 58) 1100 ∧ ∀ h3 : ah_T, h3 = ah_wI h (M + 41) (ah_I h M 58).toNatClampNeg mk → ah_ext h h3 → ∀ h4 : ah_T, h4 = ah_wI h3 M 58 (ah_I h M 58 + (1 : Int32)) → ah_ext h3 h4 → MX G mi_X8_next (d + 1) 0 [some (rv M), none] [] h4 (Qv fun h5 => ah_ext h4 h5 → Q none h5) E := by
  have P' := P
  obtain ⟨P1, P2, P3, P4, P5, P6, P7, P8⟩ := P
  have a := tE_s P3 hs
  have n5 := P2.1
  refine ⟨by rw [P6]; exact vp_in_nI (by omega) (by decide), fun h3 e3 _ h4 e4 _ => ?_⟩
  rw [P6, nI_clamp (by omega)] at e3
  subst e3
  have m4 : MC0 M h h4 := by rw [e4]; exact MC0.mk mch.rf
  have D4 : rdM h4 M n t p := by rw [e4]; exact P4.mk
  have x48 : ah_I h4 M 48 = 0 := by rw [e4, rd_Ik (by decide), rd_Ia (by omega)]; exact P5
  have x58 : ah_I h4 M 58 = nI (b + 1) := by rw [e4, rd_Ih, P6, nI_1]
  obtain ⟨f1, f2, f3⟩ := P'.fr m4
  have at4 : ∀ j, ah_I h4 (M + 41) j = if j = b then mk else ah_I h (M + 41) j := fun j => by rw [e4]; exact mk_at j
  clear e4
  have bE := tE_bd (t := t) P3
  refine m_next f1 f2 bE.2.1 D4.1 D4.2.2.2.1 (fun g m D => ?_)
  intro _
  have a41 : ∀ k, ah_I g (M + 41) k = ah_I h4 (M + 41) k := fun k => m.ar 41 (by decide) (by decide) k
  refine K g (m4.tr (m.mono (by decide) (by decide))) ⟨?_, D, fun k hk => ?_, b + 1, by omega, by omega, ?_, ?_⟩
  · rw [m.sc 48 (by decide) (by decide)]; exact x48
  · rw [a41, at4, if_neg (by omega)]
  · rw [m.sc 58 (by decide) (by decide)]; exact x58
  · refine R _ ?_
    show ah_I g (M + 41) b = mk
    rw [a41, at4, if_pos rfl]
theorem m_Few_49 {A : PD} {w : Int32} {k : Bool} (hw : w = nI (if k = true then 9 else 8)) (hS : ∀ d, mcon G M n t nm mi_X8_readDeeper [] B (d + c) (x + 1) S) (hSp : pos n S) (hnB : n ≤ B) (P : MP g M n t nm e q) (hq : tC t n 44 q) (hbe : b ≤ e) (R : RD (ah_I g (M + 41)) b e A)
    (K : ∀ g', MC0 M g g' → (∀ z, (match S (tE t n q) with
      | .inl e => (.inl e : PR)
      | .inr (q2, B) => @ite PR (tC t n 41 q2) (Classical.propDecidable _) (.inr (tE t n q2, fun v d => dpk k (A v d) (B v d))) (.inl (pw t n q2 2))) = .inl z → MCf M B z g') → (∀ q' D', (match S (tE t n q) with
      | .inl e => (.inl e : PR)
      | .inr (q2, B) => @ite PR (tC t n 41 q2) (Classical.propDecidable _) (.inr (tE t n q2, fun v d => dpk k (A v d) (B v d))) (.inl (pw t n q2 2))) = .inr (q', D') → ah_I g' M 48 = 0 ∧ rdM g' M n t q' ∧ (∀ j, j < b → ah_I g' (M + 41) j = ah_I g (M + 41) j) ∧ ∃ e', b ≤ e' ∧ e' + q ≤ q' + e ∧ ah_I g' M 58 = nI e' ∧ RD (ah_I g' (M + 41)) b e' D') → Q none g') :
    MX G mi_X8_readFew (d + c + 2) 49 [some (rv M), some (iv x), some (iv w)] [] g Q E := by
  have P' := P
  obtain ⟨P1, P2, P3, P4, P5, P6, P7, P8⟩ := P
  have a := tE_s P3 (tC_s hq)
  refine v_X8_readFew_49 (d := d + c) P1 ?_
  rw [P5]
  refine ⟨fun _ => ?_, fun z => absurd le00 z⟩
  refine m_nx P' (fun g1 m1 a1 Pn => ?_)
  intro _
  refine hS (d + 1) g1 e (tE t n q) _ _ Pn (fun g2 C2 => ?_) |> fun H => by
    rw [show d + 1 + c = d + c + 1 by omega] at H
    exact H
  intro _
  obtain ⟨C0, C1, C2⟩ := C2
  have m12 := m1.tr C0
  cases hF : S (tE t n q) with
  | inl z =>
    have cf := C1 z hF
    refine ⟨fun _ => ⟨fun y => absurd y cf.n0.2, fun _ => K g2 m12 (fun y hy => ?_) (fun q' D' hy => ?_)⟩, fun y => absurd y cf.n0.1⟩
    · rw [hF] at hy
      injection hy with hy
      subst hy
      exact cf
    · rw [hF] at hy; simp at hy
  | inr z =>
    obtain ⟨q2, D2⟩ := z
    obtain ⟨r1, r2, r3, e2, r4, r5, r6, r7⟩ := C2 q2 D2 hF
    have pq := hSp _ _ _ a.2 hF
    have P2' := P'.nx m12 pq.2 r2 r1 r6 (by omega)
    have bad : ¬ tC t n 41 q2 → Q none (ah_wI (ah_wI g2 M 48 (nI (pw t n q2 2).1)) M 49 (nI (pw t n q2 2).2)) := fun y => by
      refine K _ (MC0.w2 m12) (fun z hz => ?_) (fun q' D' hz => ?_)
      · rw [hF] at hz
        simp only at hz
        rw [if_neg y] at hz
        injection hz with hz
        subst hz
        exact P2'.wr hnB
      · rw [hF] at hz
        simp only at hz
        rw [if_neg y] at hz
        simp at hz
    refine ⟨fun y => absurd r1 y, fun _ => ?_⟩
    rw [md3 r2]
    refine ⟨fun s4 => wr_ok r2 r1 (bad (fun y => s4 y.1)), fun s4 => ?_⟩
    rw [mv53 P2'.2.1 r2 (by omega) (c := 41) (by decide) (x := (41 : Int32)) rfl]
    refine ⟨fun y => wr_ok r2 r1 (bad (fun u => y u.2)), fun y => ⟨fun _ => ?_, fun u => absurd (by rw [r1]; exact le00) u⟩⟩
    have a2 := tE_s pq.2 (by rw [s4]; decide)
    refine m_nx P2' (fun g3 m3 a3 P3' => ?_)
    intro _
    obtain ⟨k1, k2, k3⟩ := (P'.nx m12 pq.2 r2 r1 r6 (by omega)).mk m3 P3'.2.2.1 P3'.2.2.2.1 P3'.2.2.2.2.1 P3'.2.2.2.2.2.1 (by omega) (v := (1048576 : Int32) * w + 0)
    refine ⟨k1, fun h11 e11 _ h12 e12 _ => ?_⟩
    rw [k2] at e11
    subst e11; subst e12
    refine K _ ((m12.tr m3).wI (by decide) |>.zI (by decide)) (fun z hz => ?_) (fun q' D' hz => ?_)
    · rw [hF] at hz
      simp only at hz
      rw [if_pos (show tC t n 41 q2 from ⟨s4, y⟩)] at hz
      simp at hz
    · rw [hF] at hz
      simp only at hz
      rw [if_pos (show tC t n 41 q2 from ⟨s4, y⟩)] at hz
      injection hz with hz
      injection hz with z1 z2
      subst z1; subst z2
      obtain ⟨-, -, -, x4, x5, x6, -, -⟩ := k3
      have at2 : ∀ j, ah_I (ah_wI (ah_wI g3 (M + 41) e2 ((1048576 : Int32) * w + 0)) M 58 (ah_I g3 M 58 + 1)) (M + 41) j = if j = e2 then (1048576 : Int32) * w + 0 else ah_I g2 (M + 41) j := fun j => by rw [mk_at, a3]
      refine ⟨x5, x4, fun j hj => ?_, e2 + 1, by omega, by omega, x6, ?_⟩
      · rw [at2, if_neg (by omega), r3 j (by omega), a1]
      · refine RD.pick (c := e) (R.ag (fun j j1 j2 => ?_)) (r7.ag (fun j j1 j2 => ?_)) ?_
        · rw [at2, if_neg (by omega), r3 j j2, a1]
        · rw [at2, if_neg (by omega)]
        · rw [at2, if_pos rfl]; exact encE hw rfl
theorem m_Few {w : Int32} (hw : w = nI (if decide (tK 0 t n p = 7) = true then 9 else 8)) (hS : ∀ d, mcon G M n t nm mi_X8_readDeeper [] B (d + c) (x + 1) S) (hSp : pos n S) (hnB : n ≤ B) (P : MP h M n t nm b p) (hs : tS t n p ≠ 0) (K : ∀ g, MC M n t B b p (pFew t n S p) h g → Q none g) :
    MX G mi_X8_readFew (d + c + 2) 0 [some (rv M), some (iv x), some (iv w)] [] h Q E := by
  have P' := P
  obtain ⟨P1, P2, P3, P4, P5, P6, P7, P8⟩ := P
  have a0 := tE_s P3 hs
  refine v_X8_readFew (d := d + c) P1 ?_
  refine m_nx P' (fun g1 m1 a1 Pn => ?_)
  intro _
  have Dn := Pn.2.2.2.1
  have bad : ¬ tC t n 40 (tE t n p) → Q none (ah_wI (ah_wI g1 M 48 (nI (pw t n (tE t n p) 2).1)) M 49 (nI (pw t n (tE t n p) 2).2)) := fun y => by
    have un : pFew t n S p = .inl (pw t n (tE t n p) 2) := by unfold pFew; rw [if_neg y]
    refine K _ ⟨MC0.w2 m1, fun z hz => ?_, fun q' D' hz => ?_⟩
    · rw [un] at hz
      injection hz with hz
      subst hz
      exact Pn.wr hnB
    · rw [un] at hz; simp at hz
  rw [md3 Dn]
  refine ⟨fun s4 => wr_ok Dn Pn.2.2.2.2.1 (bad (fun y => s4 y.1)), fun s4 => ?_⟩
  rw [mv53 Pn.2.1 Dn (by omega) (c := 40) (by decide) (x := (40 : Int32)) rfl]
  refine ⟨fun y => wr_ok Dn Pn.2.2.2.2.1 (bad (fun u => y u.2)), fun y => ?_⟩
  have c40 : tC t n 40 (tE t n p) := ⟨s4, y⟩
  have a1' := tE_s a0.2 (tC_s c40)
  refine m_nx Pn (fun g2 m2 a2 Pn2 => ?_)
  intro _
  refine hS (d + 1) g2 b (tE t n (tE t n p)) _ _ Pn2 (fun g3 C3 => ?_) |> fun H => by
    rw [show d + 1 + c = d + c + 1 by omega] at H
    exact H
  intro _
  obtain ⟨C0, C1, C2⟩ := C3
  have m13 := (m1.tr m2).tr C0
  cases hF : S (tE t n (tE t n p)) with
  | inl z =>
    have un : pFew t n S p = .inl z := by unfold pFew; rw [if_pos c40, hF]
    have cf := C1 z hF
    refine ⟨fun _ => ?_, fun y => absurd y cf.n0.1⟩
    refine v_X8_readFew_49 (d := d + c) (m13.ly P1) ⟨fun y => absurd y cf.n0.2, fun _ => K g3 ⟨m13, fun y hy => ?_, fun q' D' hy => ?_⟩⟩
    · rw [un] at hy
      injection hy with hy
      subst hy
      exact cf
    · rw [un] at hy; simp at hy
  | inr z =>
    obtain ⟨q2, D2⟩ := z
    obtain ⟨r1, r2, r3, e2, r4, r5, r6, r7⟩ := C2 q2 D2 hF
    have pq := hSp _ _ _ a1'.2 hF
    have P2' := P'.nx m13 pq.2 r2 r1 r6 (by omega)
    have bad2 : ¬ tC t n 44 q2 → MX G mi_X8_readFew (d + c + 2) 49 [some (rv M), some (iv x), some (iv w)] [] (ah_wI (ah_wI g3 M 48 (nI (pw t n q2 2).1)) M 49 (nI (pw t n q2 2).2)) Q E := fun y => by
      have un : pFew t n S p = .inl (pw t n q2 2) := by unfold pFew; rw [if_pos c40, hF]; simp only; rw [if_neg y]
      have cf := P2'.wr hnB
      refine v_X8_readFew_49 (d := d + c) ((MC0.w2 m13).ly P1) ⟨fun y => absurd y cf.n0.2, fun _ => K _ ⟨MC0.w2 m13, fun z hz => ?_, fun q' D' hz => ?_⟩⟩
      · rw [un] at hz
        injection hz with hz
        subst hz
        exact cf
      · rw [un] at hz; simp at hz
    refine ⟨fun y => absurd r1 y, fun _ => ?_⟩
    rw [md3 r2]
    refine ⟨fun s4 => wr_ok r2 r1 (bad2 (fun y => s4 y.1)), fun s4 => ?_⟩
    rw [mv53 P2'.2.1 r2 (by omega) (c := 44) (by decide) (x := (44 : Int32)) rfl]
    refine ⟨fun y => wr_ok r2 r1 (bad2 (fun u => y u.2)), fun y => ?_⟩
    have c44 : tC t n 44 q2 := ⟨s4, y⟩
    refine m_Few_49 (b := b) (k := decide (tK 0 t n p = 7)) (A := D2) hw hS hSp hnB P2' c44 r4 r7 (fun g' m' K1 K2 => K g' ⟨m13.tr m', fun z hz => K1 z ?_, fun q' D' hz => ?_⟩)
    · unfold pFew at hz; rw [if_pos c40, hF] at hz; simp only at hz; rw [if_pos c44] at hz
      exact hz
    · unfold pFew at hz; rw [if_pos c40, hF] at hz; simp only at hz; rw [if_pos c44] at hz
      obtain ⟨s1, s2, s3, e3, s4, s5, s6, s7⟩ := K2 q' D' hz
      exact ⟨s1, s2, fun k hk => by rw [s3 k hk, r3 k hk, a2, a1], e3, s4, by omega, s6, s7⟩

theorem m_Atom (hW : ∀ d, mcon G M n t nm mi_X8_readWhole [none, none] B (d + c + 3) (x + 1) W) (hS : ∀ d, mcon G M n t nm mi_X8_readDeeper [] B (d + c) (x + 1) S) (hWp : pos n W) (hSp : pos n S) (hnB : n ≤ B) : mcon G M n t nm mi_X8_readAtom [none, none] B (d + c + 4) x (pAtom t n nm W S) := by
  intro h b p Q E P K
  have P' := P
  obtain ⟨P1, P2, P3, P4, P5, P6, P7, P8⟩ := P
  have flt : pAtom t n nm W S p = .inl (pw t n p 2) → Q none (ah_wI (ah_wI h M 48 (nI (pw t n p 2).1)) M 49 (nI (pw t n p 2).2)) := fun un => by
    refine K _ ⟨MC0.w2 mch.rf, fun z hz => ?_, fun q' D' hz => ?_⟩
    · rw [un] at hz
      injection hz with hz
      subst hz
      exact P'.wr hnB
    · rw [un] at hz; simp at hz
  have lea : ∀ g D', pAtom t n nm W S p = .inr (tE t n p, D') → MC0 M h g → MCr M n t b p (tE t n p) (fun m e => RD m b e D') h g → Q none g := fun g D' un m r => by
    refine K g ⟨m, fun z hz => ?_, fun q' D'' hz => ?_⟩
    · rw [un] at hz; simp at hz
    · rw [un] at hz
      injection hz with hz
      injection hz with z1 z2
      subst z1; subst z2
      exact r
  have wrd : ¬ tC t n 40 p → ¬ (tK 0 t n p = 6 ∨ tK 0 t n p = 7) → tS t n p ≠ 3 → MX G mi_X8_variable (d + c + 3) 0 [some (rv M)] [] h (Qi fun r6 h5 => ah_ext h h5 → MX G mi_X8_named (d + c + 3) 0 [some (rv M), none] [] h5 (Qi fun r8 h7 => ah_ext h5 h7 → (0 ≤ r6 → MX G mi_X8_readAtom (d + c + 4) 164 [some (rv M), none, some (iv r6), some (iv r8)] [] h7 Q E) ∧ (¬ 0 ≤ r6 → (0 ≤ r8 → MX G mi_X8_readAtom (d + c + 4) 164 [some (rv M), none, some (iv r6), some (iv r8)] [] h7 Q E) ∧ (¬ 0 ≤ r8 → (¬ (ah_I h7 M 50) = (1 : Int32) → (¬ (ah_I h7 M 50) = (4 : Int32) → ((ah_I h7 M 48) ≤ 0 → ∀ h14 : ah_T, h14 = ah_wI h7 M 48 (2 : Int32) → ah_ext h7 h14 → ∀ h15 : ah_T, h15 = ah_wI h14 M 49 (ah_I h7 M 51) → ah_ext h14 h15 → Q none h15) ∧ (¬ (ah_I h7 M 48) ≤ 0 → Q none h7)) ∧ ((ah_I h7 M 50) = (4 : Int32) → ((ah_I h7 M 48) ≤ 0 → ∀ h17 : ah_T, h17 = ah_wI h7 M 48 (1 : Int32) → ah_ext h7 h17 → ∀ h18 : ah_T, h18 = ah_wI h17 M 49 (ah_I h7 M 51) → ah_ext h17 h18 → Q none h18) ∧ (¬ (ah_I h7 M 48) ≤ 0 → Q none h7))) ∧ ((ah_I h7 M 50) = (1 : Int32) → MX G mi_X8_isKept (d + c + 3) 0 [some (rv M)] [] h7 (Qi fun r20 h19 => ah_ext h7 h19 → (¬ r20 = 0 → (¬ (ah_I h19 M 50) = (4 : Int32) → ((ah_I h19 M 48) ≤ 0 → ∀ h24 : ah_T, h24 = ah_wI h19 M 48 (2 : Int32) → ah_ext h19 h24 → ∀ h25 : ah_T, h25 = ah_wI h24 M 49 (ah_I h19 M 51) → ah_ext h24 h25 → Q none h25) ∧ (¬ (ah_I h19 M 48) ≤ 0 → Q none h19)) ∧ ((ah_I h19 M 50) = (4 : Int32) → ((ah_I h19 M 48) ≤ 0 → ∀ h27 : ah_T, h27 = ah_wI h19 M 48 (1 : Int32) → ah_ext h19 h27 → ∀ h28 : ah_T, h28 = ah_wI h27 M 49 (ah_I h19 M 51) → ah_ext h27 h28 → Q none h28) ∧ (¬ (ah_I h19 M 48) ≤ 0 → Q none h19))) ∧ (r20 = 0 → ((ah_I h19 M 48) ≤ 0 → ∀ h30 : ah_T, h30 = ah_wI h19 M 48 (6 : Int32) → ah_ext h19 h30 → ∀ h31 : ah_T, h31 = ah_wI h30 M 49 (ah_I h19 M 51) → ah_ext h30 h31 → (¬ (ah_I h19 M 50) = (4 : Int32) → Q none h31) ∧ ((ah_I h19 M 50) = (4 : Int32) → Q none h31)) ∧ (¬ (ah_I h19 M 48) ≤ 0 → (¬ (ah_I h19 M 50) = (4 : Int32) → Q none h19) ∧ ((ah_I h19 M 50) = (4 : Int32) → Q none h19)))) E)))) E) E := fun n40 n67 n3 => by
    refine m_variable P1 P4 (fun r6 h6 => ?_)
    intro _
    refine m_named P1 P2 P3 P4 P8 (fun r8 h8 => ?_)
    intro _
    have b1 := tK1_bd (t := t) (n := n) (p := p)
    have b2 := nix_bd (t := t) (n := n) (nm := nm) (p := p)
    have l10 := P8.1
    have un0 : pAtom t n nm W S p = (if tS t n p = 2 ∧ tK 0 t n p = -1 then
    (if 0 ≤ tK 1 t n p then .inr (tE t n p, fun v _ => some (v (tK 1 t n p).toNat)) else if 0 ≤ nix t n nm p then .inr (tE t n p, fun _ d => d (nix t n nm p).toNat) else .inl (6, tF t n p))
  else .inl (pw t n p 2)) := by
      unfold pAtom
      rw [if_neg n40, if_neg n67, if_neg n3]
    have kn : tS t n p = 2 → tK 0 t n p ≠ -1 → tK 1 t n p = -1 ∧ nix t n nm p = -1 := kept_no P8
    have ns : tS t n p ≠ 2 → tK 1 t n p = -1 ∧ nix t n nm p = -1 := fun z => ⟨by unfold tK; rw [if_neg z], by unfold nix; rw [if_neg (fun w => z w.1)]⟩
    have go : (0 ≤ tK 1 t n p ∨ 0 ≤ nix t n nm p) → MX G mi_X8_readAtom (d + c + 4) 164 [some (rv M), none, some (iv r6), some (iv r8)] [] h Q E := fun hz => by
      have s2 : tS t n p = 2 := by
        apply Classical.byContradiction
        intro z
        have := ns z
        omega
      have k0 : tK 0 t n p = -1 := by
        apply Classical.byContradiction
        intro z
        have := kn s2 z
        omega
      rw [if_pos ⟨s2, k0⟩] at un0
      refine v_X8_readAtom_164 (d := d + c + 2) P1 ?_
      rw [i3_lt, h6, i3_0]
      refine ⟨fun z => ?_, fun z => ?_⟩
      · have e8 : r8 = nI (nix t n nm p).toNat := i3_nI (by rw [h8]; omega) (by omega)
        rw [if_neg (by omega), if_pos (by omega)] at un0
        rw [e8]
        refine m_leaf (D := fun _ d => d (nix t n nm p).toNat) P' (by rw [s2]; decide) (fun m hm => RD.def_ (by omega) ?_) (fun g m r => lea g _ un0 m r)
        rw [hm]; exact encE rfl rfl
      · have e6 : r6 = nI (tK 1 t n p).toNat := i3_nI (by rw [h6]; omega) (by omega)
        rw [if_pos (by omega)] at un0
        rw [e6]
        refine m_leaf (D := fun v _ => some (v (tK 1 t n p).toNat)) P' (by rw [s2]; decide) (fun m hm => RD.var (by omega) ?_) (fun g m r => lea g _ un0 m r)
        rw [hm]; exact encE rfl rfl
    rw [i3_le, i3_le, h6, h8, i3_0]
    refine ⟨fun z => go (Or.inl z), fun z => ⟨fun z2 => go (Or.inr z2), fun z2 => ?_⟩⟩
    rw [md1 P4]
    refine ⟨fun s2 => wr_ok P4 P5 (flt ?_), fun s2 => ?_⟩
    · rw [un0, if_neg (fun w => s2 w.1)]
    · refine m_isKept (d := d + c + 1) P1 P4 (fun _ kk => ?_) (fun kk => ?_)
      · intro _
        refine ⟨fun _ => wr_ok P4 P5 (flt ?_), fun w => absurd w (by decide)⟩
        rw [un0, if_neg (fun w => kk w.2)]
      · intro _
        refine ⟨fun w => absurd rfl w, fun _ => ?_⟩
        rw [if_pos ⟨s2, kk⟩, if_neg (by omega), if_neg (by omega)] at un0
        rw [P5]
        refine ⟨fun _ h30 e30 _ h31 e31 _ => ?_, fun w => absurd le00 w⟩
        rw [P4.2.2.1] at e31
        subst e30; subst e31
        have fin : Q none (ah_wI (ah_wI h M 48 6) M 49 (nI (tF t n p))) := by
          refine K _ ⟨MC0.w2 mch.rf, fun z hz => ?_, fun q' D' hz => ?_⟩
          · rw [un0] at hz
            injection hz with hz
            subst hz
            exact MCf.w (f := (6, tF t n p)) ⟨by show 1 ≤ 6; decide, by show 6 ≤ 6; decide⟩ P6 (by omega)
          · rw [un0] at hz; simp at hz
        exact ⟨fun _ => fin, fun _ => fin⟩
  have few : tK 0 t n p = 6 ∨ tK 0 t n p = 7 → ¬ tC t n 40 p → ∀ w : Int32, w = nI (if decide (tK 0 t n p = 7) = true then 9 else 8) → MX G mi_X8_readFew (d + c + 3) 0 [some (rv M), some (iv x), some (iv w)] [] h (Qv fun h65 => ah_ext h h65 → Q none h65) E := fun h67 n40 w hw => by
    have s2 : tS t n p = 2 := by
      rcases h67 with z | z
      · exact tK_2 (k := 6) z
      · exact tK_2 (k := 7) z
    have un : pAtom t n nm W S p = pFew t n S p := by unfold pAtom; rw [if_neg n40, if_pos h67]
    refine m_Few (d := d + 1) hw hS hSp hnB P' (by rw [s2]; decide) (fun g C2 => ?_) |> fun H => by
      rw [show d + 1 + c + 2 = d + c + 3 by omega] at H
      exact H
    intro _
    rw [← un] at C2
    exact K g C2
  have wd2 : tS t n p = 2 → (¬ ah_J h M 55 = (12748404 : Int64) → (¬ ah_J h M 55 = (441972 : Int64) → MX G mi_X8_variable (d + c + 3) 0 [some (rv M)] [] h (Qi fun r6 h5 => ah_ext h h5 → MX G mi_X8_named (d + c + 3) 0 [some (rv M), none] [] h5 (Qi fun r8 h7 => ah_ext h5 h7 → (0 ≤ r6 → MX G mi_X8_readAtom (d + c + 4) 164 [some (rv M), none, some (iv r6), some (iv r8)] [] h7 Q E) ∧ (¬ 0 ≤ r6 → (0 ≤ r8 → MX G mi_X8_readAtom (d + c + 4) 164 [some (rv M), none, some (iv r6), some (iv r8)] [] h7 Q E) ∧ (¬ 0 ≤ r8 → (¬ (ah_I h7 M 50) = (1 : Int32) → (¬ (ah_I h7 M 50) = (4 : Int32) → ((ah_I h7 M 48) ≤ 0 → ∀ h14 : ah_T, h14 = ah_wI h7 M 48 (2 : Int32) → ah_ext h7 h14 → ∀ h15 : ah_T, h15 = ah_wI h14 M 49 (ah_I h7 M 51) → ah_ext h14 h15 → Q none h15) ∧ (¬ (ah_I h7 M 48) ≤ 0 → Q none h7)) ∧ ((ah_I h7 M 50) = (4 : Int32) → ((ah_I h7 M 48) ≤ 0 → ∀ h17 : ah_T, h17 = ah_wI h7 M 48 (1 : Int32) → ah_ext h7 h17 → ∀ h18 : ah_T, h18 = ah_wI h17 M 49 (ah_I h7 M 51) → ah_ext h17 h18 → Q none h18) ∧ (¬ (ah_I h7 M 48) ≤ 0 → Q none h7))) ∧ ((ah_I h7 M 50) = (1 : Int32) → MX G mi_X8_isKept (d + c + 3) 0 [some (rv M)] [] h7 (Qi fun r20 h19 => ah_ext h7 h19 → (¬ r20 = 0 → (¬ (ah_I h19 M 50) = (4 : Int32) → ((ah_I h19 M 48) ≤ 0 → ∀ h24 : ah_T, h24 = ah_wI h19 M 48 (2 : Int32) → ah_ext h19 h24 → ∀ h25 : ah_T, h25 = ah_wI h24 M 49 (ah_I h19 M 51) → ah_ext h24 h25 → Q none h25) ∧ (¬ (ah_I h19 M 48) ≤ 0 → Q none h19)) ∧ ((ah_I h19 M 50) = (4 : Int32) → ((ah_I h19 M 48) ≤ 0 → ∀ h27 : ah_T, h27 = ah_wI h19 M 48 (1 : Int32) → ah_ext h19 h27 → ∀ h28 : ah_T, h28 = ah_wI h27 M 49 (ah_I h19 M 51) → ah_ext h27 h28 → Q none h28) ∧ (¬ (ah_I h19 M 48) ≤ 0 → Q none h19))) ∧ (r20 = 0 → ((ah_I h19 M 48) ≤ 0 → ∀ h30 : ah_T, h30 = ah_wI h19 M 48 (6 : Int32) → ah_ext h19 h30 → ∀ h31 : ah_T, h31 = ah_wI h30 M 49 (ah_I h19 M 51) → ah_ext h30 h31 → (¬ (ah_I h19 M 50) = (4 : Int32) → Q none h31) ∧ ((ah_I h19 M 50) = (4 : Int32) → Q none h31)) ∧ (¬ (ah_I h19 M 48) ≤ 0 → (¬ (ah_I h19 M 50) = (4 : Int32) → Q none h19) ∧ ((ah_I h19 M 50) = (4 : Int32) → Q none h19)))) E)))) E) E) ∧ (ah_J h M 55 = (441972 : Int64) → MX G mi_X8_readFew (d + c + 3) 0 [some (rv M), some (iv x), some (iv (9 : Int32))] [] h (Qv fun h65 => ah_ext h h65 → Q none h65) E)) ∧ (ah_J h M 55 = (12748404 : Int64) → MX G mi_X8_readFew (d + c + 3) 0 [some (rv M), some (iv x), some (iv (8 : Int32))] [] h (Qv fun h67 => ah_ext h h67 → Q none h67) E) := fun s2 => by
    have n40 : ¬ tC t n 40 p := fun z => by have := z.1; omega
    have w6 : ah_J h M 55 = (12748404 : Int64) ↔ tK 0 t n p = 6 := (mw P4 s2 (by decide) rfl).trans ⟨fun w => (tK0 6 (by decide)).2 ⟨s2, w⟩, fun w => ((tK0 6 (by decide)).1 w).2⟩
    have w7 : ah_J h M 55 = (441972 : Int64) ↔ tK 0 t n p = 7 := (mw P4 s2 (by decide) rfl).trans ⟨fun w => (tK0 7 (by decide)).2 ⟨s2, w⟩, fun w => ((tK0 7 (by decide)).1 w).2⟩
    rw [w6, w7]
    refine ⟨fun z6 => ⟨fun z7 => wrd n40 (fun z => by rcases z with z | z; exact z6 z; exact z7 z) (by omega), fun z7 => few (Or.inr z7) n40 _ ?_⟩, fun z6 => few (Or.inl z6) n40 _ ?_⟩
    · rw [if_pos (decide_eq_true z7)]; rfl
    · rw [if_neg (fun z => by have := of_decide_eq_true z; omega)]; rfl
  refine v_X8_readAtom (d := d + c + 2) P1 ?_
  rw [P5, md2 P4, md3 P4, md1 P4]
  refine ⟨fun _ => ⟨fun n3 => ⟨fun n4 => ⟨fun n2 => wrd (fun z => n4 z.1) (fun z => n2 (by rcases z with z | z; exact tK_2 (k := 6) z; exact tK_2 (k := 7) z)) n3, fun s2 => wd2 s2⟩, fun s4 => ?_⟩, fun s3 => ?_⟩, fun w => absurd le00 w⟩
  · rw [mv53 P2 P4 (by omega) (c := 40) (by decide) (x := (40 : Int32)) rfl]
    refine ⟨fun n40 => ⟨fun n2 => wrd (fun z => n40 z.2) (fun z => n2 (by rcases z with z | z; exact tK_2 (k := 6) z; exact tK_2 (k := 7) z)) n3, fun s2 => by omega⟩, fun e40 => ?_⟩
    have c40 : tC t n 40 p := ⟨s4, e40⟩
    have a := tE_s P3 (tC_s c40)
    refine m_nx P' (fun g1 m1 a1 Pn => ?_)
    intro _
    refine hW d g1 b (tE t n p) _ _ Pn (fun g2 C2 => ?_)
    intro _
    obtain ⟨C0, C1, C2⟩ := C2
    have m12 := m1.tr C0
    cases hF : W (tE t n p) with
    | inl z =>
      have un : pAtom t n nm W S p = .inl z := by unfold pAtom; rw [if_pos c40, hF]
      have cf := C1 z hF
      refine ⟨fun _ => K g2 ⟨m12, fun y hy => ?_, fun q' D' hy => ?_⟩, fun y => absurd y cf.n0.1⟩
      · rw [un] at hy
        injection hy with hy
        subst hy
        exact cf
      · rw [un] at hy; simp at hy
    | inr z =>
      obtain ⟨q2, D2⟩ := z
      obtain ⟨r1, r2, r3, e2, r4, r5, r6, r7⟩ := C2 q2 D2 hF
      have pq := hWp _ _ _ a.2 hF
      have P2' := P'.nx m12 pq.2 r2 r1 r6 (by omega)
      have bad : ¬ tC t n 41 q2 → Q none (ah_wI (ah_wI g2 M 48 (nI (pw t n q2 2).1)) M 49 (nI (pw t n q2 2).2)) := fun y => by
        have un : pAtom t n nm W S p = .inl (pw t n q2 2) := by unfold pAtom; rw [if_pos c40, hF]; simp only; rw [if_neg y]
        refine K _ ⟨MC0.w2 m12, fun z hz => ?_, fun q' D' hz => ?_⟩
        · rw [un] at hz
          injection hz with hz
          subst hz
          exact P2'.wr hnB
        · rw [un] at hz; simp at hz
      refine ⟨fun y => absurd r1 y, fun _ => ?_⟩
      rw [md3 r2]
      refine ⟨fun s4 => wr_ok r2 r1 (bad (fun y => s4 y.1)), fun s4 => ?_⟩
      rw [mv53 P2'.2.1 r2 (by omega) (c := 41) (by decide) (x := (41 : Int32)) rfl]
      refine ⟨fun y => wr_ok r2 r1 (bad (fun u => y u.2)), fun y => ?_⟩
      have c41 : tC t n 41 q2 := ⟨s4, y⟩
      have un : pAtom t n nm W S p = .inr (tE t n q2, D2) := by unfold pAtom; rw [if_pos c40, hF]; simp only; rw [if_pos c41]
      have a2 := tE_s pq.2 (tC_s c41)
      refine m_nx P2' (fun g3 m3 a3 P3' => ?_)
      intro _
      refine K g3 ⟨m12.tr m3, fun z hz => ?_, fun q' D' hz => ?_⟩
      · rw [un] at hz; simp at hz
      · rw [un] at hz
        injection hz with hz
        injection hz with z1 z2
        subst z1; subst z2
        exact ⟨P3'.2.2.2.2.1, P3'.2.2.2.1, fun k hk => by rw [a3, r3 k hk, a1], e2, r4, by omega, P3'.2.2.2.2.2.1, r7.ag (fun j _ _ => (a3 j).symm)⟩
  · have n40 : ¬ tC t n 40 p := fun z => by have := z.1; omega
    have n67 : ¬ (tK 0 t n p = 6 ∨ tK 0 t n p = 7) := fun z => by
      have : tS t n p = 2 := by
        rcases z with z | z
        · exact tK_2 (k := 6) z
        · exact tK_2 (k := 7) z
      omega
    have un : pAtom t n nm W S p = .inr (tE t n p, fun _ _ => some (lN (tV t n p))) := by
      unfold pAtom
      rw [if_neg n40, if_neg n67, if_neg (fun z => by omega), if_pos s3]
    have vl := tV_lt (p := p) P2 (by omega)
    rw [P4.2.2.2.2.1 (by omega)]
    refine m_leaf (D := fun _ _ => some (lN (tV t n p))) P' (by omega) (fun m hm => RD.num (by omega) ?_) (fun g m r => lea g _ un m r)
    rw [hm]; exact encE rfl rfl
end

/-! ===== acts: the model reads, by levels ===== -/
section
variable {G : ma_G} {d M n p q b e B c : Nat} {h g g2 : ah_T} {t : Nat → Nat} {nm : List Nat} {Q : Option ma_V → ah_T → Prop} {E : Nat → ah_T → Prop} {x : Int32} {D : PD} {W S U : Nat → PR}
theorem pSum_no (h : ¬ tB t n p) : pSum t n nm W S p = .inl (pw t n p 2) := by
  have n3 : tS t n p ≠ 3 := fun z => h (Or.inl z)
  have n40 : ¬ tC t n 40 p := fun z => h (Or.inr (Or.inl z))
  have n67 : ¬ (tK 0 t n p = 6 ∨ tK 0 t n p = 7) := fun z => h (Or.inr (Or.inr (by rcases z with z | z; exact Or.inl z; exact Or.inr (Or.inl z))))
  have n2 : ¬ (tS t n p = 2 ∧ tK 0 t n p = -1) := fun z => h (Or.inr (Or.inr (Or.inr (Or.inr z))))
  have a : pAtom t n nm W S p = .inl (pw t n p 2) := by
    unfold pAtom
    rw [if_neg n40, if_neg n67, if_neg n2, if_neg n3]
  unfold pSum pChain pItem pChain
  rw [a]
theorem m_Whole_74 {f : Nat × Nat} (L : LY8 g M) (cf : MCf M B f g) (K : Q none g) : MX G mi_X8_readWhole (d + 2) 74 [some (rv M), some (iv x), none, none] [] g Q E := v_X8_readWhole_74 L ⟨fun y => absurd y cf.n0.2, fun _ => K⟩
theorem m_Whole_123 {f : Nat × Nat} {x2 : Int32} (L : LY8 g M) (cf : MCf M B f g) (K : Q none g) : MX G mi_X8_readWhole (d + 2) 123 [some (rv M), some (iv x), some (iv x2), none] [] g Q E := v_X8_readWhole_123 L ⟨fun y => absurd y cf.n0.2, fun _ => K⟩
theorem m_Whole_26 {f : Nat × Nat} (L : LY8 g M) (cf : MCf M B f g) (K : Q none g) : MX G mi_X8_readWhole (d + 2) 26 [some (rv M), some (iv x), none, none] [] g Q E := v_X8_readWhole_26 L ⟨fun y => absurd y cf.n0.2, fun _ => K⟩
/-- behind a test and its 'then' -/
theorem m_Whole_then {b1 : PB} (hW : ∀ d, mcon G M n t nm mi_X8_readWhole [none, none] B (d + c + 1) (x + 1) W) (hWp : pos n W) (hnB : n ≤ B) (P : MP g M n t nm e q) (hq : tK 0 t n q = 1) (hbe : b ≤ e) (R : RB (ah_I g (M + 41)) b e b1)
    (K : ∀ g', MC0 M g g' → (∀ z, (match W (tE t n q) with
      | .inl e => (.inl e : PR)
      | .inr (q2, A) => if tK 0 t n q2 = 2 then (match W (tE t n q2) with
        | .inl e => .inl e
        | .inr (q3, B) => .inr (q3, fun v d => if b1 v d then A v d else B v d)) else .inl (pw t n q2 2)) = .inl z → MCf M B z g') → (∀ q' D', (match W (tE t n q) with
      | .inl e => (.inl e : PR)
      | .inr (q2, A) => if tK 0 t n q2 = 2 then (match W (tE t n q2) with
        | .inl e => .inl e
        | .inr (q3, B) => .inr (q3, fun v d => if b1 v d then A v d else B v d)) else .inl (pw t n q2 2)) = .inr (q', D') → ah_I g' M 48 = 0 ∧ rdM g' M n t q' ∧ (∀ j, j < b → ah_I g' (M + 41) j = ah_I g (M + 41) j) ∧ ∃ e', b ≤ e' ∧ e' + q ≤ q' + e ∧ ah_I g' M 58 = nI e' ∧ RD (ah_I g' (M + 41)) b e' D') → Q none g') :
    MX G mi_X8_readWhole (d + c + 2) 74 [some (rv M), some (iv x), none, none] [] g Q E := by
  have P' := P
  obtain ⟨P1, P2, P3, P4, P5, P6, P7, P8⟩ := P
  have n5 := P2.1
  have s2 := tK_2 (k := 1) hq
  have a := tE_s P3 (by rw [s2]; decide)
  refine v_X8_readWhole_74 (d := d + c) P1 ⟨fun _ => ?_, fun y => absurd (by rw [P5]; exact le00) y⟩
  refine ⟨by rw [P6]; exact vp_in_nI (by omega) (by decide), fun h3 e3 _ h4 e4 _ => ?_⟩
  rw [P6, nI_clamp (by omega)] at e3
  rw [P6]
  subst e3
  rw [P6] at e4
  have m4 : MC0 M g h4 := by rw [e4]; exact MC0.mk mch.rf
  have D4 : rdM h4 M n t q := by rw [e4]; exact P4.mk
  have x48 : ah_I h4 M 48 = 0 := by rw [e4, rd_Ik (by decide), rd_Ia (by omega)]; exact P5
  have x58 : ah_I h4 M 58 = nI (e + 1) := by rw [e4, rd_Ih, nI_1]
  have at4 : ∀ j, ah_I h4 (M + 41) j = if j = e then enc 15 0 else ah_I g (M + 41) j := fun j => by rw [e4, mk_at, encE (w := 15) (v := 0) (y := (15 : Int32)) (z := (0 : Int32)) rfl rfl]
  clear e4
  obtain ⟨f1, f2, f3⟩ := P'.fr m4
  have bE := tE_bd (t := t) P3
  refine m_next f1 f2 bE.2.1 D4.1 D4.2.2.2.1 (fun g5 mn D5 => ?_)
  intro _
  have m5 : MC0 M g g5 := m4.tr (mn.mono (by decide) (by decide))
  have at5 : ∀ j, ah_I g5 (M + 41) j = if j = e then enc 15 0 else ah_I g (M + 41) j := fun j => by rw [mn.ar 41 (by decide) (by decide)]; exact at4 j
  have Pn : MP g5 M n t nm (e + 1) (tE t n q) := P'.nx m5 a.2 D5 (by rw [mn.sc 48 (by decide) (by decide)]; exact x48) (by rw [mn.sc 58 (by decide) (by decide)]; exact x58) (by omega)
  refine hW d g5 (e + 1) (tE t n q) _ _ Pn (fun g7 C7 => ?_)
  intro _
  obtain ⟨C0, C1, C2⟩ := C7
  have m7 := m5.tr C0
  cases hF : W (tE t n q) with
  | inl z =>
    have cf := C1 z hF
    refine ⟨fun _ => m_Whole_123 (m7.ly P1) cf (K g7 m7 (fun y hy => ?_) (fun q' D' hy => ?_)), fun y => absurd y cf.n0.1⟩
    · rw [hF] at hy
      injection hy with hy
      subst hy
      exact cf
    · rw [hF] at hy; simp at hy
  | inr z =>
    obtain ⟨q2, A⟩ := z
    obtain ⟨r1, r2, r3, e2, r4, r5, r6, r7⟩ := C2 q2 A hF
    have pq := hWp _ _ _ a.2 hF
    have P2' := P'.nx m7 pq.2 r2 r1 r6 (by omega)
    rw [hF] at K
    simp only at K
    have bad : tK 0 t n q2 ≠ 2 → MX G mi_X8_readWhole (d + c + 2) 123 [some (rv M), some (iv x), some (iv (nI e)), none] [] (ah_wI (ah_wI g7 M 48 (nI (pw t n q2 2).1)) M 49 (nI (pw t n q2 2).2)) Q E := fun y => by
      rw [if_neg y] at K
      have cf := P2'.wr hnB
      refine m_Whole_123 ((MC0.w2 m7).ly P1) cf (K _ (MC0.w2 m7) (fun z hz => ?_) (fun q' D' hz => by simp at hz))
      injection hz with hz
      subst hz
      exact cf
    refine ⟨fun y => absurd r1 y, fun _ => ?_⟩
    rw [md1 r2]
    refine ⟨fun s => wr_ok r2 r1 (bad (fun y => s (tK_2 (k := 2) y))), fun s => ?_⟩
    rw [mkey r2 s (k := 2) (by decide) (y := (176741 : Int64)) rfl (by decide)]
    refine ⟨fun y => wr_ok r2 r1 (bad y), fun y => ?_⟩
    have y2 : tK 0 t n q2 = 2 := y
    rw [if_pos y2] at K
    have a2 := tE_s pq.2 (by rw [s]; decide)
    refine v_X8_readWhole_123 (d := d + c) (m7.ly P1) ⟨fun _ => ?_, fun y => absurd (by rw [r1]; exact le00) y⟩
    refine ⟨by rw [r6]; exact vp_in_nI (by omega) (by decide), fun k3 ek3 _ k4 ek4 _ => ?_⟩
    rw [r6, nI_clamp (n := e2) (by omega)] at ek3
    rw [r6] at ek4
    refine ⟨vp_in_nI (by omega) (by decide), fun k6 ek6 _ => ?_⟩
    rw [r6, nI_clamp (n := e) (by omega)] at ek6
    subst ek3
    have xe : ah_I (ah_wI g7 (M + 41) e2 ((1048576 : Int32) * 16 + 0)) (M + 41) e = enc 15 0 := by
      rw [rd_Ik (by omega), r3 e (by omega), at5, if_pos rfl]
    rw [xe, nI_1, show enc 15 0 + nI (e2 + 1) = enc 15 (e2 + 1) from by unfold enc; rw [nI_add]] at ek6
    have m6 : MC0 M g k6 := by rw [ek6, ek4]; exact (MC0.mk m7).wI (by decide)
    have D6 : rdM k6 M n t q2 := by
      rw [ek6, ek4]
      have dd := r2.mk (k := e2) (v := (1048576 : Int32) * 16 + 0) (w := nI e2 + 1)
      obtain ⟨d1, d2, d3, d4, d5, d6⟩ := dd
      refine ⟨?_, ?_, ?_, ?_, fun z => ?_, fun z => ⟨?_, ?_⟩⟩
      · rw [rd_Ia (by omega)]; exact d1
      · rw [rd_Ia (by omega)]; exact d2
      · rw [rd_Ia (by omega)]; exact d3
      · rw [rd_Ia (by omega)]; exact d4
      · rw [rd_Ia (by omega)]; exact d5 z
      · rw [rd_JI]; exact (d6 z).1
      · rw [rd_Ia (by omega)]; exact (d6 z).2
    have y48 : ah_I k6 M 48 = 0 := by rw [ek6, ek4, rd_Ia (by omega), rd_Ik (by decide), rd_Ia (by omega)]; exact r1
    have y58 : ah_I k6 M 58 = nI (e2 + 1) := by rw [ek6, ek4, rd_Ia (by omega), rd_Ih, nI_1]
    have at6 : ∀ j, ah_I k6 (M + 41) j = if j = e then enc 15 (e2 + 1) else if j = e2 then enc 16 0 else ah_I g7 (M + 41) j := fun j => by
      rw [ek6, rd_II]
      by_cases z : j = e
      · rw [if_pos ⟨rfl, z⟩, if_pos z]
      · rw [if_neg (fun w => z w.2), if_neg z, ek4, mk_at, encE (w := 16) (v := 0) (y := (16 : Int32)) (z := (0 : Int32)) rfl rfl]
    clear ek6 ek4
    obtain ⟨f1, f2, f3⟩ := P'.fr m6
    have bE2 := tE_bd (t := t) pq.2
    refine m_next f1 f2 bE2.2.1 D6.1 D6.2.2.2.1 (fun k7 mn7 D7 => ?_)
    intro _
    have m8 : MC0 M g k7 := m6.tr (mn7.mono (by decide) (by decide))
    have at7 : ∀ j, ah_I k7 (M + 41) j = if j = e then enc 15 (e2 + 1) else if j = e2 then enc 16 0 else ah_I g7 (M + 41) j := fun j => by rw [mn7.ar 41 (by decide) (by decide)]; exact at6 j
    have Pn2 : MP k7 M n t nm (e2 + 1) (tE t n q2) := P'.nx m8 a2.2 D7 (by rw [mn7.sc 48 (by decide) (by decide)]; exact y48) (by rw [mn7.sc 58 (by decide) (by decide)]; exact y58) (by omega)
    refine hW d k7 (e2 + 1) (tE t n q2) _ _ Pn2 (fun g9 C9 => ?_)
    intro _
    intro h11 e11 _
    rw [r6, nI_clamp (n := e2) (by omega)] at e11
    obtain ⟨F0, F1, F2⟩ := C9
    have m9 := m8.tr F0
    have m11 : MC0 M g h11 := by rw [e11]; exact m9.wI (by decide)
    cases hF2 : W (tE t n q2) with
    | inl z =>
      have cf := F1 z hF2
      rw [hF2] at K
      simp only at K
      refine K h11 m11 (fun y hy => ?_) (fun q' D' hy => by simp at hy)
      injection hy with hy
      subst hy
      obtain ⟨c1, c2, c3, c4, e5, c5, c6⟩ := cf
      rw [e11]
      exact ⟨by rw [rd_Ia (by omega)]; exact c1, c2, c3, by rw [rd_Ia (by omega)]; exact c4, e5, c5, by rw [rd_Ia (by omega)]; exact c6⟩
    | inr z =>
      obtain ⟨q3, B3⟩ := z
      obtain ⟨u1, u2, u3, e3, u4, u5, u6, u7⟩ := F2 q3 B3 hF2
      have pq3 := hWp _ _ _ a2.2 hF2
      rw [hF2] at K
      simp only at K
      refine K h11 m11 (fun y hy => by simp at hy) (fun q' D' hy => ?_)
      injection hy with hy
      injection hy with z1 z2
      subst z1; subst z2
      have at9 : ∀ j, j < e2 + 1 → ah_I g9 (M + 41) j = if j = e then enc 15 (e2 + 1) else if j = e2 then enc 16 0 else ah_I g7 (M + 41) j := fun j hj => by rw [u3 j hj]; exact at7 j
      rw [at9 e2 (by omega), if_neg (by omega), if_pos rfl, u6, show enc 16 0 + nI e3 = enc 16 e3 from by unfold enc; rw [nI_add]] at e11
      have at11 : ∀ j, ah_I h11 (M + 41) j = if j = e2 then enc 16 e3 else ah_I g9 (M + 41) j := fun j => by
        rw [e11, rd_II]
        by_cases z : j = e2
        · rw [if_pos ⟨rfl, z⟩, if_pos z]
        · rw [if_neg (fun w => z w.2), if_neg z]
      have b11 : ∀ j, j < e → ah_I h11 (M + 41) j = ah_I g (M + 41) j := fun j hj => by
        rw [at11, if_neg (by omega), at9 j (by omega), if_neg (by omega), if_neg (by omega), r3 j (by omega), at5, if_neg (by omega)]
      refine ⟨?_, ?_, fun j hj => b11 j (by omega), e3, by omega, by omega, ?_, ?_⟩
      · rw [e11, rd_Ia (by omega)]; exact u1
      · obtain ⟨d1, d2, d3, d4, d5, d6⟩ := u2
        rw [e11]
        refine ⟨?_, ?_, ?_, ?_, fun z => ?_, fun z => ⟨?_, ?_⟩⟩
        · rw [rd_Ia (by omega)]; exact d1
        · rw [rd_Ia (by omega)]; exact d2
        · rw [rd_Ia (by omega)]; exact d3
        · rw [rd_Ia (by omega)]; exact d4
        · rw [rd_Ia (by omega)]; exact d5 z
        · rw [rd_JI]; exact (d6 z).1
        · rw [rd_Ia (by omega)]; exact (d6 z).2
      · rw [e11, rd_Ia (by omega)]; exact u6
      · refine RD.cond (c := e) (e := e2) (R.ag (fun j j1 j2 => (b11 j j2).symm)) ?_ (r7.ag (fun j j1 j2 => ?_)) ?_ (u7.ag (fun j j1 j2 => ?_)) (by omega)
        · rw [at11, if_neg (by omega), at9 e (by omega), if_pos rfl]
        · rw [at11, if_neg (by omega), at9 j (by omega), if_neg (by omega), if_neg (by omega)]
        · rw [at11, if_pos rfl]
        · rw [at11, if_neg (by omega)]
theorem m_Whole {dp : Nat} (hd : dp ≤ 8) (hW : ∀ d, mcon G M n t nm mi_X8_readWhole [none, none] B (d + c + 1) (nI dp + 1) W) (hU : ∀ d, mcon G M n t nm mi_X8_readSum [none] B (d + c + 1) (nI dp) (pSum t n nm W S)) (hT : ∀ d, mcoB G M n t nm mi_X8_readTest [none] B (d + c + 1) (nI dp) (pTst t n (pSum t n nm W S))) (hWp : pos n W) (hSp : pos n S) (hnB : n ≤ B) (hc : 3 ≤ c) : mcon G M n t nm mi_X8_readWhole [none, none] B (d + c + 2) (nI dp) (fun p => if tK 0 t n p = 0 then pIf t n (pSum t n nm W S) W (tE t n p) else pSum t n nm W S p) := by
  intro h b p Q E P K
  have P' := P
  obtain ⟨P1, P2, P3, P4, P5, P6, P7, P8⟩ := P
  have xl : nI dp ≤ (8 : Int32) := nI_le hd (by decide)
  obtain ⟨c', rfl⟩ : ∃ c', c = c' + 3 := ⟨c - 3, by omega⟩
  refine v_X8_readWhole (d := d + (c' + 3)) P1 ?_
  refine m_canBegin (d := d + c') P1 P2 P4 (fun kb => ?_) (fun kb => ?_)
  · intro _
    refine ⟨fun _ => ⟨fun _ => ?_, fun y => absurd xl y⟩, fun y => absurd y (by decide)⟩
    have sm : tK 0 t n p ≠ 0 → MX G mi_X8_readSum (d + (c' + 3) + 1) 0 [some (rv M), some (iv (nI dp)), none] [] h (Qv fun h3 => ah_ext h h3 → Q none h3) E := fun z => by
      refine hU d h b p _ _ P' (fun g C2 => ?_)
      intro _
      refine K g ?_
      simp only
      rw [if_neg z]
      exact C2
    refine v_X8_readWhole_26 (d := d + (c' + 3)) P1 ?_
    rw [P5, md1 P4]
    refine ⟨fun _ => ⟨fun s2 => sm (fun z => s2 (tK_2 (k := 0) z)), fun s2 => ?_⟩, fun y => absurd le00 y⟩
    rw [mkey P4 s2 (k := 0) (by decide) (y := (294 : Int64)) rfl (by decide)]
    refine ⟨fun y => sm y, fun y => ?_⟩
    have y0 : tK 0 t n p = 0 := y
    simp only [if_pos y0] at K
    have a := tE_s P3 (by rw [s2]; decide)
    have hUp : pos n (pSum t n nm W S) := pos_sum hWp hSp
    refine m_nx P' (fun g1 m1 a1 Pn => ?_)
    intro _
    refine hT d g1 b (tE t n p) _ _ Pn (fun g2 C2 => ?_)
    intro _
    obtain ⟨C0, C1, C2⟩ := C2
    have m12 := m1.tr C0
    cases hF : pTst t n (pSum t n nm W S) (tE t n p) with
    | inl z =>
      have cf := C1 z hF
      have un := pIf_l (W := W) hF
      refine ⟨fun _ => m_Whole_74 (m12.ly P1) cf (K g2 ⟨m12, fun y hy => ?_, fun q' D' hy => ?_⟩), fun y => absurd y cf.n0.1⟩
      · rw [un] at hy
        injection hy with hy
        subst hy
        exact cf
      · rw [un] at hy; simp at hy
    | inr z =>
      obtain ⟨q1, b1⟩ := z
      obtain ⟨r1, r2, r3, e2, r4, r5, r6, r7⟩ := C2 q1 b1 hF
      have pq := pos_tst hUp a.2 hF
      have un := pIf_r (W := W) hF
      have P2' := P'.nx m12 pq.2 r2 r1 r6 (by omega)
      have bad : tK 0 t n q1 ≠ 1 → MX G mi_X8_readWhole (d + (c' + 3) + 2) 74 [some (rv M), some (iv (nI dp)), none, none] [] (ah_wI (ah_wI g2 M 48 (nI (pw t n q1 2).1)) M 49 (nI (pw t n q1 2).2)) Q E := fun y => by
        rw [if_neg y] at un
        have cf := P2'.wr hnB
        refine m_Whole_74 ((MC0.w2 m12).ly P1) cf (K _ ⟨MC0.w2 m12, fun z hz => ?_, fun q' D' hz => ?_⟩)
        · rw [un] at hz
          injection hz with hz
          subst hz
          exact cf
        · rw [un] at hz; simp at hz
      refine ⟨fun y => absurd r1 y, fun _ => ?_⟩
      rw [md1 r2]
      refine ⟨fun s => wr_ok r2 r1 (bad (fun y => s (tK_2 (k := 1) y))), fun s => ?_⟩
      rw [mkey r2 s (k := 1) (by decide) (y := (663726 : Int64)) rfl (by decide)]
      refine ⟨fun y => wr_ok r2 r1 (bad y), fun y => ?_⟩
      have y1 : tK 0 t n q1 = 1 := y
      rw [if_pos y1] at un
      refine m_Whole_then (b := b) (b1 := b1) hW hWp hnB P2' y1 r4 r7 (fun g' m' K1 K2 => K g' ⟨m12.tr m', fun z hz => K1 z (un.symm.trans hz), fun q' D' hz => ?_⟩)
      obtain ⟨s1, s2, s3, e3, s4, s5, s6, s7⟩ := K2 q' D' (un.symm.trans hz)
      exact ⟨s1, s2, fun k hk => by rw [s3 k hk, r3 k hk, a1], e3, s4, by omega, s6, s7⟩
  · intro _
    refine ⟨fun y => absurd rfl y, fun _ => ?_⟩
    have un : (if tK 0 t n p = 0 then pIf t n (pSum t n nm W S) W (tE t n p) else pSum t n nm W S p) = .inl (pw t n p 2) := by
      rw [if_neg (fun z => kb (Or.inl z))]
      exact pSum_no (fun z => kb (Or.inr z))
    have cf := P'.wr hnB
    have fin : MX G mi_X8_readWhole (d + (c' + 3) + 2) 26 [some (rv M), some (iv (nI dp)), none, none] [] (ah_wI (ah_wI h M 48 (nI (pw t n p 2).1)) M 49 (nI (pw t n p 2).2)) Q E := by
      refine m_Whole_26 ((MC0.w2 (M := M) mch.rf).ly P1) cf (K _ ⟨MC0.w2 mch.rf, fun z hz => ?_, fun q' D' hz => ?_⟩)
      · have hz := un.symm.trans hz
        injection hz with hz
        subst hz
        exact cf
      · have hz := un.symm.trans hz
        simp at hz
    exact wr_ok (W := fun h7 => (nI dp ≤ (8 : Int32) → MX G mi_X8_readWhole (d + (c' + 3) + 2) 26 [some (rv M), some (iv (nI dp)), none, none] [] h7 Q E) ∧ (¬ nI dp ≤ (8 : Int32) → MX G mi_X8_readWhole (d + (c' + 3) + 2) 26 [some (rv M), some (iv (nI dp)), none, none] [] h7 Q E)) P4 P5 ⟨fun _ => fin, fun _ => fin⟩
theorem m_Deeper {dp : Nat} (hd : dp ≤ 8) (hU : ∀ d, mcon G M n t nm mi_X8_readSum [none] B (d + c + 1) (nI dp) (pSum t n nm W S)) (hnB : n ≤ B) (hc : 2 ≤ c) : mcon G M n t nm mi_X8_readDeeper [] B (d + c + 2) (nI dp) (pSum t n nm W S) := by
  intro h b p Q E P K
  have P' := P
  obtain ⟨P1, P2, P3, P4, P5, P6, P7, P8⟩ := P
  have xl : nI dp ≤ (8 : Int32) := nI_le hd (by decide)
  obtain ⟨c', rfl⟩ : ∃ c', c = c' + 2 := ⟨c - 2, by omega⟩
  refine v_X8_readDeeper (d := d + (c' + 2)) P1 ?_
  refine m_canBeginSum (d := d + c') P1 P2 P4 (fun kb => ?_) (fun kb => ?_)
  · intro _
    refine ⟨fun _ => ?_, fun y => absurd y (by decide)⟩
    refine v_X8_readDeeper_11 (d := d + (c' + 2)) P1 ⟨fun _ => ⟨fun y => absurd P5 y, fun _ => ?_⟩, fun y => absurd xl y⟩
    refine hU d h b p _ _ P' (fun g C2 => ?_)
    intro _
    exact K g C2
  · intro _
    refine ⟨fun y => absurd rfl y, fun _ => ?_⟩
    have un := pSum_no (nm := nm) (W := W) (S := S) kb
    have cf := P'.wr hnB
    refine wr_ok P4 P5 ?_
    refine v_X8_readDeeper_11 (d := d + (c' + 2)) ((MC0.w2 (M := M) mch.rf).ly P1) ⟨fun _ => ⟨fun _ => K _ ⟨MC0.w2 mch.rf, fun z hz => ?_, fun q' D' hz => ?_⟩, fun y => absurd y cf.n0.1⟩, fun y => absurd xl y⟩
    · rw [un] at hz
      injection hz with hz
      subst hz
      exact cf
    · rw [un] at hz; simp at hz
theorem m_W0 (hnB : n ≤ B) : mcon G M n t nm mi_X8_readWhole [none, none] B (d + 7) (nI 9) (pL t n nm 0).1 ∧ mcon G M n t nm mi_X8_readDeeper [] B (d + 4) (nI 9) (pL t n nm 0).2 := by
  have x9 : ¬ nI 9 ≤ (8 : Int32) := by decide
  constructor
  · intro h b p Q E P K
    have P' := P
    obtain ⟨P1, P2, P3, P4, P5, P6, P7, P8⟩ := P
    refine v_X8_readWhole (d := d + 5) P1 ?_
    refine m_canBegin (d := d + 2) P1 P2 P4 (fun kb => ?_) (fun kb => ?_)
    · intro _
      refine ⟨fun _ => ⟨fun y => absurd y x9, fun _ => ⟨fun _ h6 e6 _ h7 e7 _ => ?_, fun y => absurd (by rw [P5]; exact le00) y⟩⟩, fun y => absurd y (by decide)⟩
      rw [P4.2.2.1] at e7
      subst e6; subst e7
      have un : (pL t n nm 0).1 p = .inl (5, tF t n p) := by
        unfold pL
        simp only
        rw [if_pos kb]
      have cf : MCf M B (5, tF t n p) (ah_wI (ah_wI h M 48 5) M 49 (nI (tF t n p))) := MCf.w (f := (5, tF t n p)) ⟨by show 1 ≤ 5; decide, by show 5 ≤ 6; decide⟩ P6 (by omega)
      refine m_Whole_26 (d := d + 5) ((MC0.w2 (M := M) mch.rf).ly P1) cf (K _ ⟨MC0.w2 mch.rf, fun z hz => ?_, fun q' D' hz => ?_⟩)
      · rw [un] at hz
        injection hz with hz
        subst hz
        exact cf
      · rw [un] at hz; simp at hz
    · intro _
      refine ⟨fun y => absurd rfl y, fun _ => ?_⟩
      have un : (pL t n nm 0).1 p = .inl (pw t n p 2) := by
        unfold pL
        simp only
        rw [if_neg kb]
      have cf := P'.wr hnB
      have fin : MX G mi_X8_readWhole (d + 7) 26 [some (rv M), some (iv (nI 9)), none, none] [] (ah_wI (ah_wI h M 48 (nI (pw t n p 2).1)) M 49 (nI (pw t n p 2).2)) Q E := by
        refine m_Whole_26 (d := d + 5) ((MC0.w2 (M := M) mch.rf).ly P1) cf (K _ ⟨MC0.w2 mch.rf, fun z hz => ?_, fun q' D' hz => ?_⟩)
        · rw [un] at hz
          injection hz with hz
          subst hz
          exact cf
        · rw [un] at hz; simp at hz
      exact wr_ok (W := fun h7 => (nI 9 ≤ (8 : Int32) → MX G mi_X8_readWhole (d + 7) 26 [some (rv M), some (iv (nI 9)), none, none] [] h7 Q E) ∧ (¬ nI 9 ≤ (8 : Int32) → MX G mi_X8_readWhole (d + 7) 26 [some (rv M), some (iv (nI 9)), none, none] [] h7 Q E)) P4 P5 ⟨fun _ => fin, fun _ => fin⟩
  · intro h b p Q E P K
    have P' := P
    obtain ⟨P1, P2, P3, P4, P5, P6, P7, P8⟩ := P
    refine v_X8_readDeeper (d := d + 2) P1 ?_
    refine m_canBeginSum (d := d) P1 P2 P4 (fun kb => ?_) (fun kb => ?_)
    · intro _
      refine ⟨fun _ => ?_, fun y => absurd y (by decide)⟩
      have un : (pL t n nm 0).2 p = .inl (5, tF t n p) := by
        unfold pL
        simp only
        rw [if_pos kb]
      refine v_X8_readDeeper_11 (d := d + 2) P1 ⟨fun y => absurd y x9, fun _ => ⟨fun _ h6 e6 _ h7 e7 _ => ?_, fun y => absurd (by rw [P5]; exact le00) y⟩⟩
      rw [P4.2.2.1] at e7
      subst e6; subst e7
      refine K _ ⟨MC0.w2 mch.rf, fun z hz => ?_, fun q' D' hz => ?_⟩
      · rw [un] at hz
        injection hz with hz
        subst hz
        exact MCf.w (f := (5, tF t n p)) ⟨by show 1 ≤ 5; decide, by show 5 ≤ 6; decide⟩ P6 (by omega)
      · rw [un] at hz; simp at hz
    · intro _
      refine ⟨fun y => absurd rfl y, fun _ => ?_⟩
      have un : (pL t n nm 0).2 p = .inl (pw t n p 2) := by
        unfold pL
        simp only
        rw [if_neg kb]
      have cf := P'.wr hnB
      refine wr_ok P4 P5 ?_
      refine v_X8_readDeeper_11 (d := d + 2) ((MC0.w2 (M := M) mch.rf).ly P1) ⟨fun y => absurd y x9, fun _ => ⟨fun y => absurd y cf.n0.2, fun _ => ⟨fun _ => K _ ⟨MC0.w2 mch.rf, fun z hz => ?_, fun q' D' hz => ?_⟩, fun y => absurd y cf.n0.1⟩⟩⟩
      · rw [un] at hz
        injection hz with hz
        subst hz
        exact cf
      · rw [un] at hz; simp at hz
theorem mcon.mn {mi : ma_M} {tl : List (Option ma_V)} {F : Nat → PR} {B' : Nat} (x' : mcon G M n t nm mi tl B d x F) (hB : B ≤ B') : mcon G M n t nm mi tl B' d x F := fun h b p Q E P K => x' h b p Q E P (fun g C2 => K g ⟨C2.1, fun f hf => (C2.2.1 f hf).mn hB, C2.2.2⟩)
theorem mcoB.mn {mi : ma_M} {tl : List (Option ma_V)} {F : Nat → PT} {B' : Nat} (x' : mcoB G M n t nm mi tl B d x F) (hB : B ≤ B') : mcoB G M n t nm mi tl B' d x F := fun h b p Q E P K => x' h b p Q E P (fun g C2 => K g ⟨C2.1, fun f hf => (C2.2.1 f hf).mn hB, C2.2.2⟩)
/-- all levels -/
theorem m_L (hn : n ≤ 500) : ∀ l, l ≤ 8 → ∀ d, mcon G M n t nm mi_X8_readWhole [none, none] (n + 4 * l) (d + 7 * l + 7) (nI (9 - l)) (pL t n nm l).1 ∧ mcon G M n t nm mi_X8_readDeeper [] (n + 4 * l) (d + 7 * l + 4) (nI (9 - l)) (pL t n nm l).2
  | 0, _, d => m_W0 (Nat.le_refl _)
  | l + 1, hl, d => by
    have ih := m_L hn l (by omega)
    obtain ⟨p1, p2⟩ := pos_L (t := t) (n := n) (nm := nm) l
    have e9 : nI (9 - (l + 1)) + 1 = nI (9 - l) := by rw [nI_1]; congr 1; omega
    have hW : ∀ d, mcon G M n t nm mi_X8_readWhole [none, none] (n + 4 * l) (d + (7 * l + 4) + 3) (nI (9 - (l + 1)) + 1) (pL t n nm l).1 := fun d => by
      rw [e9]; have := (ih d).1; rwa [show d + (7 * l + 4) + 3 = d + 7 * l + 7 by omega]
    have hS : ∀ d, mcon G M n t nm mi_X8_readDeeper [] (n + 4 * l) (d + (7 * l + 4)) (nI (9 - (l + 1)) + 1) (pL t n nm l).2 := fun d => by
      rw [e9]; have := (ih d).2; rwa [show d + (7 * l + 4) = d + 7 * l + 4 by omega]
    have pa := pos_atom (t := t) (nm := nm) p1 p2
    have hA : ∀ d, mcon G M n t nm mi_X8_readAtom [none, none] (n + 4 * l) (d + (7 * l + 7) + 1) (nI (9 - (l + 1))) (pAtom t n nm (pL t n nm l).1 (pL t n nm l).2) := fun d => by
      have := m_Atom (d := d) hW hS p1 p2 (Nat.le_add_right _ _)
      rwa [show d + (7 * l + 7) + 1 = d + (7 * l + 4) + 4 by omega]
    have hI : ∀ d, mcon G M n t nm mi_X8_readItem [none] (n + 4 * l + 1) (d + (7 * l + 8) + 1) (nI (9 - (l + 1))) (pItem t n nm (pL t n nm l).1 (pL t n nm l).2) := fun d => by
      have := m_Item (d := d) hA pa (by omega)
      rwa [show d + (7 * l + 8) + 1 = d + (7 * l + 7) + 2 by omega]
    have pi := pos_chain (t := t) (ops := [42, 47, 37]) pa
    have hU : ∀ d, mcon G M n t nm mi_X8_readSum [none] (n + 4 * l + 2) (d + (7 * l + 9) + 1) (nI (9 - (l + 1))) (pSum t n nm (pL t n nm l).1 (pL t n nm l).2) := fun d => by
      have := m_Sum (d := d) hI pi (by omega)
      rwa [show d + (7 * l + 9) + 1 = d + (7 * l + 8) + 2 by omega]
    have pu := pos_sum (t := t) (nm := nm) p1 p2
    have hO : ∀ d, mcoB G M n t nm mi_X8_readOne [none, none] (n + 4 * l + 3) (d + (7 * l + 10) + 1) (nI (9 - (l + 1))) (pOne t n (pSum t n nm (pL t n nm l).1 (pL t n nm l).2)) := fun d => by
      have := m_One (d := d) hU pu (by omega) (by omega)
      rwa [show d + (7 * l + 10) + 1 = d + (7 * l + 9) + 2 by omega]
    have hT : ∀ d, mcoB G M n t nm mi_X8_readTest [none] (n + 4 * l + 4) (d + (7 * l + 11) + 1) (nI (9 - (l + 1))) (pTst t n (pSum t n nm (pL t n nm l).1 (pL t n nm l).2)) := fun d => by
      have := m_Test (d := d) hO pu (by omega)
      rwa [show d + (7 * l + 11) + 1 = d + (7 * l + 10) + 2 by omega]
    constructor
    · have := m_Whole (d := d + 1) (c := 7 * l + 11) (dp := 9 - (l + 1)) (B := n + 4 * l + 4) (W := (pL t n nm l).1) (S := (pL t n nm l).2) (by omega) (fun d => by
        have := (hW (d + 5)).mn (B' := n + 4 * l + 4) (by omega)
        rwa [show d + (7 * l + 11) + 1 = d + 5 + (7 * l + 4) + 3 by omega]) (fun d => by
        have := (hU (d + 2)).mn (B' := n + 4 * l + 4) (by omega)
        rwa [show d + (7 * l + 11) + 1 = d + 2 + (7 * l + 9) + 1 by omega]) hT p1 p2 (by omega) (by omega)
      rw [show d + 7 * (l + 1) + 7 = d + 1 + (7 * l + 11) + 2 by omega, show n + 4 * (l + 1) = n + 4 * l + 4 by omega]
      exact this
    · have := (m_Deeper (d := d) (c := 7 * l + 9) (dp := 9 - (l + 1)) (W := (pL t n nm l).1) (S := (pL t n nm l).2) (by omega) hU (by omega) (by omega)).mn (B' := n + 4 * l + 4) (by omega)
      rw [show d + 7 * (l + 1) + 4 = d + (7 * l + 9) + 2 by omega, show n + 4 * (l + 1) = n + 4 * l + 4 by omega]
      exact this
end

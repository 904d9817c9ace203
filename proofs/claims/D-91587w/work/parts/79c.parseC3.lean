/-! ===== acts: the class's atom ===== -/
section
variable {G : ma_G} {A R W Lw n p q s c c1 d dp T lo : Nat} {h g g2 : ah_T} {t : Nat → Nat} {nm : List Nat} {Q : Option ma_V → ah_T → Prop} {E : Nat → ah_T → Prop} {x : Int32} {D : PD} {W' S : Nat → PR}
/-- a leaf made: kind k, of v -/
theorem c_leaf {k : Int32} {v : Int64} (m : pf (ah_sz h) R W h g) (hz : ah_sz h ≤ ah_sz g) (h2 : ah_T) (e2 : h2 = ah_new g 19 0 4) (X2 : ah_ext g h2) (K : ∀ g2, pf (ah_sz h) R W h g2 → ah_ext g g2 → (∀ a j, a ≠ ah_sz g → ah_R g2 a j = ah_R g a j ∧ ah_I g2 a j = ah_I g a j ∧ ah_J g2 a j = ah_J g a j) → ah_kd g2 (ah_sz g) = 19 → ah_R g2 (ah_sz g) 0 = 0 → ah_I g2 (ah_sz g) 2 = k → ah_J g2 (ah_sz g) 3 = v → ah_sz g2 = ah_sz g + 1 → ah_rc g2 = ah_rc g - 1 → ah_rs g2 = ah_rs g - 4 → Q none g2) :
    MX G mi_X21_init (d + 2) 0 [some (rv (ah_sz g)), some (iv k), some (jv v), none] [] h2 Q E := by
  have kd : ah_kd h2 (ah_sz g) = 19 := by rw [e2, rn_k, if_pos rfl]
  refine v_X21_init (d := d + 1) ⟨by rw [kd]; decide, v_X18_init ⟨by rw [kd]; decide, ?_⟩⟩
  intro _
  refine ⟨kd, fun h5 e5 X5 h6 e6 X6 => ?_⟩
  have xt := X2.tr (X5.tr X6)
  have ne : ∀ a j, a ≠ ah_sz g → ah_R h6 a j = ah_R g a j ∧ ah_I h6 a j = ah_I g a j ∧ ah_J h6 a j = ah_J g a j := fun a j z => by
    rw [e6, e5, e2]
    exact ⟨by rw [rd_RJ, rd_RI, rn_R, if_neg z], by rw [rd_IJ, rd_II, if_neg (fun w => z w.1), rn_I, if_neg z], by rw [rd_JJ, if_neg (fun w => z w.1), rd_JI, rn_J, if_neg z]⟩
  have nk : ∀ a, a ≠ ah_sz g → ah_kd h6 a = ah_kd g a := fun a z => by rw [e6, e5, e2, rd_kJ, rd_kI, rn_k, if_neg z]
  refine K h6 (m.tr ⟨xt, fun a ha => ?_⟩) xt ne ?_ ?_ ?_ ?_ ?_ ?_ ?_
  · obtain ⟨a1, a2, a3⟩ := ne a 0 (by omega)
    exact ⟨nk a (by omega), fun j => (ne a j (by omega)).1, fun j _ _ => (ne a j (by omega)).2.1, fun j _ => (ne a j (by omega)).2.2⟩
  · rw [e6, e5, rd_kJ, rd_kI]; exact kd
  · rw [e6, e5, e2, rd_RJ, rd_RI, rn_R, if_pos rfl]
  · rw [e6, e5, rd_IJ, rd_Ih]
  · rw [e6, rd_Jh]
  · rw [e6, e5, e2]; rfl
  · rw [e6, e5, e2]; rfl
  · rw [e6, e5, e2]; rfl
theorem c_atom (hW : ∀ d, ccon G A R W Lw n t nm mi_X5_whole [none, none] 1 4 (d + c + 3) (x + 1) dp W') (hS : ∀ d, ccon G A R W Lw n t nm mi_X5_inner [] 1 4 (d + c) (x + 1) dp S) (hWp : pos n W') (hSp : pos n S) (hc : 5 ≤ c) : ccon G A R W Lw n t nm mi_X5_atom [none, none] 3 2 (d + c + 4) x (dp + 1) (pAtom t n nm W' S) := by
  intro h p Q E P K1 K2
  have P' := P
  obtain ⟨⟨p1, p2, p3⟩, P2, P3, P4, P5, P6, P7, P8, P9⟩ := P'
  have n4 := tS_le (t := t) (n := n) (p := p)
  have fl : ∀ g f, pAtom t n nm W' S p = .inl f → pf (ah_sz h) R W h g → ah_rc h ≤ ah_rc g + (4 * (n - p) + 2) → ah_rs h ≤ ah_rs g + 7 * (4 * (n - p) + 2) → E W (ah_wI (ah_wI g W 6 (nI f.1)) W 7 (nI f.2)) := fun g f un m b1 b2 => K2 f _ un (CFlt.tr m (CFlt.w (n := n) (s := 0) (p := n)) (by omega) (by omega))
  have num : ¬ tC t n 40 p → ¬ (tK 0 t n p = 6 ∨ tK 0 t n p = 7) → ¬ (tS t n p = 2 ∧ tK 0 t n p = -1) → MX G mi_X5_atom (d + c + 4) 183 [some (rv R), none, none, none] [] h Q E := fun n40 n67 nw => by
    refine v_X5_atom_183 (d := d + c + 1) P2 ?_
    rw [cd4 P (k := 3) (by decide) (y := (3 : Int32)) rfl]
    refine ⟨fun n3 => wc_ok (k := 2) rfl P (fl h (pw t n p 2) (by unfold pAtom; rw [if_neg n40, if_neg n67, if_neg nw, if_neg n3]) pf.rf (by omega) (by omega)), fun s3 => ⟨⟨by omega, by omega⟩, fun h10 e10 X10 _ => ?_⟩⟩
    have un : pAtom t n nm W' S p = .inr (tE t n p, fun _ _ => some (lN (tV t n p))) := by
      unfold pAtom
      rw [if_neg n40, if_neg n67, if_neg nw, if_pos s3]
    have j6 : ah_J h10 R 6 = lN (tV t n p) := by rw [e10, rn_J, if_neg (by omega)]; exact P5.2.2.2.2 (by omega)
    rw [j6]
    refine c_leaf (R := R) (W := W) (d := d + c + 1) pf.rf (Nat.le_refl _) h10 e10 X10 (fun g2 m2 x2 ne k2 r0 i2 j3 s1 s2 s3' => ?_)
    intro _
    have D2 : rdC g2 R n t p := P5.sm (fun k _ => (ne R k (by omega)).2.1) ((ne R 6 (by omega)).2.2)
    have a := tE_s P4 (by rw [s3]; decide)
    have Pq : CPre R W Lw n t nm 1 p g2 := P.fr m2 p3 P4 D2 (by omega) (by omega)
    refine c_nx (d := d + c + 2) Pq (by rw [s3]; decide) (fun g3 m3 Pn => ?_)
    intro _
    have u3 : ah_sz g3 = ah_sz g2 ∧ ah_rc g3 = ah_rc g2 ∧ ah_rs g3 = ah_rs g2 := by unfold ah_sz ah_rc ah_rs; rw [m3.1.1]; exact ⟨rfl, rfl, rfl⟩
    obtain ⟨v1, v2, v3, v4⟩ := (m3.pf (lo := ah_sz g2) (W := W)).2 (ah_sz h) (by omega)
    refine K1 _ _ g3 (ah_sz h) un ⟨m2.tr m3.pf, Pn.2.2.2.2.1, (TV.num (by omega) (by omega) (v1.trans k2) ?_ ?_).mn (by omega), (v2 0).trans r0, by omega, by omega, by omega⟩
    · rw [v3 2 (by omega) (by omega)]; exact i2
    · rw [v4 3 (by omega)]; exact j3
  have leaf : tS t n p = 2 → tK 0 t n p = -1 → ¬ tC t n 40 p → ¬ (tK 0 t n p = 6 ∨ tK 0 t n p = 7) → ∀ y2 y3 : Int32, y2.toInt = tK 1 t n p → (tK 1 t n p = -1 → y3.toInt = nix t n nm p ∧ nix t n nm p ≠ -1) → MX G mi_X5_atom (d + c + 4) 150 [some (rv R), none, some (iv y2), some (iv y3)] [] h Q E := fun s2 k0 n40 n67 y2 y3 h2 h3 => by
    have b1 := tK1_bd (t := t) (n := n) (p := p)
    have b2 := nix_bd (t := t) (n := n) (nm := nm) (p := p)
    have l10 := P6.2.2.1
    have a := tE_s P4 (by rw [s2]; decide)
    refine v_X5_atom_150 (d := d + c + 1) P2 ?_
    refine c_nx (d := d + c + 2) P (by rw [s2]; decide) (fun g1 m1 Pn => ?_)
    intro _
    have u1 : ah_sz g1 = ah_sz h ∧ ah_rc g1 = ah_rc h ∧ ah_rs g1 = ah_rs h := by unfold ah_sz ah_rc ah_rs; rw [m1.1.1]; exact ⟨rfl, rfl, rfl⟩
    have un : pAtom t n nm W' S p = (if 0 ≤ tK 1 t n p then .inr (tE t n p, fun v _ => some (v (tK 1 t n p).toNat)) else if 0 ≤ nix t n nm p then .inr (tE t n p, fun _ d => d (nix t n nm p).toNat) else .inl (6, tF t n p)) := by
      unfold pAtom
      rw [if_neg n40, if_neg n67, if_pos ⟨s2, k0⟩]
    rw [i3_eq, h2, tm_1]
    refine ⟨fun z => ⟨⟨by omega, by omega⟩, fun h5 e5 X5 _ => ?_⟩, fun z => ⟨⟨by omega, by omega⟩, fun h5 e5 X5 _ => ?_⟩⟩
    · obtain ⟨q1, q2⟩ := h3 z
      have e3 : y3 = nI (nix t n nm p).toNat := i3_nI (by rw [q1]; omega) (by omega)
      rw [if_neg (by omega), if_pos (by omega)] at un
      rw [e3, nI_l (by omega)]
      refine c_leaf (R := R) (W := W) (d := d + c + 1) m1.pf (by omega) h5 e5 X5 (fun g2 m2 x2 ne k2 r0 i2 j3 s1 s2' s3' => ?_)
      intro _
      refine K1 _ _ g2 (ah_sz g1) un ⟨m2, Pn.2.2.2.2.1.sm (fun k _ => (ne R k (by omega)).2.1) ((ne R 6 (by omega)).2.2), (TV.def_ (by omega) (by omega) (by omega) k2 i2 j3).mn (by omega), r0, by omega, by omega, by omega⟩
    · have e2 : y2 = nI (tK 1 t n p).toNat := i3_nI (by rw [h2]; omega) (by omega)
      rw [if_pos (by omega)] at un
      rw [e2, nI_l (by omega)]
      refine c_leaf (R := R) (W := W) (d := d + c + 1) m1.pf (by omega) h5 e5 X5 (fun g2 m2 x2 ne k2 r0 i2 j3 s1 s2' s3' => ?_)
      intro _
      refine K1 _ _ g2 (ah_sz g1) un ⟨m2, Pn.2.2.2.2.1.sm (fun k _ => (ne R k (by omega)).2.1) ((ne R 6 (by omega)).2.2), (TV.var (by omega) (by omega) (by omega) k2 i2 j3).mn (by omega), r0, by omega, by omega, by omega⟩
  have rest : ¬ tC t n 40 p → MX G mi_X5_isKey (d + c + 3) 0 [some (rv R), some (iv (6 : Int32))] [] h (Qi fun r3 h2 => ah_ext h h2 → (¬ r3 = 0 → MX G mi_X5_few (d + c + 3) 0 [some (rv R), some (iv x), none, none, none] [] h2 (Qr fun r6 h5 => ah_ext h2 h5 → Q (some (rv r6)) h5) E) ∧ (r3 = 0 → MX G mi_X5_isKey (d + c + 3) 0 [some (rv R), some (iv (7 : Int32))] [] h2 (Qi fun r8 h7 => ah_ext h2 h7 → (r8 = 0 → (¬ (ah_I h7 R 3) = (2 : Int32) → MX G mi_X5_atom (d + c + 4) 183 [some (rv R), none, none, none] [] h7 Q E) ∧ ((ah_I h7 R 3) = (2 : Int32) → MX G mi_X5_in (d + c + 3) 0 [some (rv R), some (rv (ma_lit G 0)), none, none, none] [] h7 (Qi fun r12 h11 => ah_ext h7 h11 → (¬ r12 = (-1 : Int32) → MX G mi_X5_atom (d + c + 4) 183 [some (rv R), none, none, none] [] h11 Q E) ∧ (r12 = (-1 : Int32) → MX G mi_X5_in (d + c + 3) 0 [some (rv R), some (rv (ma_lit G 1)), none, none, none] [] h11 (Qi fun r15 h14 => ah_ext h11 h14 → (¬ r15 = (-1 : Int32) → MX G mi_X5_atom (d + c + 4) 150 [some (rv R), none, some (iv r15), some (iv (-1 : Int32))] [] h14 Q E) ∧ (r15 = (-1 : Int32) → MX G mi_X5_name (d + c + 3) 0 [some (rv R), none, none, none] [] h14 (Ql fun r18 h17 => ah_ext h14 h17 → (r18 = (-1 : Int64) → (¬ (ah_I h17 R 3) = (1 : Int32) → ah_kd h17 (ah_R h17 R 8) = 5 ∧ ∀ h22 : ah_T, h22 = ah_wI h17 (ah_R h17 R 8) 6 (6 : Int32) → ah_ext h17 h22 → ∀ h23 : ah_T, h23 = ah_wI h22 (ah_R h17 R 8) 7 (ah_I h17 R 4) → ah_ext h22 h23 → E (ah_R h17 R 8) h23) ∧ ((ah_I h17 R 3) = (1 : Int32) → ah_kd h17 (ah_R h17 R 8) = 5 ∧ ∀ h25 : ah_T, h25 = ah_wI h17 (ah_R h17 R 8) 6 (1 : Int32) → ah_ext h17 h25 → ∀ h26 : ah_T, h26 = ah_wI h25 (ah_R h17 R 8) 7 (ah_I h17 R 4) → ah_ext h25 h26 → E (ah_R h17 R 8) h26)) ∧ (¬ r18 = (-1 : Int64) → MX G mi_X5_name (d + c + 3) 0 [some (rv R), none, none, none] [] h17 (Ql fun r28 h27 => ah_ext h17 h27 → ah_kd h27 (ah_R h17 R 7) = 16 ∧ MX G mi_X17_find (d + c + 3) 0 [some (rv (ah_R h17 R 7)), some (jv r28), none, none] [] h27 (Qi fun r31 h30 => ah_ext h27 h30 → (¬ r31 = (-1 : Int32) → MX G mi_X5_atom (d + c + 4) 150 [some (rv R), none, some (iv r15), some (iv r31)] [] h30 Q E) ∧ (r31 = (-1 : Int32) → (¬ (ah_I h30 R 3) = (1 : Int32) → ah_kd h30 (ah_R h30 R 8) = 5 ∧ ∀ h36 : ah_T, h36 = ah_wI h30 (ah_R h30 R 8) 6 (6 : Int32) → ah_ext h30 h36 → ∀ h37 : ah_T, h37 = ah_wI h36 (ah_R h30 R 8) 7 (ah_I h30 R 4) → ah_ext h36 h37 → E (ah_R h30 R 8) h37) ∧ ((ah_I h30 R 3) = (1 : Int32) → ah_kd h30 (ah_R h30 R 8) = 5 ∧ ∀ h39 : ah_T, h39 = ah_wI h30 (ah_R h30 R 8) 6 (1 : Int32) → ah_ext h30 h39 → ∀ h40 : ah_T, h40 = ah_wI h39 (ah_R h30 R 8) 7 (ah_I h30 R 4) → ah_ext h39 h40 → E (ah_R h30 R 8) h40))) E) E)) E)) E)) E)) ∧ (¬ r8 = 0 → MX G mi_X5_few (d + c + 3) 0 [some (rv R), some (iv x), none, none, none] [] h7 (Qr fun r42 h41 => ah_ext h7 h41 → Q (some (rv r42)) h41) E)) E)) E := fun n40 => by
    obtain ⟨c', rfl⟩ : ∃ c', c = c' + 5 := ⟨c - 5, by omega⟩
    have few : tK 0 t n p = 6 ∨ tK 0 t n p = 7 → MX G mi_X5_few (d + (c' + 5) + 3) 0 [some (rv R), some (iv x), none, none, none] [] h (Qr fun r6 h5 => ah_ext h h5 → Q (some (rv r6)) h5) E := fun z => by
      have s2 : tS t n p = 2 := by
        rcases z with z | z
        · exact tK_2 (k := 6) z
        · exact tK_2 (k := 7) z
      have un : pAtom t n nm W' S p = pFew t n S p := by unfold pAtom; rw [if_neg n40, if_pos z]
      refine c_few hS hSp hc P s2 (fun q D g T un2 C => ?_) (fun f g un2 C => K2 f g (un.trans un2) C)
      intro _
      exact K1 q D g T (un.trans un2) C
    refine c_isK (d := d + (c' + 1)) (k := 6) (by decide) P (fun r3 hr3 => ?_)
    intro _
    by_cases z6 : tK 0 t n p = 6
    · rw [if_pos (show tK 0 t n p = ((6 : Nat) : Int) from z6)] at hr3
      rw [hr3]
      exact ⟨fun _ => few (Or.inl z6), fun w => absurd w (by decide)⟩
    rw [if_neg (show ¬ tK 0 t n p = ((6 : Nat) : Int) from z6)] at hr3
    rw [hr3]
    refine ⟨fun w => absurd rfl w, fun _ => ?_⟩
    refine c_isK (d := d + (c' + 1)) (k := 7) (by decide) P (fun r8 hr8 => ?_)
    intro _
    by_cases z7 : tK 0 t n p = 7
    · rw [if_pos (show tK 0 t n p = ((7 : Nat) : Int) from z7)] at hr8
      rw [hr8]
      exact ⟨fun w => absurd w (by decide), fun _ => few (Or.inr z7)⟩
    rw [if_neg (show ¬ tK 0 t n p = ((7 : Nat) : Int) from z7)] at hr8
    rw [hr8]
    refine ⟨fun _ => ?_, fun w => absurd rfl w⟩
    have n67 : ¬ (tK 0 t n p = 6 ∨ tK 0 t n p = 7) := fun w => by rcases w with w | w; exact z6 w; exact z7 w
    rw [cd4 P (k := 2) (by decide) (y := (2 : Int32)) rfl]
    refine ⟨fun s2 => num n40 n67 (fun w => s2 w.1), fun s2 => ?_⟩
    refine c_in (d := d + (c' + 2)) (by decide) P2 P3 P4 P5 (fun r12 h12 => ?_)
    intro _
    rw [i3_eq, h12, tm_1]
    refine ⟨fun w => num n40 n67 (fun y => w y.2), fun k0 => ?_⟩
    refine c_in (d := d + (c' + 2)) (by decide) P2 P3 P4 P5 (fun r15 h15 => ?_)
    intro _
    rw [i3_eq, h15, tm_1]
    refine ⟨fun w => leaf s2 k0 n40 n67 r15 (-1) h15 (fun y => absurd y w), fun k1 => ?_⟩
    have f6 : nix t n nm p = -1 → _ := fun z => wc_ok (E := E) (y := (6 : Int32)) (k := 6) rfl P (fl h (pw t n p 6) (by
      unfold pAtom pw
      rw [if_neg n40, if_neg n67, if_pos ⟨s2, k0⟩, if_neg (by omega), if_neg (by omega), if_neg (by omega)]) pf.rf (by omega) (by omega))
    have nm1 : ∀ w, wrd w → lN (n256 8 w) ≠ (-1 : Int64) := fun w hw z => by
      have b := wrd_n hw
      rw [i6_eq, pk_lT (by omega), tl_1] at z
      omega
    refine c_name (d := d + (c' + 7)) P2 P3 P4 P5 (fun _ w8 => ?_) (fun w8 => ?_)
    · intro _
      have hw := wrd_t s2 w8
      refine ⟨fun z => absurd z (nm1 _ hw), fun _ => ?_⟩
      refine c_name (d := d + (c' + 7)) P2 P3 P4 P5 (fun _ _ => ?_) (fun w => absurd ⟨s2, w8⟩ w)
      intro _
      rw [P6.1]
      refine ⟨ly17_k P6.2.1, ?_⟩
      refine c_find17 P6.2 hw (fun r31 h31 => ?_)
      intro _
      have nx : nix t n nm p = kix (tW t n p) nm 0 := by unfold nix; rw [if_pos ⟨s2, w8⟩]
      rw [i3_eq, h31, tm_1]
      exact ⟨fun z => leaf s2 k0 n40 n67 r15 r31 h15 (fun _ => ⟨h31.trans nx.symm, by rw [nx]; exact z⟩), fun z => f6 (nx.trans z)⟩
    · intro _
      refine ⟨fun _ => f6 (by unfold nix; rw [if_neg w8]), fun z => absurd rfl z⟩
  refine v_X5_atom (d := d + c + 1) P2 ?_
  rw [cd4 P (k := 4) (by decide) (y := (4 : Int32)) rfl]
  refine ⟨fun s4 => rest (fun y => s4 y.1), fun s4 => ?_⟩
  rw [cv6 P (by omega) (k := 40) (by decide) (y := (40 : Int32)) rfl]
  refine ⟨fun z => rest (fun y => z y.2), fun e40 => ?_⟩
  have c40 : tC t n 40 p := ⟨s4, e40⟩
  have a := tE_s P4 (tC_s c40)
  refine c_nx (d := d + c + 2) P (tC_s c40) (fun g1 m1 Pn => ?_)
  intro _
  have u1 : ah_sz g1 = ah_sz h ∧ ah_rc g1 = ah_rc h ∧ ah_rs g1 = ah_rs h := by unfold ah_sz ah_rc ah_rs; rw [m1.1.1]; exact ⟨rfl, rfl, rfl⟩
  have Pn' : CPre R W Lw n t nm 4 (tE t n p) g1 := P.fr (lo := ah_sz h) m1.pf p3 a.2 Pn.2.2.2.2.1 (by omega) (by omega)
  refine hW d g1 _ _ _ Pn' (fun q1 D1 g2 T1 un C => ?_) (fun f g2 un C => K2 f g2 (by unfold pAtom; rw [if_pos c40, un]) (CFlt.tr m1.pf (C.mn (by omega)) (by omega) (by omega)))
  intro _
  obtain ⟨A0, A1, A2, A3, A4, A5, A6⟩ := C
  have pa := hWp _ _ _ a.2 un
  have sz2 := A0.1.1
  have f2 : pf (ah_sz h) R W h g2 := m1.pf.tr (A0.mn (by omega))
  have Pa : CPre R W Lw n t nm 4 q1 g2 := P.fr f2 p3 pa.2 A1 (by omega) (by omega)
  have w3 : ¬ tC t n 41 q1 → _ := fun z => wc_ok (E := E) (y := (2 : Int32)) (k := 2) rfl Pa (fl g2 (pw t n q1 2) (by unfold pAtom; rw [if_pos c40, un]; simp only; rw [if_neg z]) f2 (by omega) (by omega))
  rw [cd4 Pa (k := 4) (by decide) (y := (4 : Int32)) rfl]
  refine ⟨fun z => w3 (fun y => z y.1), fun s4a => ?_⟩
  rw [cv6 Pa (by omega) (k := 41) (by decide) (y := (41 : Int32)) rfl]
  refine ⟨fun z => w3 (fun y => z y.2), fun e41 => ?_⟩
  have c41 : tC t n 41 q1 := ⟨s4a, e41⟩
  have a2 := tE_s pa.2 (tC_s c41)
  refine c_nx (d := d + c + 2) Pa (tC_s c41) (fun g3 m3 Pn3 => ?_)
  intro _
  have u3 : ah_sz g3 = ah_sz g2 ∧ ah_rc g3 = ah_rc g2 ∧ ah_rs g3 = ah_rs g2 := by unfold ah_sz ah_rc ah_rs; rw [m3.1.1]; exact ⟨rfl, rfl, rfl⟩
  refine ⟨⟨by omega, by omega⟩, fun h8 e8 X8 _ => ?_⟩
  have kc : ah_kd h8 (ah_sz g3) = 17 := by rw [e8, rn_k, if_pos rfl]
  obtain ⟨c', rfl⟩ : ∃ c', c = c' + 1 := ⟨c - 1, by omega⟩
  refine c_init (d := d + c' + 2) (by rw [kc]; decide) ?_
  intro _
  have t1 := A2.1
  have t2 := A2.2.1
  have g38 : pf (ah_sz g3) R W g3 h8 := by rw [e8]; exact pf.rf.nw (Nat.le_refl _) (by rw [← e8]; exact X8)
  have kT : ma_ks h8 T1 [16, 17, 18, 19] := by
    obtain ⟨ci, y1, y2⟩ := A2.2.2.1
    exact ⟨ci, y1, by rw [(g38.2 T1 (by omega)).1, ((m3.pf (lo := ah_sz g2) (W := W)).2 T1 (by omega)).1]; exact y2⟩
  have r0 : ∀ k, ah_R h8 (ah_sz g3) k = 0 := fun k => by rw [e8, rn_R, if_pos rfl]
  refine v_X19_add ⟨kc, ?_⟩
  rw [r0 2]
  refine ⟨fun z => absurd rfl z, fun _ => ⟨rfl, fun h5 e5 X5 h6 e6 X6 => ⟨kT, fun h9 e9 X9 => ?_⟩⟩⟩
  intro _
  have rR : ∀ a k, ah_R h9 a k = if a = ah_sz g3 ∧ k = 3 then T1 else if a = ah_sz g3 ∧ k = 2 then T1 else ah_R h8 a k := fun a k => by
    rw [e9, rd_RI, e6, rd_RR]
    by_cases z : a = ah_sz g3 ∧ k = 3
    · rw [if_pos z, if_pos z]
    · rw [if_neg z, if_neg z, e5, rd_RR]
  have rI : ∀ a k, ah_I h9 a k = if a = T1 ∧ k = 1 then 43 else ah_I h8 a k := fun a k => by rw [e9, rd_II, e6, rd_IR, e5, rd_IR]
  have rJ : ∀ a k, ah_J h9 a k = ah_J h8 a k := fun a k => by rw [e9, e6, e5]; rfl
  have rk : ∀ a, ah_kd h9 a = ah_kd h8 a := fun a => by rw [e9, e6, e5]; rfl
  have rs9 : ah_sz h9 = ah_sz g3 + 1 ∧ ah_rc h9 = ah_rc g3 - 1 ∧ ah_rs h9 = ah_rs g3 - 4 := by rw [e9, e6, e5, e8]; exact ⟨rfl, rfl, rfl⟩
  have xt : ah_ext h8 h9 := X5.tr (X6.tr X9)
  have nI8 : ∀ k, ah_I h8 R k = ah_I g3 R k := fun k => by rw [e8, rn_I, if_neg (by omega)]
  have nJ8 : ∀ k, ah_J h8 R k = ah_J g3 R k := fun k => by rw [e8, rn_J, if_neg (by omega)]
  clear e9 e6 e5 e8
  have f8 : pf (ah_sz h) R W h h8 := f2.tr (m3.pf.tr (g38.mn (by omega)))
  have f9 : pf (ah_sz h) R W h h9 := f8.tr ⟨xt, fun a ha => ⟨rk a, fun k => by rw [rR, if_neg (by omega), if_neg (by omega)], fun k _ _ => by rw [rI, if_neg (by omega)], fun k _ => rJ a k⟩⟩
  have D9 : rdC h9 R n t (tE t n q1) := Pn3.2.2.2.2.1.sm (fun k _ => by rw [rI, if_neg (by omega), nI8]) (by rw [rJ, nJ8])
  have T9 : TV G A W (ah_sz g1) (ah_sz g2) h9 T1 dp D1 := A2.ag (fun a b1 b2 _ => by
    obtain ⟨v1, v2, v3, v4⟩ := ((m3.pf (lo := ah_sz g2) (W := W)).tr (g38.mn (by omega))).2 a (by omega)
    exact ⟨by rw [rk]; exact v1, fun k hk => by rw [rR, if_neg (by omega), if_neg (by omega)]; exact v2 k, fun k hk => by rw [rI, if_neg (by omega)]; exact v3 k (by omega) (by omega), fun k => by rw [rJ]; exact v4 k (by omega)⟩)
  have X9 : CP G A W (ah_sz h) (ah_sz h9) h9 (ah_sz g3) T1 dp D1 := CP.mk (by omega) (by omega) ((rk _).trans kc) (by rw [rR, if_neg (by omega), if_pos ⟨rfl, rfl⟩]) (by rw [rR, if_pos ⟨rfl, rfl⟩]) A4 T9 (by omega) (by omega) (by omega) (by rw [rI, if_pos ⟨rfl, rfl⟩])
  refine K1 _ _ h9 (ah_sz g3) (by unfold pAtom; rw [if_pos c40, un]; simp only; rw [if_pos c41]) ⟨f9, D9, X9.tv ?_, by rw [rR, if_neg (by omega), if_neg (by omega)]; exact r0 0, by omega, by omega, by omega⟩
  rw [rR, if_neg (by omega), if_neg (by omega), (g38.2 T1 (by omega)).2.1, ((m3.pf (lo := ah_sz g2) (W := W)).2 T1 (by omega)).2.1]
  exact A3
end

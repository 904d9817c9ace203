/-! ===== what is settled: the model ===== -/
def payA : List Nat := [32, 33, 34, 44, 45, 46, 47, 48, 49, 50, 51, 52]
def stIm (S : MS) (tx : Nat → List Nat × List PD) (kn : Int32) (M yr n : Nat) (g : ah_T) : Prop := ∀ f, f < 20 → ah_J g (M + 51) f = dN (stAS S tx kn yr n f) (stBS S tx kn yr n f) ∧ ah_J g (M + 50) f = lN (stBS S tx kn yr n f) ∧ ah_J g (M + 52) f = 0
def stZm (S : MS) (tx : Nat → List Nat × List PD) (kn : Int32) (M yr : Nat) (g : ah_T) : Prop := (∀ f, f < 20 → ah_J g (M + 51) f = dN (stAS S tx kn yr 6 f) (stBS S tx kn yr 6 f) ∧ ah_J g (M + 50) f = lN (stBS S tx kn yr 6 f) ∧ ah_J g (M + 52) f = lN (owS S tx kn yr f)) ∧ ah_J g M 77 = lN (blS S tx kn yr) ∧ ah_J g M 78 = lN (sdS S tx kn yr)
section
variable {G : ma_G} {d M k n yr gr : Nat} {P : PS} {h g g2 : ah_T} {S : MS} {tx : Nat → List Nat × List PD} {kn : Int32} {Q : Option ma_V → ah_T → Prop} {E : Nat → ah_T → Prop}
theorem stIm.cg (x : stIm S tx kn M yr n g) (e : ∀ a, a ∈ [50, 51, 52] → ∀ k, ah_J g2 (M + a) k = ah_J g (M + a) k) : stIm S tx kn M yr n g2 := fun f hf => by rw [e 51 (by decide), e 50 (by decide), e 52 (by decide)]; exact x f hf
/-- one grade, its parts being laid -/
theorem m_pay134 (L : LY8 h M) (e5 : ah_I h M 5 = nI (nF S)) (W : WF S) (B : WB S) (hy : yr < 10) (hg : gr < 6) (I : stIm S tx kn M yr gr h) (hb : ∀ f, f < 20 → ah_J h (M + 49) f = lN (brG S tx kn yr gr f)) (hs : ∀ f, f < nF S → ah_J h (M + 33) f = lN (spl 20 (brG S tx kn yr gr) (lfS S tx kn yr gr) f))
    (K : ∀ g, mch [50, 51] [] M h g → stIm S tx kn M yr (gr + 1) g → MX G mi_X8_pay (d + 1) 42 [some (rv M), some (iv (nI yr)), some (iv kn), some (iv (nI (gr + 1))), none, none, none, none, none] [] g Q E) :
    MX G mi_X8_pay (d + 1) 134 [some (rv M), some (iv (nI yr)), some (iv kn), some (iv (nI gr)), none, none, some (jv (lN (fiS S tx yr gr))), none, some (iv (0 : Int32))] [] h Q E := by
  have f20 := B.1
  refine mx_up (α := Unit) (fun f _ => [some (rv M), some (iv (nI yr)), some (iv kn), some (iv (nI gr)), none, none, some (jv (lN (fiS S tx yr gr))), none, some (iv (nI f))]) (nF S) (fun f _ g => mch [50, 51] [] M h g ∧ ∀ j, j < 20 → (if j < f then ah_J g (M + 51) j = dN (stAS S tx kn yr (gr + 1) j) (stBS S tx kn yr (gr + 1) j) ∧ ah_J g (M + 50) j = lN (stBS S tx kn yr (gr + 1) j) else ah_J g (M + 51) j = dN (stAS S tx kn yr gr j) (stBS S tx kn yr gr j) ∧ ah_J g (M + 50) j = lN (stBS S tx kn yr gr j))) (fun f _ g hf hI KK => ?_) (fun _ g hI => ?_) 0 () h (Nat.zero_le _) ⟨mch.rf, fun j hj => by rw [if_neg (by omega)]; exact ⟨(I j hj).1, (I j hj).2.1⟩⟩
  · obtain ⟨z, i1⟩ := hI
    have g5 : ah_I g M 5 = nI (nF S) := (z.sc 5 (by decide) (by decide)).trans e5
    refine v_X8_pay_134 (z.ly L) ⟨fun c => ?_, fun _ => ?_⟩
    · exfalso; rw [g5, i3_le, nI_x (by omega), nI_x (by omega)] at c; omega
    have q := i1 f (by omega)
    rw [if_neg (Nat.lt_irrefl _)] at q
    rw [nI_clamp (n := f) (by omega), z.arJ 49 (by decide) (by decide), hb f (by omega), lN_mul, q.1, q.2, lN_add, z.arJ 33 (by decide) (by decide), hs f hf, dN_s, dN_add, nI_1]
    refine ⟨vp_in_nI (by omega) (by decide), fun h3 e3 _ h4 e4 _ => ?_⟩
    refine KK () h4 ⟨by rw [e4, e3]; exact (z.wJ (by decide)).wJ (by decide), fun j hj => ?_⟩
    by_cases c : j = f
    · rw [if_pos (by omega), e4, rd_JJ, rd_JJ, if_neg (c := M + 50 = M + 51 ∧ j = f) (fun w => by have := w.1; omega), if_pos ⟨rfl, c⟩, e3, rd_JJ, if_pos ⟨rfl, c⟩, c]
      exact ⟨rfl, rfl⟩
    · have r := i1 j hj
      have e1 : ah_J h4 (M + 51) j = ah_J g (M + 51) j := by rw [e4, rd_JJ, if_neg (fun w => c w.2), e3, rd_Ja (by omega)]
      have e2 : ah_J h4 (M + 50) j = ah_J g (M + 50) j := by rw [e4, rd_Ja (by omega), e3, rd_JJ, if_neg (fun w => c w.2)]
      rw [e1, e2]
      by_cases c2 : j < f
      · rw [if_pos c2] at r; rw [if_pos (by omega)]; exact r
      · rw [if_neg c2] at r; rw [if_neg (by omega)]; exact r
  · obtain ⟨z, i1⟩ := hI
    have g5 : ah_I g M 5 = nI (nF S) := (z.sc 5 (by decide) (by decide)).trans e5
    refine v_X8_pay_134 (z.ly L) ⟨fun _ => ?_, fun c => absurd (by rw [g5, i3_le]; exact Int.le_refl _) c⟩
    rw [nI_1]
    refine K g z (fun f hf => ?_)
    have q := i1 f hf
    have z52 : ah_J g (M + 52) f = 0 := by rw [z.arJ 52 (by decide) (by decide)]; exact (I f hf).2.2
    by_cases c : f < nF S
    · rw [if_pos c] at q
      exact ⟨q.1, q.2, z52⟩
    · rw [if_neg c] at q
      have b0 : brG S tx kn yr gr f = 0 := br_z W B (by omega) hf
      have a1 : stAS S tx kn yr (gr + 1) f = stAS S tx kn yr gr f := by
        show stAS S tx kn yr gr f + spl 20 (brG S tx kn yr gr) (lfS S tx kn yr gr) f = _
        have := stA_z (n := 1) (m := nF S) (f := f) (lf := fun _ => lfS S tx kn yr gr) (br := fun _ => brG S tx kn yr gr) (fun _ _ f a b => br_z W B a b) f20 (by omega) hf
        have : 0 + spl 20 (brG S tx kn yr gr) (lfS S tx kn yr gr) f = 0 := this
        omega
      have a2 : stBS S tx kn yr (gr + 1) f = stBS S tx kn yr gr f := by
        show stBS S tx kn yr gr f + fiS S tx yr gr * brG S tx kn yr gr f = _
        rw [b0, Nat.mul_zero]; rfl
      rw [a1, a2]
      exact ⟨q.1, q.2, z52⟩
theorem m_pay (L : LY8 h M) (kS : kq S (mv h M)) (W : WF S) (B : WB S) (T : TXm S tx) (hy : yr < 10) (K : ∀ g, mpI S tx kn M h (nV S) g → ∀ g2, mch payA [72, 77, 78, 108] M g g2 → stZm S tx kn M yr g2 → Q none g2) : MX G mi_X8_pay (d + 8) 0 [some (rv M), some (iv (nI yr)), some (iv kn), none, none, none, none, none, none] [] h Q E := by
  have f20 := B.1
  refine v_X8_pay (d := d + 7) L ?_
  refine m_play (d := d) L kS W B T (fun g0 mI => ?_)
  intro _
  have L0 := mI.1.ly L
  have k0 := kS.mc mI.1 (by decide) (by decide) (by decide)
  have F0 : mpF S tx kn M g0 := mI.2.2
  have K : ∀ g2, mch payA [72, 77, 78, 108] M g0 g2 → stZm S tx kn M yr g2 → Q none g2 := fun g2 z s => K g0 mI g2 z s
  have l5 : ∀ g, mch payA [72, 77, 78, 108] M g0 g → ah_I g M 5 = nI (nF S) := fun g z => ((k0.mc z (by decide) (by decide) (by decide)).z 5 (by decide) (by decide)).trans W.1.1
  -- nothing
  refine mx_up (α := Unit) (fun f _ => [some (rv M), some (iv (nI yr)), some (iv kn), some (iv (nI f)), none, none, none, none, none]) 20 (fun f _ g => mch payA [72, 77, 78, 108] M g0 g ∧ ∀ j, j < f → ah_J g (M + 51) j = 0 ∧ ah_J g (M + 50) j = 0 ∧ ah_J g (M + 52) j = 0) (fun f _ g hf hI KK => ?_) (fun _ g hI => ?_) 0 () g0 (Nat.zero_le _) ⟨mch.rf, fun j hj => by omega⟩
  · obtain ⟨z, i1⟩ := hI
    refine v_X8_pay_7 (d := d + 7) (z.ly L0) ⟨fun c => ?_, fun _ => ⟨vp_in_nI hf (by decide), fun h3 e3 _ h4 e4 _ h5 e5 _ => ?_⟩⟩
    · exfalso; rw [i3_le, nI_x (by omega)] at c; have : (20 : Int) ≤ (f : Int) := c; omega
    · rw [nI_clamp (by omega)] at e3 e4 e5
      rw [nI_1]
      refine KK () h5 ⟨by rw [e5, e4, e3]; exact ((z.wJ (by decide)).wJ (by decide)).wJ (by decide), fun j hj => ?_⟩
      by_cases c : j = f
      · refine ⟨?_, ?_, ?_⟩
        · rw [e5, rd_Ja (by omega), e4, rd_JJ, if_pos ⟨rfl, c⟩]
        · rw [e5, rd_Ja (by omega), e4, rd_Ja (by omega), e3, rd_JJ, if_pos ⟨rfl, c⟩]
        · rw [e5, rd_JJ, if_pos ⟨rfl, c⟩]
      · obtain ⟨r1, r2, r3⟩ := i1 j (by omega)
        refine ⟨?_, ?_, ?_⟩
        · rw [e5, rd_Ja (by omega), e4, rd_JJ, if_neg (fun w => c w.2), e3, rd_Ja (by omega)]; exact r1
        · rw [e5, rd_Ja (by omega), e4, rd_Ja (by omega), e3, rd_JJ, if_neg (fun w => c w.2)]; exact r2
        · rw [e5, rd_JJ, if_neg (fun w => c w.2), e4, rd_Ja (by omega), e3, rd_Ja (by omega)]; exact r3
  obtain ⟨z1, i1⟩ := hI
  refine v_X8_pay_7 (d := d + 7) (z1.ly L0) ⟨fun _ => ?_, fun c => absurd (by decide) c⟩
  -- the grades
  refine mx_up (α := Unit) (fun gr _ => [some (rv M), some (iv (nI yr)), some (iv kn), some (iv (nI gr)), none, none, none, none, none]) 6 (fun gr _ g => mch payA [72, 77, 78, 108] M g0 g ∧ stIm S tx kn M yr gr g) (fun gr _ g hg hI KK => ?_) (fun _ g hI => ?_) 0 () g (Nat.zero_le _) ⟨z1, fun f hf => by rw [(i1 f hf).1, (i1 f hf).2.1, (i1 f hf).2.2]; exact ⟨dN_0.symm, rfl, rfl⟩⟩
  · obtain ⟨z, I⟩ := hI
    have Lg := z.ly L0
    have kg := k0.mc z (by decide) (by decide) (by decide)
    have Fg := F0.mc z (by decide) (by decide) (by decide)
    refine v_X8_pay_42 (d := d + 7) Lg ⟨fun c => ?_, fun _ => ?_⟩
    · exfalso; rw [i3_le, nI_x (by omega)] at c; have : (6 : Int) ≤ (gr : Int) := c; omega
    refine m_came Lg kg W B Fg hg hy ?_
    intro _
    refine m_kept (d := d + 1) Lg kg W B T Fg hg hy (fun g4 z4 => ?_)
    intro _
    have y4 : mch payA [72, 77, 78, 108] M g0 g4 := z.tr (z4.mono (by decide) (by decide))
    rw [show (6605428 : Int64) = lN 6605428 from rfl]
    refine m_ofYear (d := d + 2) (y4.ly L0) (k0.mc y4 (by decide) (by decide) (by decide)) T (by decide) (fun g6 z6 => ?_)
    intro _
    have y6 : mch payA [72, 77, 78, 108] M g0 g6 := y4.tr (z6.mono (by decide) (by decide))
    refine m_bring (d := d + 6) (y6.ly L0) (k0.mc y6 (by decide) (by decide) (by decide)) W B (F0.mc y6 (by decide) (by decide) (by decide)) hg hy (fun g8 z8 hb => ?_)
    intro _
    have y8 : mch payA [72, 77, 78, 108] M g0 g8 := y6.tr (z8.mono (by decide) (by decide))
    have ev : lN (PLS S tx kn (nV S) 16 (10 * gr + yr) 0) - lN (PLS S tx kn (nV S) 16 (10 * gr + yr) 0) * ofY S tx 267652 gr yr / 1000 = lN (lfS S tx kn yr gr) := by
      have q := hdS_v (tx := tx) (kn := kn) (yr := yr) (g := gr) W B
      have q1 : lN (PLS S tx kn (nV S) 16 (10 * gr + yr) 0) * ofY S tx 267652 gr yr / 1000 = lN (hdS S tx kn yr gr) := q.1
      rw [q1]
      exact lN_sub q.2
    rw [ev, fiS_v.1]
    have I8 : stIm S tx kn M yr gr g8 := I.cg (fun a ha k => by
      simp only [List.mem_cons, List.not_mem_nil, or_false] at ha
      rcases ha with q | q | q <;> subst q <;> rw [z8.arJ _ (by decide) (by decide), z6.arJ _ (by decide) (by decide), z4.arJ _ (by decide) (by decide)])
    -- the weights
    refine mx_up (α := Unit) (fun f _ => [some (rv M), some (iv (nI yr)), some (iv kn), some (iv (nI gr)), some (jv (lN (lfS S tx kn yr gr))), none, some (jv (lN (fiS S tx yr gr))), none, some (iv (nI f))]) 20 (fun f _ g' => mch [32] [] M g8 g' ∧ ∀ j, j < f → ah_J g' (M + 32) j = lN (brG S tx kn yr gr j)) (fun f _ g' hf hI K2 => ?_) (fun _ g' hI => ?_) 0 () g8 (Nat.zero_le _) ⟨mch.rf, fun j hj => by omega⟩
    · obtain ⟨zz, j1⟩ := hI
      refine v_X8_pay_98 (d := d + 7) (zz.ly (y8.ly L0)) ⟨fun c => ?_, fun _ => ⟨vp_in_nI hf (by decide), fun h5 e5 _ => ?_⟩⟩
      · exfalso; rw [i3_le, nI_x (by omega)] at c; have : (20 : Int) ≤ (f : Int) := c; omega
      · have hb' : ah_J g8 (M + 49) f = lN (brG S tx kn yr gr f) := hb f hf
        rw [nI_clamp (by omega), zz.arJ 49 (by decide) (by decide), hb'] at e5
        rw [nI_1]
        refine K2 () h5 ⟨by rw [e5]; exact zz.wJ (by decide), fun j hj => ?_⟩
        rw [e5, rd_JJ]
        by_cases c : j = f
        · rw [if_pos ⟨rfl, c⟩, c]
        · rw [if_neg (fun w => c w.2)]; exact j1 j (by omega)
    obtain ⟨zz, j1⟩ := hI
    have y9 : mch payA [72, 77, 78, 108] M g0 g' := y8.tr (zz.mono (by decide) (by decide))
    refine v_X8_pay_98 (d := d + 7) (y9.ly L0) ⟨fun _ => ?_, fun c => absurd (by decide) c⟩
    have bz : ∀ f, nF S ≤ f → f < 20 → brG S tx kn yr gr f = 0 := fun f a b => br_z W B a b
    have bb := (brf_b (tx := tx) (kn := kn) W B hy hg (show 0 < 20 by decide)).1
    have sc := sN_cut f20 bz
    refine m_parts (w := brG S tx kn yr gr) (y9.ly L0) (l5 g' y9) f20 (fun f hf => j1 f (by omega)) (by omega) (fun f hf => lf_p W B hy hg (by omega)) (by have := cmS_b (tx := tx) (kn := kn) (yr := yr) (g := gr) W B; unfold lfS; omega) (fun g10 z10 hs => ?_)
    intro _
    have y10 : mch payA [72, 77, 78, 108] M g0 g10 := y9.tr (z10.mono (by decide) (by decide))
    have I10 : stIm S tx kn M yr gr g10 := I8.cg (fun a ha k => by
      simp only [List.mem_cons, List.not_mem_nil, or_false] at ha
      rcases ha with q | q | q <;> subst q <;> rw [z10.arJ _ (by decide) (by decide), zz.arJ _ (by decide) (by decide)])
    refine m_pay134 (d := d + 7) (y10.ly L0) (l5 g10 y10) W B hy hg I10 (fun f hf => ?_) (fun f hf => ?_) (fun g11 z11 I11 => KK () g11 ⟨y10.tr (z11.mono (by decide) (by decide)), I11⟩)
    · rw [z10.arJ 49 (by decide) (by decide), zz.arJ 49 (by decide) (by decide)]; exact hb f hf
    · rw [hs f hf, spl_cut f20 bz]
  obtain ⟨z2, I2⟩ := hI
  refine v_X8_pay_42 (d := d + 7) (z2.ly L0) ⟨fun _ => ?_, fun c => absurd (by decide) c⟩
  have bB := stBS_b (tx := tx) (kn := kn) W B hy
  have bA := stAS_all (tx := tx) (kn := kn) (yr := yr) W B
  have bBf : ∀ f, f < 20 → stBS S tx kn yr 6 f ≤ 1200000000 := fun f hf => Nat.le_trans (sN_ge hf) bB
  have bAf : ∀ f, f < 20 → stAS S tx kn yr 6 f ≤ 72000000000 := fun f hf => stAS_b W B hf
  -- the sum, the weights
  rw [show (0 : Int64) = dN (sN (stAS S tx kn yr 6) 0) (sN (stBS S tx kn yr 6) 0) from dN_0.symm]
  refine mx_up (α := Unit) (fun f _ => [some (rv M), some (iv (nI yr)), none, some (jv (dN (sN (stAS S tx kn yr 6) f) (sN (stBS S tx kn yr 6) f))), none, some (iv (nI f)), none, none, none]) 20 (fun f _ g' => mch [32] [] M g g' ∧ ∀ j, j < f → ah_J g' (M + 32) j = lN (owW S tx kn yr j)) (fun f _ g' hf hI KK => ?_) (fun _ g' hI => ?_) 0 () g (Nat.zero_le _) ⟨mch.rf, fun j hj => by omega⟩
  · obtain ⟨zz, j1⟩ := hI
    refine v_X8_pay_208 (d := d + 7) (zz.ly (z2.ly L0)) ⟨fun c => ?_, fun _ => ?_⟩
    · exfalso; rw [i3_le, nI_x (by omega)] at c; have : (20 : Int) ≤ (f : Int) := c; omega
    have b1 := bBf f hf
    have b2 := bAf f hf
    rw [nI_clamp (by omega), zz.arJ 51 (by decide) (by decide), (I2 f hf).1, dN_neg, jMax_d (by omega) (by omega), dN_add, nI_1]
    refine ⟨vp_in_nI hf (by decide), fun h9 e9 _ => ?_⟩
    refine KK () h9 ⟨by rw [e9]; exact zz.wJ (by decide), fun j hj => ?_⟩
    rw [e9, rd_JJ]
    by_cases c : j = f
    · rw [if_pos ⟨rfl, c⟩, c]; rfl
    · rw [if_neg (fun w => c w.2)]; exact j1 j (by omega)
  obtain ⟨zz, j1⟩ := hI
  have y1 : mch payA [72, 77, 78, 108] M g0 g' := z2.tr (zz.mono (by decide) (by decide))
  have I3 : stIm S tx kn M yr 6 g' := I2.cg (fun a ha k => by
    simp only [List.mem_cons, List.not_mem_nil, or_false] at ha
    rcases ha with q | q | q <;> subst q <;> exact zz.arJ _ (by decide) (by decide) k)
  refine v_X8_pay_208 (d := d + 7) (y1.ly L0) ⟨fun _ h2 e2 _ => ?_, fun c => absurd (by decide) c⟩
  rw [dN_neg, jMax_d (by omega) (by omega)] at e2 ⊢
  have ebl : sN (stBS S tx kn yr 6) 20 - sN (stAS S tx kn yr 6) 20 = blS S tx kn yr := rfl
  rw [ebl] at e2 ⊢
  have y2 : mch payA [72, 77, 78, 108] M g0 h2 := by rw [e2]; exact y1.zJ (by decide)
  rw [show (20579780 : Int64) = lN 20579780 from rfl, show (0 : Int32) = nI 0 from rfl]
  refine m_ofYear (d := d + 2) (y2.ly L0) (k0.mc y2 (by decide) (by decide) (by decide)) T (by decide) (fun g3 z3 => ?_)
  intro _ h5 e5 _
  have sd := sdS_v (tx := tx) (kn := kn) W B hy
  have bb := blS_b (tx := tx) (kn := kn) W B hy
  have j77 : ah_J g3 M 77 = lN (blS S tx kn yr) := by rw [z3.scJ 77 (by decide) (by decide), e2, rd_JJ, if_pos ⟨rfl, rfl⟩]
  rw [sd.1] at e5 ⊢
  rw [j77, lN_sub sd.2]
  have y3 : mch payA [72, 77, 78, 108] M g0 g3 := y2.tr (z3.mono (by decide) (by decide))
  have y5 : mch payA [72, 77, 78, 108] M g0 h5 := by rw [e5]; exact y3.zJ (by decide)
  have a77 : ah_J h5 M 77 = lN (blS S tx kn yr) := by rw [e5, rd_JJ, if_neg (fun w => absurd w.2 (by decide))]; exact j77
  have a78 : ah_J h5 M 78 = lN (sdS S tx kn yr) := by rw [e5, rd_JJ, if_pos ⟨rfl, rfl⟩]
  have I5 : stIm S tx kn M yr 6 h5 := I3.cg (fun a ha k => by
    simp only [List.mem_cons, List.not_mem_nil, or_false] at ha
    rcases ha with q | q | q <;> subst q <;> rw [e5, rd_Ja (by omega), z3.arJ _ (by decide) (by decide), e2, rd_Ja (by omega)])
  have w5 : ∀ f, f < 20 → ah_J h5 (M + 32) f = lN (owW S tx kn yr f) := fun f hf => by rw [e5, rd_Ja (by omega), z3.arJ 32 (by decide) (by decide), e2, rd_Ja (by omega)]; exact j1 f hf
  have oz : ∀ f, nF S ≤ f → f < 20 → owW S tx kn yr f = 0 := fun f a b => by unfold owW; rw [(stAS_z W B a b).2]; exact Nat.zero_sub _
  have sc := sN_cut f20 oz
  refine m_parts (w := owW S tx kn yr) (y5.ly L0) (l5 h5 y5) f20 (fun f hf => w5 f (by omega)) (by have := owW_all (tx := tx) (kn := kn) W B hy; omega) (fun f hf => ow_p W B hy (by omega)) (by omega) (fun g6 z6 hs => ?_)
  intro _
  have y6 : mch payA [72, 77, 78, 108] M g0 g6 := y5.tr (z6.mono (by decide) (by decide))
  have hs : ∀ f, f < nF S → ah_J g6 (M + 33) f = lN (owS S tx kn yr f) := fun f hf => by rw [hs f hf]; unfold owS; rw [spl_cut f20 oz]
  have I6 : stIm S tx kn M yr 6 g6 := I5.cg (fun a ha k => by
    simp only [List.mem_cons, List.not_mem_nil, or_false] at ha
    rcases ha with q | q | q <;> subst q <;> exact z6.arJ _ (by decide) (by decide) k)
  have b77 : ah_J g6 M 77 = lN (blS S tx kn yr) := by rw [z6.scJ 77 (by decide) (by decide)]; exact a77
  have b78 : ah_J g6 M 78 = lN (sdS S tx kn yr) := by rw [z6.scJ 78 (by decide) (by decide)]; exact a78
  refine mx_up (α := Unit) (fun f _ => [some (rv M), none, none, none, none, some (iv (nI f)), none, none, none]) (nF S) (fun f _ g' => mch [52] [] M g6 g' ∧ ∀ j, j < 20 → ah_J g' (M + 52) j = if j < f then lN (owS S tx kn yr j) else 0) (fun f _ g' hf hI KK => ?_) (fun _ g' hI => ?_) 0 () g6 (Nat.zero_le _) ⟨mch.rf, fun j hj => by rw [if_neg (by omega)]; exact (I6 j hj).2.2⟩
  · obtain ⟨zz, j2⟩ := hI
    have y7 : mch payA [72, 77, 78, 108] M g0 g' := y6.tr (zz.mono (by decide) (by decide))
    refine v_X8_pay_309 (d := d + 7) (y7.ly L0) ⟨fun c => ?_, fun _ => ⟨vp_in_nI (by omega) (by decide), fun h3 e3 _ => ?_⟩⟩
    · exfalso; rw [l5 g' y7, i3_le, nI_x (by omega), nI_x (by omega)] at c; omega
    · rw [nI_clamp (by omega), zz.arJ 33 (by decide) (by decide), hs f hf] at e3
      rw [nI_1]
      refine KK () h3 ⟨by rw [e3]; exact zz.wJ (by decide), fun j hj => ?_⟩
      rw [e3, rd_JJ]
      by_cases c : j = f
      · rw [if_pos ⟨rfl, c⟩, if_pos (by omega), c]
      · rw [if_neg (fun w => c w.2), j2 j hj]
        by_cases c2 : j < f
        · rw [if_pos c2, if_pos (by omega)]
        · rw [if_neg c2, if_neg (by omega)]
  · obtain ⟨zz, j2⟩ := hI
    have y7 : mch payA [72, 77, 78, 108] M g0 g' := y6.tr (zz.mono (by decide) (by decide))
    refine v_X8_pay_309 (d := d + 7) (y7.ly L0) ⟨fun _ => K g' y7 ⟨fun f hf => ⟨?_, ?_, ?_⟩, ?_, ?_⟩, fun c => absurd (by rw [l5 g' y7, i3_le]; exact Int.le_refl _) c⟩
    · rw [zz.arJ 51 (by decide) (by decide)]; exact (I6 f hf).1
    · rw [zz.arJ 50 (by decide) (by decide)]; exact (I6 f hf).2.1
    · rw [j2 f hf]
      by_cases c : f < nF S
      · rw [if_pos c]
      · rw [if_neg c]
        have := stA_z (n := 1) (m := nF S) (f := f) (lf := fun _ => blS S tx kn yr - sdS S tx kn yr) (br := fun _ => owW S tx kn yr) (fun _ _ f a b => oz f a b) f20 (by omega) hf
        have : 0 + owS S tx kn yr f = 0 := this
        rw [show owS S tx kn yr f = 0 by omega]; rfl
    · rw [zz.scJ 77 (by decide) (by decide)]; exact b77
    · rw [zz.scJ 78 (by decide) (by decide)]; exact b78
end

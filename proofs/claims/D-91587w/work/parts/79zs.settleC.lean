/-! ===== what is settled: the class ===== -/
def stf (X : Nat) (h g : ah_T) : Prop := (g.1 = h.1 ∧ ah_kd g = ah_kd h ∧ ah_ln g = ah_ln h) ∧ (∀ a k, ¬ (a = X ∧ k = 23) → ah_R g a k = ah_R h a k) ∧ (∀ a k, a ≠ X + 1436 → a ≠ X + 1440 → ah_I g a k = ah_I h a k) ∧ ∀ a k, (a ≠ X ∧ a < X + 1426) ∨ X + 1441 ≤ a → ah_J g a k = ah_J h a k
section
variable {G : ma_G} {d X p k n yr gr : Nat} {P : PS} {h g g2 : ah_T} {S : MS} {tx : Nat → List Nat × List PD} {kn : Int32} {A : List Nat} {Q : Option ma_V → ah_T → Prop} {E : Nat → ah_T → Prop}
theorem stf.rf : stf X h h := ⟨⟨rfl, rfl, rfl⟩, fun _ _ _ => rfl, fun _ _ _ _ => rfl, fun _ _ _ => rfl⟩
theorem stf.tr (x : stf X h g) (z : stf X g g2) : stf X h g2 := ⟨⟨z.1.1.trans x.1.1, z.1.2.1.trans x.1.2.1, z.1.2.2.trans x.1.2.2⟩, fun a k q => (z.2.1 a k q).trans (x.2.1 a k q), fun a k q r => (z.2.2.1 a k q r).trans (x.2.2.1 a k q r), fun a k q => (z.2.2.2 a k q).trans (x.2.2.2 a k q)⟩
theorem stf.wJ (x : stf X h g) {a k : Nat} {v : Int64} (ha : a = X ∨ (X + 1426 ≤ a ∧ a < X + 1441)) : stf X h (ah_wJ g a k v) := x.tr ⟨⟨rfl, rfl, rfl⟩, fun _ _ _ => rfl, fun _ _ _ _ => rfl, fun b j q => rd_Ja (by omega)⟩
theorem efr.st (x : efr X h g) : stf X h g := ⟨x.1, x.2.1, fun a k q _ => x.2.2.1 a k q, fun a k q => x.2.2.2 a k (by omega) (by omega)⟩
theorem sfr.st (x : sfr A (X + 1426) h g) (hA : ∀ i, i ∈ A → i < 4) : stf X h g := ⟨⟨x.1.1, x.1.2.1, x.1.2.2.1⟩, fun a k _ => by rw [x.1.2.2.2], fun a k _ _ => by rw [x.2.1], fun a k q => x.2.2 a k (fun i hi => by have := hA i hi; omega)⟩
theorem stf.qf (x : stf X h g) : qfr X h g := by
  have i1 : ∀ p, p ∈ ct_A → p.1 ≠ 1436 ∧ p.1 ≠ 1440 := by decide
  have i2 : ∀ p, p ∈ ct_Z → p.1 ≠ 1436 ∧ p.1 ≠ 1440 := by decide
  exact ⟨x.1, x.2.1, fun a k q _ => x.2.2.1 a k (by omega) (by omega), fun a k q => x.2.2.2 a k (by omega), fun c m q k => x.2.2.1 _ k (by have := i1 _ q; simp only at this; omega) (by have := i1 _ q; simp only at this; omega), fun c k m q => x.2.2.1 _ k (by have := i2 _ q; simp only at this; omega) (by have := i2 _ q; simp only at this; omega)⟩
theorem CPl.st (x : CPl h (X + 9) P) (z : stf X h g) : CPl g (X + 9) P := x.cg (fun a k h1 h2 => z.2.2.1 a k (by omega) (by omega)) (fun a k h1 h2 => z.2.2.2 a k (by omega))
theorem ly0_L2 (L : LY0 h X) : LY2 h (X + 1426) := by
  have q : ∀ i, i < lyT0.length → ∀ q, lyT0[i]? = some q → ah_kd h (X + q.1) = q.2.1 ∧ ah_R h (X + q.1) q.2.2.1 = X + q.2.2.2.1 ∧ ah_kd h (X + q.2.2.2.1) = q.2.2.2.2.1 ∧ ah_ln h (X + q.2.2.2.1) = q.2.2.2.2.2 := fun i _ q e => L.1.2 q (List.mem_of_getElem? e)
  have q1 := L.1.2 (1426, 3, 0, 1427, 41, 20) (by decide)
  have q2 := L.1.2 (1426, 3, 1, 1428, 41, 20) (by decide)
  have q3 := L.1.2 (1426, 3, 2, 1429, 41, 20) (by decide)
  refine ⟨q1.1, fun q hq => ?_⟩
  simp only [lyT2, List.mem_cons, List.not_mem_nil, or_false] at hq
  rcases hq with rfl | rfl | rfl
  · exact q1
  · exact q2
  · exact q3
/-- lasts, firsts, owes by the sums of n grades -/
def stI (S : MS) (tx : Nat → List Nat × List PD) (kn : Int32) (X yr n : Nat) (g : ah_T) : Prop := ∀ f, f < 20 → ah_J g (X + 1438) f = dN (stAS S tx kn yr n f) (stBS S tx kn yr n f) ∧ ah_J g (X + 1439) f = lN (stBS S tx kn yr n f) ∧ ah_J g (X + 1440) f = 0
theorem stI.cg (x : stI S tx kn X yr n g) (e : ∀ a k, X + 1438 ≤ a → a ≤ X + 1440 → ah_J g2 a k = ah_J g a k) : stI S tx kn X yr n g2 := fun f hf => by rw [e _ _ (by omega) (by omega), e _ _ (by omega) (by omega), e _ _ (by omega) (by omega)]; exact x f hf
/-- one grade -/
theorem c_settle108 (L : LY0 h X) (W : WF S) (B : WB S) (hy : yr < 10) (hg : gr < 6) (cp : CPl h (X + 9) (PLS S tx kn (nV S))) (I : stI S tx kn X yr gr h) (hs : ∀ f, f < 20 → ah_J h (X + 1427) f = lN (spl 20 (brG S tx kn yr gr) (lfS S tx kn yr gr) f))
    (K : ∀ g, stf X h g → stI S tx kn X yr (gr + 1) g → MX G mi_X0_settle (d + 1) 42 [some (rv X), some (iv (nI yr)), none, some (iv (nI (gr + 1))), none, none, none, none] [] g Q E) :
    MX G mi_X0_settle (d + 1) 108 [some (rv X), some (iv (nI yr)), none, some (iv (nI gr)), some (rv (X + (126 + 22 * (10 * gr + yr)))), some (jv (lN (fiS S tx yr gr))), none, some (iv (0 : Int32))] [] h Q E := by
  have eA : X + 9 + (97 + 22 * (10 * gr + yr) + 2 * 10) = X + (126 + 22 * (10 * gr + yr)) := by omega
  have H3 : LY3 h (X + (126 + 22 * (10 * gr + yr))) := by rw [← eA]; exact ly1_H L.2.1 (by omega) (by omega)
  have hb : ∀ f, f < 20 → ah_I h (X + (126 + 22 * (10 * gr + yr)) + 1) f = nI (brG S tx kn yr gr f) := fun f hf => by rw [← eA]; exact (cp.1 10 (10 * gr + yr) (by omega) (by omega)).1 f hf
  refine mx_up (α := Unit) (fun f _ => [some (rv X), some (iv (nI yr)), none, some (iv (nI gr)), some (rv (X + (126 + 22 * (10 * gr + yr)))), some (jv (lN (fiS S tx yr gr))), none, some (iv (nI f))]) 20 (fun f _ g => stf X h g ∧ (∀ k, ah_J g (X + 1427) k = ah_J h (X + 1427) k) ∧ ∀ j, j < 20 → (if j < f then ah_J g (X + 1438) j = dN (stAS S tx kn yr (gr + 1) j) (stBS S tx kn yr (gr + 1) j) ∧ ah_J g (X + 1439) j = lN (stBS S tx kn yr (gr + 1) j) else ah_J g (X + 1438) j = dN (stAS S tx kn yr gr j) (stBS S tx kn yr gr j) ∧ ah_J g (X + 1439) j = lN (stBS S tx kn yr gr j)) ∧ ah_J g (X + 1440) j = 0) (fun f _ g hf hI KK => ?_) (fun _ g hI => ?_) 0 () h (Nat.zero_le _) ⟨stf.rf, fun _ => rfl, fun j hj => ⟨by rw [if_neg (by omega)]; exact ⟨(I j hj).1, (I j hj).2.1⟩, (I j hj).2.2⟩⟩
  · obtain ⟨z, i0, i1⟩ := hI
    have Lg := z.qf.ly L
    have Hg := H3.ext (z.qf.ext (ly0_k L))
    refine v_X0_settle_108 Lg ⟨fun c => ?_, fun _ => ?_⟩
    · exfalso; rw [i3_le, nI_x (by omega)] at c; have : (20 : Int) ≤ (f : Int) := c; omega
    have q := i1 f hf
    rw [if_neg (Nat.lt_irrefl _)] at q
    have bf := (brf_b (tx := tx) (kn := kn) W B hy hg hf).2
    have hbg : ah_I g (X + (126 + 22 * (10 * gr + yr)) + 1) f = nI (brG S tx kn yr gr f) := by rw [z.2.2.1 _ _ (by omega) (by omega)]; exact hb f hf
    rw [nI_clamp (n := f) (by omega), ly3_R_0_0 Hg, hbg, nI_l (by omega), lN_mul, q.1.1, q.1.2, lN_add, i0 f, hs f hf, dN_s, dN_add, nI_1]
    refine ⟨vp_in_nI hf (by decide), ly3_k Hg, ly3_A_1 Hg (vp_in_nI hf (by decide)), fun h5 e5 _ h6 e6 _ => ?_⟩
    refine KK () h6 ⟨by rw [e6, e5]; exact (z.wJ (by omega)).wJ (by omega), fun k => by rw [e6, rd_Ja (by omega), e5, rd_Ja (by omega)]; exact i0 k, fun j hj => ⟨?_, by rw [e6, rd_Ja (by omega), e5, rd_Ja (by omega)]; exact (i1 j hj).2⟩⟩
    by_cases c : j = f
    · rw [if_pos (by omega), e6, rd_JJ, rd_JJ, if_neg (c := X + 1439 = X + 1438 ∧ j = f) (fun w => by have := w.1; omega), if_pos ⟨rfl, c⟩, e5, rd_JJ, if_pos ⟨rfl, c⟩, c]
      exact ⟨rfl, rfl⟩
    · have r := (i1 j hj).1
      have e1 : ah_J h6 (X + 1438) j = ah_J g (X + 1438) j := by rw [e6, rd_JJ, if_neg (fun w => c w.2), e5, rd_Ja (by omega)]
      have e2 : ah_J h6 (X + 1439) j = ah_J g (X + 1439) j := by rw [e6, rd_Ja (by omega), e5, rd_JJ, if_neg (fun w => c w.2)]
      rw [e1, e2]
      by_cases c2 : j < f
      · rw [if_pos c2] at r; rw [if_pos (by omega)]; exact r
      · rw [if_neg c2] at r; rw [if_neg (by omega)]; exact r
  · obtain ⟨z, i0, i1⟩ := hI
    refine v_X0_settle_108 (z.qf.ly L) ⟨fun _ => ?_, fun c => absurd (by decide) c⟩
    rw [nI_1]
    refine K g z (fun f hf => ?_)
    have q := i1 f hf
    rw [if_pos hf] at q
    exact ⟨q.1.1, q.1.2, q.2⟩
/-- what settling has left -/
def stZ (S : MS) (tx : Nat → List Nat × List PD) (kn : Int32) (X yr : Nat) (g : ah_T) : Prop := (∀ f, f < 20 → ah_J g (X + 1438) f = dN (stAS S tx kn yr 6 f) (stBS S tx kn yr 6 f) ∧ ah_J g (X + 1439) f = lN (stBS S tx kn yr 6 f) ∧ ah_J g (X + 1440) f = lN (owS S tx kn yr f)) ∧ ah_J g X 27 = lN (blS S tx kn yr) ∧ ah_J g X 28 = lN (sdS S tx kn yr)
theorem c_settle (L : LY0 h X) (C : CI0 h X S) (T : CIk G h X S tx) (hy : yr < 10) (K : ∀ g, qfr X h g → stZ S tx kn X yr g → Q none g) : MX G mi_X0_settle (d + 53) 0 [some (rv X), some (iv (nI yr)), some (iv kn), none, none, none, none, none] [] h Q E := by
  have W := C.2.2.2.2.2
  have B : WB S := ⟨C.iF.2, C.iE.2, C.iV.2⟩
  refine v_X0_settle (d := d + 52) L ?_
  refine c_plays (d := d) L C T (fun g0 I _ => ?_)
  intro _
  have q0 := I.1
  have cp0 := I.2.1
  clear I
  have L0 := q0.ly L
  have C0 := C.qf L q0
  have T0 := T.qf L q0
  suffices HH : MX G mi_X0_settle (d + 52 + 1) 7 [some (rv X), some (iv (nI yr)), none, some (iv (0 : Int32)), none, none, none, none] [] g0 Q E from HH
  have K : ∀ g, stf X g0 g → stZ S tx kn X yr g → Q none g := fun g z s => K g (q0.tr z.qf) s
  -- nothing
  refine mx_up (α := Unit) (fun f _ => [some (rv X), some (iv (nI yr)), none, some (iv (nI f)), none, none, none, none]) 20 (fun f _ g => stf X g0 g ∧ ∀ j, j < f → ah_J g (X + 1438) j = 0 ∧ ah_J g (X + 1439) j = 0 ∧ ah_J g (X + 1440) j = 0) (fun f _ g hf hI KK => ?_) (fun _ g hI => ?_) 0 () g0 (Nat.zero_le _) ⟨stf.rf, fun j hj => by omega⟩
  · obtain ⟨z, i1⟩ := hI
    refine v_X0_settle_7 (d := d + 52) (z.qf.ly L0) ⟨fun c => ?_, fun _ => ⟨vp_in_nI hf (by decide), fun h3 e3 _ h4 e4 _ h5 e5 _ => ?_⟩⟩
    · exfalso; rw [i3_le, nI_x (by omega)] at c; have : (20 : Int) ≤ (f : Int) := c; omega
    · rw [nI_clamp (by omega)] at e3 e4 e5
      rw [nI_1]
      refine KK () h5 ⟨by rw [e5, e4, e3]; exact ((z.wJ (by omega)).wJ (by omega)).wJ (by omega), fun j hj => ?_⟩
      by_cases c : j = f
      · refine ⟨?_, ?_, ?_⟩
        · rw [e5, rd_Ja (by omega), e4, rd_Ja (by omega), e3, rd_JJ, if_pos ⟨rfl, c⟩]
        · rw [e5, rd_Ja (by omega), e4, rd_JJ, if_pos ⟨rfl, c⟩]
        · rw [e5, rd_JJ, if_pos ⟨rfl, c⟩]
      · obtain ⟨r1, r2, r3⟩ := i1 j (by omega)
        refine ⟨?_, ?_, ?_⟩
        · rw [e5, rd_Ja (by omega), e4, rd_Ja (by omega), e3, rd_JJ, if_neg (fun w => c w.2)]; exact r1
        · rw [e5, rd_Ja (by omega), e4, rd_JJ, if_neg (fun w => c w.2), e3, rd_Ja (by omega)]; exact r2
        · rw [e5, rd_JJ, if_neg (fun w => c w.2), e4, rd_Ja (by omega), e3, rd_Ja (by omega)]; exact r3
  obtain ⟨z1, i1⟩ := hI
  refine v_X0_settle_7 (d := d + 52) (z1.qf.ly L0) ⟨fun _ => ?_, fun c => absurd (by decide) c⟩
  -- the grades
  refine mx_up (α := Unit) (fun gr _ => [some (rv X), some (iv (nI yr)), none, some (iv (nI gr)), none, none, none, none]) 6 (fun gr _ g => stf X g0 g ∧ stI S tx kn X yr gr g) (fun gr _ g hg hI KK => ?_) (fun _ g hI => ?_) 0 () g (Nat.zero_le _) ⟨z1, fun f hf => by rw [(i1 f hf).1, (i1 f hf).2.1, (i1 f hf).2.2]; exact ⟨dN_0.symm, rfl, rfl⟩⟩
  · obtain ⟨z, I⟩ := hI
    have Lg := z.qf.ly L0
    have Cg := C0.qf L0 z.qf
    have Tg := T0.qf L0 z.qf
    have cpg := cp0.st z
    refine v_X0_settle_42 (d := d + 52) Lg ⟨fun c => ?_, fun _ => ⟨vp_in_nI hg (by decide), vp_in_nI hy (by decide), ?_⟩⟩
    · exfalso; rw [i3_le, nI_x (by omega)] at c; have : (6 : Int) ≤ (gr : Int) := c; omega
    refine c_firstOf (d := d + 1) Lg Cg Tg (fun g4 z4 => ?_)
    intro _
    have y4 := z.tr z4.st
    refine c_heldOf (d := d + 1) (y4.qf.ly L0) (C0.qf L0 y4.qf) (T0.qf L0 y4.qf) hg hy (fun g6 z6 => ?_)
    intro _
    have y6 := y4.tr z6.st
    have cp4 := cp0.st y4
    have hj : ah_J g4 (X + (90 + gr)) yr = lN (cmS S tx kn yr gr) := by
      have := cp4.2.2.2.1 (10 * gr + yr) (by omega)
      rw [show X + 9 + (81 + (10 * gr + yr) / 10) = X + (90 + gr) by omega, show (10 * gr + yr) % 10 = yr by omega] at this
      exact this
    have eA : X + 9 + (97 + 22 * (10 * gr + yr) + 2 * 10) = X + (126 + 22 * (10 * gr + yr)) := by omega
    have hh := cp4.1 10 (10 * gr + yr) (by omega) (by omega)
    rw [eA] at hh
    have bb := (brf_b (tx := tx) (kn := kn) W B hy hg (show 0 < 20 by decide)).1
    have hb2 : ah_I g4 (X + (126 + 22 * (10 * gr + yr))) 1 = nI (sN (brG S tx kn yr gr) 20) := hh.2
    rw [nI_clamp (n := gr) (by omega), nI_clamp (n := yr) (by omega), hj, (hdS_v (tx := tx) (kn := kn) W B).1, hb2, nI_l (by omega), lN_sub (hdS_v (tx := tx) (kn := kn) W B).2]
    have L6 := y6.qf.ly L0
    have H3 : LY3 g6 (X + (126 + 22 * (10 * gr + yr))) := by rw [← eA]; exact ly1_H L6.2.1 (by omega) (by omega)
    refine c_split (d := d + 51) (w := brG S tx kn yr gr) (sum := lfS S tx kn yr gr) (ly0_L2 L6) (ly3_K_1 H3) (ly3_N_1 H3) (fun f hf => ?_) (by omega) (fun f hf => lf_p W B hy hg hf) (by have := cmS_b (tx := tx) (kn := kn) (yr := yr) (g := gr) W B; unfold lfS; omega) (fun g8 z8 hs => ?_)
    · rw [z6.2.2.1 _ _ (by omega)]; exact hh.1 f hf
    · intro _
      have y8 := y6.tr (z8.st (by decide))
      rw [fiS_v.1]
      have I8 : stI S tx kn X yr gr g8 := I.cg (fun a k h1 h2 => by rw [z8.2.2 a k (fun i hi => by simp only [List.mem_cons, List.not_mem_nil, or_false] at hi; omega), z6.2.2.2 a k (by omega) (by omega), z4.2.2.2 a k (by omega) (by omega)])
      exact c_settle108 (d := d + 52) (y8.qf.ly L0) W B hy hg (cp0.st y8) I8 hs (fun g9 z9 I9 => KK () g9 ⟨y8.tr z9, I9⟩)
  obtain ⟨z2, I2⟩ := hI
  refine v_X0_settle_42 (d := d + 52) (z2.qf.ly L0) ⟨fun _ => ?_, fun c => absurd (by decide) c⟩
  have bB := stBS_b (tx := tx) (kn := kn) W B hy
  have bA := stAS_all (tx := tx) (kn := kn) (yr := yr) W B
  have bBf : ∀ f, f < 20 → stBS S tx kn yr 6 f ≤ 1200000000 := fun f hf => Nat.le_trans (sN_ge hf) bB
  have bAf : ∀ f, f < 20 → stAS S tx kn yr 6 f ≤ 72000000000 := fun f hf => stAS_b W B hf
  -- the sum
  rw [show (0 : Int64) = dN (sN (stAS S tx kn yr 6) 0) (sN (stBS S tx kn yr 6) 0) from dN_0.symm]
  refine mx_up (α := Unit) (fun f _ => [some (rv X), some (iv (nI yr)), none, some (jv (dN (sN (stAS S tx kn yr 6) f) (sN (stBS S tx kn yr 6) f))), none, some (iv (nI f)), none, none]) 20 (fun f _ g' => g' = g) (fun f _ g' hf e KK => ?_) (fun _ g' e => ?_) 0 () g (Nat.zero_le _) rfl
  · subst e
    refine v_X0_settle_187 (d := d + 52) (z2.qf.ly L0) ⟨fun c => ?_, fun _ => ⟨vp_in_nI hf (by decide), ?_⟩⟩
    · exfalso; rw [i3_le, nI_x (by omega)] at c; have : (20 : Int) ≤ (f : Int) := c; omega
    · rw [nI_clamp (by omega), (I2 f hf).1, dN_add, nI_1]
      exact KK () g' rfl
  subst e
  refine v_X0_settle_187 (d := d + 52) (z2.qf.ly L0) ⟨fun _ h2 e2 _ => ?_, fun c => absurd (by decide) c⟩
  rw [dN_neg, jMax_d (by omega) (by omega)] at e2
  have y2 : stf X g0 h2 := by rw [e2]; exact z2.wJ (by omega)
  have j27 : ah_J h2 X 27 = lN (blS S tx kn yr) := by rw [e2, rd_JJ, if_pos ⟨rfl, rfl⟩]; rfl
  have I3 : stI S tx kn X yr 6 h2 := I2.cg (fun a k h1 _ => by rw [e2, rd_Ja (by omega)])
  clear e2
  refine c_force (y2.qf.ly L0) (C0.qf L0 y2.qf) (T0.qf L0 y2.qf) (fun v g6 e6 r6 _ => ?_)
  intro _ h5 e5 _
  rw [← e6] at e5
  subst e5
  have z5 : efr X h2 h5 := by rw [e6]; exact efr.rf.wR
  refine c_clear (((y2.tr z5.st)).qf.ly L0) (fun g1 zc rg zz => ?_)
  intro _
  have zg := z5.tr zc
  have y1 := y2.tr zg.st
  have A : ∀ k, k < 11 → aok g1 41 (X + 1434) (nI k) := fun k hk => ly0_A_1434 (y1.qf.ly L0) (vp_in_nI hk (by decide))
  refine ⟨A 3 (by decide), fun h9 e9 _ => ?_⟩
  have z9 : efr X h2 h9 := by rw [e9]; exact zg.wJ
  have y9 := y2.tr z9.st
  have r9 : frc S ((52 : Int32) * nI yr + (51 : Int32)) h9 X := by
    refine frc.r (g := h5) r6 (fun a j => ?_)
    rw [e9]
    show ah_R g1 a j = _
    by_cases q : a = X ∧ j = 23
    · rw [q.1, q.2]; exact rg
    · exact zc.2.1 a j q
  rw [zg.2.2.2 _ _ (by omega) (by omega), j27, ← cst_stand]
  refine c_yr (d := d + 2) (gr := 0) (yr := yr) (y9.qf.ly L0) (C0.qf L0 y9.qf) (T0.qf L0 y9.qf) r9 wrd_stand (fun j hj => ?_) (fun g10 z10 => ?_)
  · rw [e9]
    simp only [rd_JJ, true_and, eq_self]
    rw [zz j hj]
    unfold vyr
    by_cases c : j = 3
    · rw [if_pos c, if_pos c]
    · rw [if_neg c, if_neg c]
      by_cases c0 : j = 0
      · rw [if_pos c0]; rfl
      · rw [if_neg c0]
  intro _ h14 e14 _
  have sd := sdS_v (tx := tx) (kn := kn) W B hy
  rw [sd.1] at e14
  have w10 := z9.tr z10
  have y10 := y2.tr w10.st
  have j10 : ah_J g10 X 27 = lN (blS S tx kn yr) := by rw [w10.2.2.2 _ _ (by omega) (by omega)]; exact j27
  have y14 : stf X g0 h14 := by rw [e14]; exact y10.wJ (by omega)
  have I14 : stI S tx kn X yr 6 h14 := I3.cg (fun a k h1 h2 => by rw [e14, rd_Ja (by omega), w10.2.2.2 _ _ (by omega) (by omega)])
  have a27 : ah_J h14 X 27 = lN (blS S tx kn yr) := by rw [e14, rd_JJ, if_neg (fun w => absurd w.2 (by decide))]; exact j10
  have a28 : ah_J h14 X 28 = lN (sdS S tx kn yr) := by rw [e14, rd_JJ, if_pos ⟨rfl, rfl⟩]
  clear e14
  have bb := blS_b (tx := tx) (kn := kn) W B hy
  rw [j10]
  refine ⟨fun c => ?_, fun c => ?_⟩
  · -- what each owes
    have ob := fun f hf => owW_b (tx := tx) (kn := kn) (f := f) W B hy hf
    refine mx_up (α := Unit) (fun f _ => [some (rv X), none, none, none, none, some (jv (lN (sN (owW S tx kn yr) f))), none, some (iv (nI f))]) 20 (fun f _ g => stf X g0 g ∧ stI S tx kn X yr 6 g ∧ (ah_J g X 27 = lN (blS S tx kn yr) ∧ ah_J g X 28 = lN (sdS S tx kn yr)) ∧ ∀ j, j < f → ah_J g (X + 1429) j = lN (owW S tx kn yr j)) (fun f _ g hf hI KK => ?_) (fun _ g hI => ?_) 0 () h14 (Nat.zero_le _) ⟨y14, I14, ⟨a27, a28⟩, fun j hj => by omega⟩
    · obtain ⟨z, I, a, i1⟩ := hI
      refine v_X0_settle_284 (d := d + 52) (z.qf.ly L0) ⟨fun c => ?_, fun _ => ?_⟩
      · exfalso; rw [i3_le, nI_x (by omega)] at c; have : (20 : Int) ≤ (f : Int) := c; omega
      have b1 := bBf f hf
      have b2 := bAf f hf
      rw [nI_clamp (by omega), (I f hf).1, dN_neg, jMax_d (by omega) (by omega), lN_add, nI_1]
      refine ⟨vp_in_nI hf (by decide), fun h6 e6 _ => ?_⟩
      refine KK () h6 ⟨by rw [e6]; exact z.wJ (by omega), I.cg (fun a k h1 _ => by rw [e6, rd_Ja (by omega)]), by rw [e6, rd_Ja (by omega), rd_Ja (by omega)]; exact a, fun j hj => ?_⟩
      rw [e6, rd_JJ]
      by_cases c : j = f
      · rw [if_pos ⟨rfl, c⟩, c]; rfl
      · rw [if_neg (fun w => c w.2)]; exact i1 j (by omega)
    · obtain ⟨z, I, a, i1⟩ := hI
      refine v_X0_settle_284 (d := d + 52) (z.qf.ly L0) ⟨fun _ => ?_, fun c => absurd (by decide) c⟩
      rw [a.1, a.2, lN_sub sd.2]
      refine c_split2 (w := owW S tx kn yr) (ly0_L2 (z.qf.ly L0)) i1 (by have := owW_all (tx := tx) (kn := kn) W B hy; omega) (fun f hf => ow_p W B hy hf) (by omega) (fun g8 z8 hs => ?_)
      intro _ h4 e4 _
      have y8 := z.tr (z8.st (by decide))
      have cpJ : ∀ q j, ah_J h4 q j = if q = X + 1440 ∧ 0 ≤ j ∧ j < 0 + 20 then ah_J g8 (X + 1427) (0 + (j - 0)) else ah_J g8 q j := fun q j => by rw [e4]; rfl
      have cpI : ∀ q j, q ≠ X + 1440 → ah_I h4 q j = ah_I g8 q j := fun q j hq => by
        rw [e4]
        show (if q = X + 1440 ∧ _ then _ else _) = _
        rw [if_neg (fun w => hq w.1)]; rfl
      have o8 : ∀ a k, a ≠ X + 1440 → a ≠ X + 1427 → a ≠ X + 1428 → ah_J h4 a k = ah_J g a k := fun a k h0 h1 h2 => by
        rw [cpJ, if_neg (fun w => h0 w.1)]
        exact z8.2.2 a k (fun i hi => by simp only [List.mem_cons, List.not_mem_nil, or_false] at hi; omega)
      have y4 : stf X g0 h4 := y8.tr ⟨by rw [e4]; exact ⟨rfl, rfl, rfl⟩, fun a k _ => by rw [e4]; rfl, fun a k _ ha => cpI a k ha, fun a k ha => by rw [cpJ, if_neg (fun w => by have := w.1; omega)]⟩
      refine K h4 y4 ⟨fun f hf => ⟨?_, ?_, ?_⟩, ?_, ?_⟩
      · rw [o8 _ _ (by omega) (by omega) (by omega)]; exact (I f hf).1
      · rw [o8 _ _ (by omega) (by omega) (by omega)]; exact (I f hf).2.1
      · rw [cpJ, if_pos ⟨rfl, Nat.zero_le _, by omega⟩, show 0 + (f - 0) = f by omega]
        exact hs f hf
      · rw [o8 _ _ (by omega) (by omega) (by omega)]; exact a.1
      · rw [o8 _ _ (by omega) (by omega) (by omega)]; exact a.2
  · -- nobody owes
    have b0 : blS S tx kn yr = 0 := (lN_le0 (by omega)).mp (by rw [c]; decide)
    refine K h14 y14 ⟨fun f hf => ⟨(I14 f hf).1, (I14 f hf).2.1, ?_⟩, a27, a28⟩
    rw [(I14 f hf).2.2]
    unfold owS
    rw [b0, Nat.zero_sub, spl_0]; rfl
end

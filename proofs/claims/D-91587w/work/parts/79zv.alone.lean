/-! ===== alone, more ===== -/
def alK (S : MS) (tx : Nat → List Nat × List PD) (kn : Int32) (k : Nat) : Int64 := (iMax (0 : Int32) (S.1 60 (iMax (0 : Int32) (S.1 17 k - S.1 0 90)).toNatClampNeg - S.1 0 89 * grS S tx k kn)).toInt64 * (nt S k - nI (PLS S tx kn (nV S) 17 0 k)).toInt64
def alS (S : MS) (tx : Nat → List Nat × List PD) (kn x1 x2 : Int32) : Nat → Int64
  | 0 => 0
  | k + 1 => if S.1 18 k ≤ kn ∧ S.1 9 k = 0 ∧ S.1 10 k = x1 ∧ S.1 14 k = x2 then alS S tx kn x1 x2 k + alK S tx kn k else alS S tx kn x1 x2 k
def moS (S : MS) (tx : Nat → List Nat × List PD) (kn : Int32) (yr : Nat) : Nat → Nat
  | 0 => 0
  | f + 1 => moS S tx kn yr f + (if sN (fun g => PLS S tx kn (nV S) 10 (10 * g + yr) f) 6 ≠ 0 ∧ ¬ lN (stBS S tx kn yr 6 f) + dN (stAS S tx kn yr 6 f) (stBS S tx kn yr 6 f) ≤ alS S tx kn (nI f) (nI yr) (nV S) then 1 else 0)
section
variable {G : ma_G} {d X M k n yr gr : Nat} {P : PS} {h g g2 : ah_T} {S : MS} {tx : Nat → List Nat × List PD} {kn x1 x2 : Int32} {Q : Option ma_V → ah_T → Prop} {E : Nat → ah_T → Prop}
theorem wk_in (W : WF S) (hk : k < nV S) : vp_in (iMax (0 : Int32) (S.1 17 k - S.1 0 90)) 520 := by
  have w := (W.2.2.2.1 k hk).1
  have l := W.2.2.2.2.2.2.2.2
  have w1 := w.1
  have w2 := w.2
  have l1 := l.1
  have l2 := l.2
  have e : (S.1 17 k - S.1 0 90).toInt = (S.1 17 k).toInt - (S.1 0 90).toInt := i3_sb (by omega) (by omega)
  unfold iMax
  split
  · rename_i c
    rw [i3_lt, e] at c
    have c : (0 : Int) < _ := c
    exact vp_x (by omega) (by rw [e]; show _ < (520 : Int); omega)
  · exact vp_x (by decide) (by decide)
theorem c_aloneOf (L : LY0 h X) (C : CI0 h X S) (I : ∀ j, j < nV S → S.1 18 j ≤ kn → S.1 9 j = 0 → ah_I h (ah_R h (X + 4) j) 6 = grS S tx j kn) (tb : ∀ j, j < nV S → S.1 18 j ≤ kn → S.1 9 j = 0 → ah_I h (X + 1448) j = nI (PLS S tx kn (nV S) 17 0 j)) (K : Q (some (jv (alS S tx kn x1 x2 (nV S)))) h) : MX G mi_X0_aloneOf (d + 2) 0 [some (rv X), some (iv x1), some (iv x2), some (iv kn), none, none, none, none, none] [] h Q E := by
  have W := C.2.2.2.2.2
  have B : WB S := ⟨C.iF.2, C.iE.2, C.iV.2⟩
  have v120 := B.2.2
  have f20 := B.1
  refine v_X0_aloneOf L ?_
  refine mx_up (α := Unit) (fun k _ => [some (rv X), some (iv x1), some (iv x2), some (iv kn), some (jv (alS S tx kn x1 x2 k)), none, some (iv (nI k)), none, none]) (nV S) (fun k _ g => g = h) (fun k _ g hk e KK => ?_) (fun _ g e => ?_) 0 () h (Nat.zero_le _) rfl
  · subst e
    have kk := KK () g rfl
    have same : ¬ (S.1 18 k ≤ kn ∧ S.1 9 k = 0 ∧ S.1 10 k = x1 ∧ S.1 14 k = x2) → MX G mi_X0_aloneOf (d + 2) 6 [some (rv X), some (iv x1), some (iv x2), some (iv kn), some (jv (alS S tx kn x1 x2 k)), none, some (iv (nI (k + 1))), none, none] [] g Q E := fun c => by
      have e : alS S tx kn x1 x2 (k + 1) = alS S tx kn x1 x2 k := if_neg c
      rw [e] at kk; exact kk
    obtain ⟨p1, p2, p3, p4, p5⟩ := (C.2.2.2.1.2.1 k (by omega)).1 hk
    have ld := C.2.2.2.1.ld hk
    refine v_X0_aloneOf_6 L ⟨fun c => ?_, fun _ => ?_⟩
    · exfalso; rw [C.iV.1, i3_le, nI_x (by omega), nI_x (by omega)] at c; omega
    rw [nI_clamp (n := k) (by omega), p3, p2, p4, nI_1]
    refine ⟨fun c => absurd c (by rw [i3_lt, nI_x (by omega)]; show ¬ (k : Int) < 0; omega), fun _ => ⟨vp_in_nI (by omega) (by decide), C.2.2.2.1.ks hk, fun kd => ⟨fun k8 => ?_, fun k8 => ?_⟩, fun kd => ?_⟩⟩
    · have h0 := ld.mp kd
      have h0' : S.1 9 k = 0 := by rw [i3_eq]; exact h0
      obtain ⟨x0, y1, y1', y2, y2', y5, y5', y6, y6', yy, yy', ey, y4, yg, yg', ye, ye'⟩ := ev_ld (tx := tx) (kn := kn) W B hk h0'
      rcases p5 with ⟨a1, a2, a3, a4, a5⟩ | ⟨a1, -⟩ | ⟨a1, -⟩ | ⟨a1, -⟩
      case inr.inl => rw [h0'] at a1; exact absurd a1 (by decide)
      case inr.inr.inl => rw [h0'] at a1; exact absurd a1 (by decide)
      case inr.inr.inr => rw [h0'] at a1; exact absurd a1 (by decide)
      obtain ⟨f1, f2, f3, f4, f5, f6, f7⟩ := (C.2.1.2 (S.1 10 k).toNatClampNeg (by have : (S.1 10 k).toNatClampNeg = evS S tx kn 1 k := rfl; omega)).1 y1'
      have f6' : ah_I g (ah_R g (X + 2) (S.1 10 k).toNatClampNeg) 0 = S.1 10 k := f6.trans y1.symm
      have i38 : ah_I g X 38 = S.1 0 90 := C.1.2 0 38 90 (by decide)
      have i37 : ah_I g X 37 = S.1 0 89 := C.1.2 0 37 89 (by decide)
      rw [a3, a5, f6', I k hk k8 h0', tb k hk k8 h0', i38, i37, C.1.1 1447 60 (by decide)]
      refine ⟨f2, fun c => ?_, fun c => ⟨fun c2 => ⟨wk_in W hk, ?_⟩, fun c2 => ?_⟩⟩
      · exact same (fun w => c w.2.2.1)
      · have e : alS S tx kn x1 x2 (k + 1) = alS S tx kn x1 x2 k + alK S tx kn k := if_pos ⟨k8, h0', c, ey.trans c2⟩
        rw [e] at kk; exact kk
      · exact same (fun w => c2 (ey.symm.trans w.2.2.2))
    · exact same (fun w => k8 w.1)
    · exact same (fun w => kd (ld.mpr (by rw [w.2.1]; rfl)))
  · subst e
    refine v_X0_aloneOf_6 L ⟨fun _ => K, fun c => absurd ?_ c⟩
    rw [C.iV.1, i3_le]; exact Int.le_refl _
theorem m_aloneOf (L : LY8 h M) (kS : kq S (mv h M)) (W : WF S) (B : WB S) (F : mpF S tx kn M h) (K : Q (some (jv (alS S tx kn x1 x2 (nV S)))) h) : MX G mi_X8_aloneOf (d + 1) 0 [some (rv M), some (iv x1), some (iv x2), some (iv kn), none, none, none, none] [] h Q E := by
  have v120 := B.2.2
  have EW := evS_w (tx := tx) (kn := kn) W B
  have iVm : ah_I h M 7 = nI (nV S) := (kS.z 7 (by decide) (by decide)).trans W.1.2.2.1
  refine v_X8_aloneOf L ?_
  refine mx_up (α := Unit) (fun k _ => [some (rv M), some (iv x1), some (iv x2), some (iv kn), some (jv (alS S tx kn x1 x2 k)), none, some (iv (nI k)), none]) (nV S) (fun k _ g => g = h) (fun k _ g hk e KK => ?_) (fun _ g e => ?_) 0 () h (Nat.zero_le _) rfl
  · subst e
    have kk := KK () g rfl
    have same : ¬ (S.1 18 k ≤ kn ∧ S.1 9 k = 0 ∧ S.1 10 k = x1 ∧ S.1 14 k = x2) → MX G mi_X8_aloneOf (d + 1) 6 [some (rv M), some (iv x1), some (iv x2), some (iv kn), some (jv (alS S tx kn x1 x2 k)), none, some (iv (nI (k + 1))), none] [] g Q E := fun c => by
      have e : alS S tx kn x1 x2 (k + 1) = alS S tx kn x1 x2 k := if_neg c
      rw [e] at kk; exact kk
    refine v_X8_aloneOf_6 L ⟨fun c => ?_, fun _ => ?_⟩
    · exfalso; rw [iVm, i3_le, nI_x (by omega), nI_x (by omega)] at c; omega
    rw [nI_clamp (n := k) (by omega), kS.r 18 _ (by decide), kS.r 9 _ (by decide), kS.r 10 _ (by decide), kS.r 14 _ (by decide), kS.r 17 _ (by decide), kS.r 15 _ (by decide), kS.r 16 _ (by decide), kS.z 90 (by decide) (by decide), kS.z 89 (by decide) (by decide), kS.r 60 _ (by decide), nI_1]
    refine ⟨vp_in_nI (by omega) (by decide), fun q => ?_, fun q => ⟨fun q2 => ?_, fun q2 => ⟨fun q3 => ?_, fun q3 => ⟨fun q4 => ?_, fun q4 => ?_⟩⟩⟩⟩
    · refine same (fun c => ?_)
      have := c.1
      rw [i3_le] at this; rw [i3_lt] at q; omega
    · exact same (fun c => q2 c.2.1)
    · exact same (fun c => q3 c.2.2.1)
    · have k8 : S.1 18 k ≤ kn := by rw [i3_le]; rw [i3_lt] at q; omega
      obtain ⟨f25, f27⟩ := F.1 k hk k8 q2
      have p17 := PL_17 (ro := roS S) EW (ev_kn.mpr k8) ((evS_0 W B hk).mpr q2) (nV S) (Nat.le_refl _) hk
      have p17 : PLS S tx kn (nV S) 17 0 k = ldT (roS S) (evS S tx kn) k (PLS S tx kn k) := p17
      rw [f25, f27, ← p17]
      refine ⟨wk_in W hk, ?_⟩
      have e : alS S tx kn x1 x2 (k + 1) = alS S tx kn x1 x2 k + alK S tx kn k := if_pos ⟨k8, q2, q3, q4⟩
      rw [e] at kk; exact kk
    · exact same (fun c => q4 c.2.2.2)
  · subst e
    exact v_X8_aloneOf_6 L ⟨fun _ => K, fun c => absurd (by rw [iVm, i3_le]; exact Int.le_refl _) c⟩
/-! more -/
theorem c_more36 (L : LY0 h X) (C : CI0 h X S) (hy : yr < 10) (cp : CPl h (X + 9) (PLS S tx kn (nV S))) (I : ∀ j, j < nV S → S.1 18 j ≤ kn → S.1 9 j = 0 → ah_I h (ah_R h (X + 4) j) 6 = grS S tx j kn) (tb : ∀ j, j < nV S → S.1 18 j ≤ kn → S.1 9 j = 0 → ah_I h (X + 1448) j = nI (PLS S tx kn (nV S) 17 0 j)) (st : ∀ f, f < 20 → ah_J h (X + 1438) f = dN (stAS S tx kn yr 6 f) (stBS S tx kn yr 6 f) ∧ ah_J h (X + 1439) f = lN (stBS S tx kn yr 6 f))
    (K : ∀ h2, h2 = ah_wI h X 20 0 → Q (some (iv (nI (moS S tx kn yr (nF S))))) h2) : MX G mi_X0_more (d + 3) 36 [some (rv X), some (iv (nI yr)), some (iv kn), some (iv (0 : Int32)), some (iv (0 : Int32)), none, none] [] h Q E := by
  have W := C.2.2.2.2.2
  have B : WB S := ⟨C.iF.2, C.iE.2, C.iV.2⟩
  have f20 := B.1
  have v120 := B.2.2
  refine mx_up (α := Unit) (fun f _ => [some (rv X), some (iv (nI yr)), some (iv kn), some (iv (nI (moS S tx kn yr f))), some (iv (nI f)), none, none]) (nF S) (fun f _ g => g = h) (fun f _ g hf e KK => ?_) (fun _ g e => ?_) 0 () h (Nat.zero_le _) rfl
  · subst e
    have kk := KK () g rfl
    have iFg : ah_I g X 14 = nI (nF S) := C.iF.1
    refine v_X0_more_36 (d := d + 2) L ⟨fun c => ?_, fun _ => ?_⟩
    · exfalso; rw [iFg, i3_le, nI_x (by omega), nI_x (by omega)] at c; omega
    have bsum : sN (fun g => PLS S tx kn (nV S) 10 (10 * g + yr) f) 6 ≤ 1200000 := by
      have a := br_all (tx := tx) (kn := kn) W B hy
      have b := sN_le (f := fun g => PLS S tx kn (nV S) 10 (10 * g + yr) f) (g := fun g => sN (brG S tx kn yr g) 20) (n := 6) (fun g _ => sN_ge (f := brG S tx kn yr g) (by omega))
      omega
    refine mx_up (α := Unit) (fun gr _ => [some (rv X), some (iv (nI yr)), some (iv kn), some (iv (nI (moS S tx kn yr f))), some (iv (nI f)), some (iv (nI (sN (fun g => PLS S tx kn (nV S) 10 (10 * g + yr) f) gr))), some (iv (nI gr))]) 6 (fun gr _ g' => g' = g) (fun gr _ g' hg e K2 => ?_) (fun _ g' e => ?_) 0 () g (Nat.zero_le _) rfl
    · subst e
      have hb := (cp.1 10 (10 * gr + yr) (by omega) (by omega)).1 f (by omega)
      rw [show X + 9 + (97 + 22 * (10 * gr + yr) + 2 * 10) = X + (126 + 22 * (10 * gr + yr)) by omega] at hb
      refine v_X0_more_51 (d := d + 2) L ⟨fun c => ?_, fun _ => ⟨vp_in_nI hg (by decide), vp_in_nI hy (by decide), vp_in_nI (by omega) (by decide), ?_⟩⟩
      · exfalso; rw [i3_le, nI_x (by omega)] at c; have : (6 : Int) ≤ (gr : Int) := c; omega
      · rw [nI_clamp (n := gr) (by omega), nI_clamp (n := yr) (by omega), nI_clamp (n := f) (by omega), hb, nI_add, nI_1]
        exact K2 () g' rfl
    · subst e
      refine v_X0_more_51 (d := d + 2) L ⟨fun _ => ⟨fun c => ?_, fun c => ⟨vp_in_nI (by omega) (by decide), ?_⟩⟩, fun c => absurd (by decide) c⟩
      · have e0 : sN (fun g => PLS S tx kn (nV S) 10 (10 * g + yr) f) 6 = 0 := by
          rw [i3_le, nI_x (by omega)] at c
          have c : ((sN (fun g => PLS S tx kn (nV S) 10 (10 * g + yr) f) 6 : Nat) : Int) ≤ 0 := c
          omega
        have em : moS S tx kn yr (f + 1) = moS S tx kn yr f + 0 := by
          show moS S tx kn yr f + (if _ then 1 else 0) = _
          rw [if_neg (fun w => w.1 e0)]
        rw [em] at kk
        rw [Int32.add_zero, nI_1]; exact kk
      · have e0 : sN (fun g => PLS S tx kn (nV S) 10 (10 * g + yr) f) 6 ≠ 0 := fun w => c (by rw [w]; decide)
        rw [nI_clamp (n := f) (by omega), (st f (by omega)).1, (st f (by omega)).2, nI_1]
        refine c_aloneOf (d := d) (tx := tx) (kn := kn) L C I tb ?_
        intro _
        refine ⟨fun c2 => ?_, fun c2 => ?_⟩
        · have em : moS S tx kn yr (f + 1) = moS S tx kn yr f + 0 := by
            show moS S tx kn yr f + (if _ then 1 else 0) = _
            rw [if_neg (fun w => w.2 c2)]
          rw [em] at kk
          rw [Int32.add_zero]; exact kk
        · have em : moS S tx kn yr (f + 1) = moS S tx kn yr f + 1 := by
            show moS S tx kn yr f + (if _ then 1 else 0) = _
            rw [if_pos ⟨e0, c2⟩]
          rw [em] at kk
          rw [nI_1]; exact kk
  · subst e
    refine v_X0_more_36 (d := d + 2) L ⟨fun _ h2 e2 _ => K h2 e2, fun c => absurd ?_ c⟩
    rw [C.iF.1, i3_le]; exact Int.le_refl _
theorem m_more41 (L : LY8 h M) (kS : kq S (mv h M)) (W : WF S) (B : WB S) (hy : yr < 10) (F : mpF S tx kn M h) (st : ∀ f, f < 20 → ah_J h (M + 51) f = dN (stAS S tx kn yr 6 f) (stBS S tx kn yr 6 f) ∧ ah_J h (M + 50) f = lN (stBS S tx kn yr 6 f))
    (K : Q (some (iv (nI (moS S tx kn yr (nF S))))) h) : MX G mi_X8_more (d + 2) 41 [some (rv M), some (iv (nI yr)), some (iv kn), some (iv (0 : Int32)), some (iv (0 : Int32)), none, none, none] [] h Q E := by
  have f20 := B.1
  have v120 := B.2.2
  have EW := evS_w (tx := tx) (kn := kn) W B
  have iVm : ah_I h M 7 = nI (nV S) := (kS.z 7 (by decide) (by decide)).trans W.1.2.2.1
  have iFm : ah_I h M 5 = nI (nF S) := (kS.z 5 (by decide) (by decide)).trans W.1.1
  refine mx_up (α := Unit) (fun f _ => [some (rv M), some (iv (nI yr)), some (iv kn), some (iv (nI (moS S tx kn yr f))), some (iv (nI f)), none, none, none]) (nF S) (fun f _ g => g = h) (fun f _ g hf e KK => ?_) (fun _ g e => ?_) 0 () h (Nat.zero_le _) rfl
  · subst e
    have kk := KK () g rfl
    refine v_X8_more_41 L ⟨fun c => ?_, fun _ => ?_⟩
    · exfalso; rw [iFm, i3_le, nI_x (by omega), nI_x (by omega)] at c; omega
    have bsum : sN (fun g => PLS S tx kn (nV S) 10 (10 * g + yr) f) 6 ≤ 1200000 := by
      have a := br_all (tx := tx) (kn := kn) W B hy
      have b := sN_le (f := fun g => PLS S tx kn (nV S) 10 (10 * g + yr) f) (g := fun g => sN (brG S tx kn yr g) 20) (n := 6) (fun g _ => sN_ge (f := brG S tx kn yr g) (by omega))
      omega
    refine mx_up (α := Unit) (fun k _ => [some (rv M), some (iv (nI yr)), some (iv kn), some (iv (nI (moS S tx kn yr f))), some (iv (nI f)), some (jv (lN (sN (fun g => PLS S tx kn k 10 (10 * g + yr) f) 6))), none, some (iv (nI k))]) (nV S) (fun k _ g' => g' = g) (fun k _ g' hk e K2 => ?_) (fun _ g' e => ?_) 0 () g (Nat.zero_le _) rfl
    · subst e
      have k2 := K2 () g' rfl
      have pg := PL_bg (ro := roS S) (y := yr) (f := f) EW hk hy
      have same : ¬ (evS S tx kn 8 k ≠ 0 ∧ evS S tx kn 0 k = 0 ∧ evS S tx kn 4 k % 10 = yr ∧ evS S tx kn 1 k = f) → MX G mi_X8_more (d + 2) 56 [some (rv M), some (iv (nI yr)), some (iv kn), some (iv (nI (moS S tx kn yr f))), some (iv (nI f)), some (jv (lN (sN (fun g => PLS S tx kn k 10 (10 * g + yr) f) 6))), none, some (iv (nI (k + 1)))] [] g' Q E := fun c => by
        rw [if_neg c] at pg
        have pg : sN (fun g => PLS S tx kn (k + 1) 10 (10 * g + yr) f) 6 = sN (fun g => PLS S tx kn k 10 (10 * g + yr) f) 6 := pg
        rw [pg] at k2; exact k2
      refine v_X8_more_56 L ⟨fun c => ?_, fun _ => ?_⟩
      · exfalso; rw [iVm, i3_le, nI_x (by omega), nI_x (by omega)] at c; omega
      rw [nI_clamp (n := k) (by omega), kS.r 18 _ (by decide), kS.r 9 _ (by decide), kS.r 10 _ (by decide), kS.r 14 _ (by decide), kS.r 15 _ (by decide), kS.r 16 _ (by decide), nI_1]
      refine ⟨vp_in_nI (by omega) (by decide), fun q => ?_, fun q => ⟨fun q2 => ?_, fun q2 => ?_⟩⟩
      · refine same (fun c => ?_)
        have := ev_kn.mp c.1
        rw [i3_le] at this; rw [i3_lt] at q; omega
      · exact same (fun c => q2 ((evS_0 (tx := tx) (kn := kn) W B hk).mp c.2.1))
      · have q2 : S.1 9 k = 0 := q2
        have k8 : S.1 18 k ≤ kn := by rw [i3_le]; rw [i3_lt] at q; omega
        obtain ⟨x0, x1, x1', x2, x2', x5, x5', x6, x6', yy, yy', ey, x4, xg, xg', xe, xe'⟩ := ev_ld (tx := tx) (kn := kn) W B hk q2
        refine ⟨fun q3 => ?_, fun q3 => ⟨fun q4 => ?_, fun q4 => ?_⟩⟩
        · refine same (fun c => q3 ?_)
          rw [x1, c.2.2.2]
        · refine same (fun c => q4 ?_)
          rw [yy]; congr 1; omega
        · have e14 : (S.1 14 k).toNatClampNeg = yr := by rw [q4, nI_clamp (by omega)]
          have e1 : evS S tx kn 1 k = f := by
            rw [x1, nI_eq (by omega) (by omega)] at q3; exact q3
          obtain ⟨f25, f27⟩ := F.1 k hk k8 q2
          have p17 := PL_17 (ro := roS S) EW (ev_kn.mpr k8) x0 (nV S) (Nat.le_refl _) hk
          have tl := ldT_le (tx := tx) (kn := kn) W B hk q2
          have net : S.1 15 k - S.1 15 k * S.1 16 k / (1000 : Int32) = nI (evS S tx kn 6 k) := x6
          rw [if_pos ⟨ev_kn.mpr k8, x0, by omega, e1⟩, p17] at pg
          have pg : sN (fun g => PLS S tx kn (k + 1) 10 (10 * g + yr) f) 6 = sN (fun g => PLS S tx kn k 10 (10 * g + yr) f) 6 + (evS S tx kn 6 k - ldT (roS S) (evS S tx kn) k (PLS S tx kn k)) := pg
          rw [f25, net, pk_sub tl, nI_l (by omega), lN_add, ← pg]
          exact k2
    · subst e
      refine v_X8_more_56 L ⟨fun _ => ⟨fun c => ?_, fun c => ⟨vp_in_nI (by omega) (by decide), ?_⟩⟩, fun c => absurd (by rw [iVm, i3_le]; exact Int.le_refl _) c⟩
      · have e0 := (lN_le0 (by omega)).mp c
        have em : moS S tx kn yr (f + 1) = moS S tx kn yr f + 0 := by
          show moS S tx kn yr f + (if _ then 1 else 0) = _
          rw [if_neg (fun w => w.1 e0)]
        rw [em] at kk
        rw [Int32.add_zero, nI_1]; exact kk
      · have e0 : sN (fun g => PLS S tx kn (nV S) 10 (10 * g + yr) f) 6 ≠ 0 := fun w => c ((lN_le0 (by omega)).mpr w)
        rw [nI_clamp (n := f) (by omega), (st f (by omega)).1, (st f (by omega)).2, nI_1]
        refine m_aloneOf (d := d) (tx := tx) (kn := kn) L kS W B F ?_
        intro _
        refine ⟨fun c2 => ?_, fun c2 => ?_⟩
        · have em : moS S tx kn yr (f + 1) = moS S tx kn yr f + 0 := by
            show moS S tx kn yr f + (if _ then 1 else 0) = _
            rw [if_neg (fun w => w.2 c2)]
          rw [em] at kk
          rw [Int32.add_zero]; exact kk
        · have em : moS S tx kn yr (f + 1) = moS S tx kn yr f + 1 := by
            show moS S tx kn yr f + (if _ then 1 else 0) = _
            rw [if_pos ⟨e0, c2⟩]
          rw [em] at kk
          rw [nI_1]; exact kk
  · subst e
    exact v_X8_more_41 L ⟨fun _ => K, fun c => absurd (by rw [iFm, i3_le]; exact Int.le_refl _) c⟩
end

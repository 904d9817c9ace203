/-! ===== what came, what is kept back, what was brought ===== -/
def vyr (gr yr : Nat) : Nat → Int64 := fun j => if j = 3 then (nI yr).toInt64 else if j = 0 then (nI gr).toInt64 else 0
def ofY (S : MS) (tx : Nat → List Nat × List PD) (w gr yr : Nat) : Int64 := askS S tx (vyr gr yr) ((52 : Int32) * nI yr + (51 : Int32)) w 0 0 1000
theorem wrd_held : wrd 267652 := ⟨fun j => [104, 101, 108, 100].getD j 0, 0, 4, by decide, by decide, by decide, by decide⟩
theorem cst_held : lN (n256 8 267652) = (1751477348 : Int64) := by decide
theorem wrd_first : wrd 6605428 := ⟨fun j => [102, 105, 114, 115, 116].getD j 0, 0, 5, by decide, by decide, by decide, by decide⟩
theorem cst_first : lN (n256 8 6605428) = (439855772532 : Int64) := by decide
section
variable {G : ma_G} {d M X k n gr yr : Nat} {P : PS} {h g g2 : ah_T} {S : MS} {tx : Nat → List Nat × List PD} {kn : Int32} {Q : Option ma_V → ah_T → Prop} {E : Nat → ah_T → Prop}
theorem jCut_b {v lo hi : Int64} (h : lo.toInt ≤ hi.toInt) : lo.toInt ≤ (jCut v lo hi).toInt ∧ (jCut v lo hi).toInt ≤ hi.toInt := by
  unfold jCut
  simp only [i6_le]
  (repeat' split) <;> omega
theorem ofY_n {w : Nat} : ∃ o, o ≤ 1000 ∧ ofY S tx w gr yr = lN o := by
  have q := jCut_b (v := tolS S tx (vyr gr yr) ((52 : Int32) * nI yr + (51 : Int32)) w 0) (lo := 0) (hi := 1000) (by decide)
  have e : ofY S tx w gr yr = jCut (tolS S tx (vyr gr yr) ((52 : Int32) * nI yr + (51 : Int32)) w 0) 0 1000 := ask_cut (by decide) (by decide)
  rw [← e] at q
  have q1 : (0 : Int) ≤ (ofY S tx w gr yr).toInt := q.1
  have q2 : (ofY S tx w gr yr).toInt ≤ 1000 := q.2
  refine ⟨(ofY S tx w gr yr).toInt.toNat, by omega, ?_⟩
  rw [i6_eq, lN_p (by omega)]
  omega
/-- of a grade and a year, the class -/
theorem c_yr {w : Nat} (L : LY0 h X) (C : CI0 h X S) (T : CIk G h X S tx) (r : frc S ((52 : Int32) * nI yr + (51 : Int32)) h X) (hw : wrd w) (e : ∀ j, j < 11 → ah_J h (X + 1434) j = vyr gr yr j) (K : ∀ g, efr X h g → Q (some (jv (ofY S tx w gr yr))) g) : MX G mi_X0_asks (d + 50) 0 [some (rv X), some (jv (lN (n256 8 w))), none, some (jv (0 : Int64)), none, some (jv (0 : Int64)), none, some (jv (1000 : Int64)), none, none] [] h Q E :=
  c_ask4 (d := d) (vs := vyr gr yr) L C T hw r e (by decide) (by decide) (fun g2 z2 => K g2 z2.ef)
theorem c_heldOf (L : LY0 h X) (C : CI0 h X S) (T : CIk G h X S tx) (hg : gr < 6) (hy : yr < 10) (K : ∀ g, efr X h g → Q (some (jv (ah_J h (X + (90 + gr)) yr * ofY S tx 267652 gr yr / (1000 : Int64)))) g) : MX G mi_X0_heldOf (d + 51) 0 [some (rv X), some (iv (nI gr)), some (iv (nI yr)), none] [] h Q E := by
  have kX := ly0_k L
  refine v_X0_heldOf (d := d + 50) L ?_
  refine c_force L C T (fun v g6 e6 r6 _ => ?_)
  intro _ h3 e3 _
  rw [← e6] at e3
  subst e3
  have z3 : efr X h h3 := by rw [e6]; exact efr.rf.wR
  refine c_clear (z3.qf.ly L) (fun g1 z1 rg zz => ?_)
  intro _
  have zg := z3.tr z1
  have Lg1 := zg.qf.ly L
  have A : ∀ k, k < 11 → aok g1 41 (X + 1434) (nI k) := fun k hk => ly0_A_1434 Lg1 (vp_in_nI hk (by decide))
  refine ⟨A 0 (by decide), fun h7 e7 _ => ⟨A 3 (by decide), fun h9 e9 _ => ⟨vp_in_nI hg (by decide), vp_in_nI hy (by decide), ?_⟩⟩⟩
  have z9 : efr X h h9 := by rw [e9, e7]; exact zg.wJ.wJ
  have r9 : frc S ((52 : Int32) * nI yr + (51 : Int32)) h9 X := by
    refine frc.r (g := h3) r6 (fun a j => ?_)
    rw [e9, e7]
    show ah_R g1 a j = _
    by_cases q : a = X ∧ j = 23
    · rw [q.1, q.2]; exact rg
    · exact z1.2.1 a j q
  rw [nI_clamp (n := gr) (by omega), nI_clamp (n := yr) (by omega), z9.2.2.2 _ _ (by omega) (by omega), ← cst_held]
  refine c_yr (d := d) (gr := gr) (yr := yr) (z9.qf.ly L) (C.qf L z9.qf) (T.qf L z9.qf) r9 wrd_held (fun j hj => ?_) (fun g2 z2 => ?_)
  · rw [e9, e7]
    simp only [rd_JJ, true_and, eq_self]
    rw [zz j hj]
    rfl
  · intro _
    exact K g2 (z9.tr z2)
theorem c_firstOf (L : LY0 h X) (C : CI0 h X S) (T : CIk G h X S tx) (K : ∀ g, efr X h g → Q (some (jv (ofY S tx 6605428 gr yr))) g) : MX G mi_X0_firstOf (d + 51) 0 [some (rv X), some (iv (nI gr)), some (iv (nI yr)), none] [] h Q E := by
  have kX := ly0_k L
  refine v_X0_firstOf (d := d + 50) L ?_
  refine c_force L C T (fun v g6 e6 r6 _ => ?_)
  intro _ h3 e3 _
  rw [← e6] at e3
  subst e3
  have z3 : efr X h h3 := by rw [e6]; exact efr.rf.wR
  refine c_clear (z3.qf.ly L) (fun g1 z1 rg zz => ?_)
  intro _
  have zg := z3.tr z1
  have Lg1 := zg.qf.ly L
  have A : ∀ k, k < 11 → aok g1 41 (X + 1434) (nI k) := fun k hk => ly0_A_1434 Lg1 (vp_in_nI hk (by decide))
  refine ⟨A 0 (by decide), fun h7 e7 _ => ⟨A 3 (by decide), fun h9 e9 _ => ?_⟩⟩
  have z9 : efr X h h9 := by rw [e9, e7]; exact zg.wJ.wJ
  have r9 : frc S ((52 : Int32) * nI yr + (51 : Int32)) h9 X := by
    refine frc.r (g := h3) r6 (fun a j => ?_)
    rw [e9, e7]
    show ah_R g1 a j = _
    by_cases q : a = X ∧ j = 23
    · rw [q.1, q.2]; exact rg
    · exact z1.2.1 a j q
  rw [← cst_first]
  refine c_yr (d := d) (gr := gr) (yr := yr) (z9.qf.ly L) (C.qf L z9.qf) (T.qf L z9.qf) r9 wrd_first (fun j hj => ?_) (fun g2 z2 => ?_)
  · rw [e9, e7]
    simp only [rd_JJ, true_and, eq_self]
    rw [zz j hj]
    rfl
  · intro _
    exact K g2 (z9.tr z2)
/-! the model -/
theorem m_ofYear {w : Nat} (L : LY8 h M) (kS : kq S (mv h M)) (T : TXm S tx) (hw : w < 1099511627776) (K : ∀ g, mch [44, 45, 46, 47, 48] [72, 108] M h g → Q (some (jv (ofY S tx w gr yr))) g) : MX G mi_X8_ofYear (d + 5) 0 [some (rv M), some (jv (lN w)), none, some (iv (nI yr)), some (iv (nI gr))] [] h Q E := by
  refine v_X8_ofYear (d := d + 4) L ?_
  refine m_letNothing L (fun g1 z1 zz => ?_)
  intro _ h3 e3 _ h4 e4 _
  have z4 : mch [45] [] M h h4 := by rw [e4, e3]; exact (z1.wJ (by decide)).wJ (by decide)
  refine m_ask3 (d := d) (vs := vyr gr yr) (lo := 0) (hi := 1000) (z4.ly L) (kS.mc z4 (by decide) (by decide) (by decide)) T hw (fun j hj => ?_) (by decide) (by decide) (fun g2 v z2 ev => ?_)
  · rw [e4, e3]
    simp only [rd_JJ, true_and, eq_self]
    rw [zz j hj]
    rfl
  · intro _
    rw [ev]
    exact K g2 ((z4.mono (by decide) (by decide)).tr (z2.mono (by decide) (by decide)))
/-- what the events' rows hold, all being played -/
def mpF (S : MS) (tx : Nat → List Nat × List PD) (kn : Int32) (M : Nat) (g : ah_T) : Prop := (∀ j, j < nV S → S.1 18 j ≤ kn → S.1 9 j = 0 → ah_I g (M + 25) j = nI (ldT (roS S) (evS S tx kn) j (PLS S tx kn j)) ∧ ah_I g (M + 27) j = grS S tx j kn) ∧ ∀ j, j < nV S → S.1 18 j ≤ kn → S.1 9 j ≠ 0 → ah_I g (M + 26) j = nI (tkN (evS S tx kn) j (PLS S tx kn j))
theorem mpF.mc {A Z : List Nat} (x : mpF S tx kn M h) (m : mch A Z M h g) (h5 : 25 ∉ A) (h6 : 26 ∉ A) (h7 : 27 ∉ A) : mpF S tx kn M g := ⟨fun j hj j8 j0 => by rw [m.ar 25 h5 (by decide), m.ar 27 h7 (by decide)]; exact x.1 j hj j8 j0, fun j hj j8 j0 => by rw [m.ar 26 h6 (by decide)]; exact x.2 j hj j8 j0⟩
theorem m_came (L : LY8 h M) (kS : kq S (mv h M)) (W : WF S) (B : WB S) (F : mpF S tx kn M h) (hg : gr < 6) (hy : yr < 10) (K : Q (some (jv (lN (PLS S tx kn (nV S) 16 (10 * gr + yr) 0)))) h) : MX G mi_X8_came d 0 [some (rv M), some (iv (nI yr)), some (iv (nI gr)), some (iv kn), none, none, none] [] h Q E := by
  have v120 := B.2.2
  have EW := evS_w (tx := tx) (kn := kn) W B
  refine v_X8_came L ?_
  refine mx_up (α := Unit) (fun k _ => [some (rv M), some (iv (nI yr)), some (iv (nI gr)), some (iv kn), some (jv (lN (PLS S tx kn k 16 (10 * gr + yr) 0))), none, some (iv (nI k))]) (nV S) (fun k _ g => g = h) (fun k _ g hk e KK => ?_) (fun _ g e => ?_) 0 () h (Nat.zero_le _) rfl
  · subst e
    have iVm : ah_I g M 7 = nI (nV S) := (kS.z 7 (by decide) (by decide)).trans W.1.2.2.1
    have pc := PL_c (ro := roS S) (y := 10 * gr + yr) EW hk
    have kk := KK () g rfl
    have same : ¬ (evS S tx kn 8 k ≠ 0 ∧ evS S tx kn 0 k = 2 ∧ evS S tx kn 4 k = 10 * gr + yr) → MX G mi_X8_came d 6 [some (rv M), some (iv (nI yr)), some (iv (nI gr)), some (iv kn), some (jv (lN (PLS S tx kn k 16 (10 * gr + yr) 0))), none, some (iv (nI (k + 1)))] [] g Q E := fun c => by
      rw [if_neg c] at pc
      have pc : PLS S tx kn (k + 1) 16 (10 * gr + yr) 0 = PLS S tx kn k 16 (10 * gr + yr) 0 := pc
      rw [pc] at kk; exact kk
    refine v_X8_came_6 L ⟨fun q => ?_, fun _ => ?_⟩
    · exfalso; rw [iVm, i3_le, nI_x (by omega), nI_x (by omega)] at q; omega
    rw [nI_clamp (n := k) (by omega), kS.r 18 _ (by decide), kS.r 9 _ (by decide), kS.r 13 _ (by decide), kS.r 14 _ (by decide), kS.r 16 _ (by decide), nI_1]
    refine ⟨vp_in_nI (by omega) (by decide), fun q => ?_, fun q => ⟨fun q2 => ?_, fun q2 => ?_⟩⟩
    · refine same (fun c => ?_)
      have := ev_kn.mp c.1
      rw [i3_le] at this; rw [i3_lt] at q; omega
    · refine same (fun c => q2 ?_)
      have h0 : S.1 9 k ≠ 0 := fun e => by have := (evS_0 (tx := tx) (kn := kn) W B hk).mpr e; omega
      rw [(ev_tk (tx := tx) (kn := kn) W B hk h0).1, c.2.1]; rfl
    · have h0 : S.1 9 k ≠ 0 := by rw [q2]; decide
      obtain ⟨x0, x2, x5, x5', xg, xg', yy, yy', x4, oo⟩ := ev_tk (tx := tx) (kn := kn) W B hk h0
      have k8 : S.1 18 k ≤ kn := by rw [i3_le]; rw [i3_lt] at q; omega
      rcases oo with ⟨o0, -⟩ | ⟨o0, o1, o2, o3, o4⟩ | ⟨o0, -⟩
      case inl => rw [q2] at o0; exact absurd o0 (by decide)
      case inr.inr => rw [q2] at o0; exact absurd o0 (by decide)
      refine ⟨fun q3 => ?_, fun q3 => ⟨fun q4 => ?_, fun q4 => ?_⟩⟩
      · refine same (fun c => q3 ?_)
        rw [xg]; congr 1; omega
      · refine same (fun c => q4 ?_)
        rw [yy]; congr 1; omega
      · have e13 : (S.1 13 k).toNatClampNeg = gr := by rw [q3, nI_clamp (by omega)]
        have e14 : (S.1 14 k).toNatClampNeg = yr := by rw [q4, nI_clamp (by omega)]
        rw [if_pos ⟨ev_kn.mpr k8, o1, by omega⟩] at pc
        have p18 := PL_18 (ro := roS S) EW (ev_kn.mpr k8) (by omega : evS S tx kn 0 k ≠ 0) (nV S) (Nat.le_refl _) hk
        have tn := (tkN_le (EV := evS S tx kn) (k := k) (P := PLS S tx kn k)).1
        rw [p18] at pc
        have pc : PLS S tx kn (k + 1) 16 (10 * gr + yr) 0 = PLS S tx kn k 16 (10 * gr + yr) 0 + tkN (evS S tx kn) k (PLS S tx kn k) * evS S tx kn 7 k := pc
        rw [F.2 k hk k8 h0, o3, nI_l (by omega), nI_l (by omega), lN_mul, lN_add, ← pc]
        exact kk
  · subst e
    have iVm : ah_I g M 7 = nI (nV S) := (kS.z 7 (by decide) (by decide)).trans W.1.2.2.1
    exact v_X8_came_6 L ⟨fun _ => K, fun q => absurd (by rw [iVm, i3_le]; exact Int.le_refl _) q⟩
theorem ldT_le (W : WF S) (B : WB S) (hk : k < nV S) (h0 : S.1 9 k = 0) : ldT (roS S) (evS S tx kn) k (PLS S tx kn k) ≤ evS S tx kn 6 k := by
  have w := ev_ld (tx := tx) (kn := kn) W B hk h0
  have := (PLS_i (tx := tx) (kn := kn) W B (Nat.le_of_lt hk)).1 (evS S tx kn 2 k) (by have := B.2.1; omega)
  unfold ldT
  omega
theorem m_bring (L : LY8 h M) (kS : kq S (mv h M)) (W : WF S) (B : WB S) (F : mpF S tx kn M h) (hg : gr < 6) (hy : yr < 10) (K : ∀ g, mch [49] [] M h g → (∀ f, f < 20 → ah_J g (M + 49) f = lN (PLS S tx kn (nV S) 10 (10 * gr + yr) f)) → Q (some (jv (lN (sN (PLS S tx kn (nV S) 10 (10 * gr + yr)) 20)))) g) : MX G mi_X8_bring (d + 1) 0 [some (rv M), some (iv (nI yr)), some (iv (nI gr)), some (iv kn), none, none, none] [] h Q E := by
  have v120 := B.2.2
  have f20 := B.1
  have EW := evS_w (tx := tx) (kn := kn) W B
  refine v_X8_bring L ?_
  refine mx_up (α := Unit) (fun f _ => [some (rv M), some (iv (nI yr)), some (iv (nI gr)), some (iv kn), some (jv (0 : Int64)), none, some (iv (nI f))]) 20 (fun f _ g => mch [49] [] M h g ∧ ∀ j, j < f → ah_J g (M + 49) j = 0) (fun f _ g hf hI KK => ?_) (fun _ g hI => ?_) 0 () h (Nat.zero_le _) ⟨mch.rf, fun j hj => by omega⟩
  · obtain ⟨z, i1⟩ := hI
    refine v_X8_bring_6 (z.ly L) ⟨fun q => ?_, fun _ => ⟨vp_in_nI hf (by decide), fun h3 e3 _ => ?_⟩⟩
    · exfalso; rw [i3_le, nI_x (by omega)] at q; have : (20 : Int) ≤ (f : Int) := q; omega
    · rw [nI_clamp (by omega)] at e3
      rw [nI_1]
      refine KK () h3 ⟨by rw [e3]; exact z.wJ (by decide), fun j hj => ?_⟩
      rw [e3, rd_JJ]
      by_cases c : j = f
      · rw [if_pos ⟨rfl, c⟩]
      · rw [if_neg (fun q => c q.2)]; exact i1 j (by omega)
  obtain ⟨z0, i0⟩ := hI
  refine v_X8_bring_6 (z0.ly L) ⟨fun _ => ?_, fun q => absurd (by decide) q⟩
  refine mx_up (α := Unit) (fun k _ => [some (rv M), some (iv (nI yr)), some (iv (nI gr)), some (iv kn), some (jv (lN (sN (PLS S tx kn k 10 (10 * gr + yr)) 20))), none, some (iv (nI k))]) (nV S) (fun k _ g => mch [49] [] M h g ∧ ∀ f, f < 20 → ah_J g (M + 49) f = lN (PLS S tx kn k 10 (10 * gr + yr) f)) (fun k _ g hk hI KK => ?_) (fun _ g hI => ?_) 0 () g (Nat.zero_le _) ⟨z0, fun f hf => i0 f hf⟩
  · obtain ⟨z, i1⟩ := hI
    have kg := kS.mc z (by decide) (by decide) (by decide)
    have Fg := F.mc z (by decide) (by decide) (by decide)
    have iVm : ah_I g M 7 = nI (nV S) := (kg.z 7 (by decide) (by decide)).trans W.1.2.2.1
    have pb := fun f => PL_b (ro := roS S) (y := 10 * gr + yr) (f := f) EW hk
    have ps := PL_bs (ro := roS S) (y := 10 * gr + yr) EW f20 hk
    have same : ¬ (evS S tx kn 8 k ≠ 0 ∧ evS S tx kn 0 k = 0 ∧ evS S tx kn 4 k = 10 * gr + yr) → MX G mi_X8_bring (d + 1) 30 [some (rv M), some (iv (nI yr)), some (iv (nI gr)), some (iv kn), some (jv (lN (sN (PLS S tx kn k 10 (10 * gr + yr)) 20))), none, some (iv (nI (k + 1)))] [] g Q E := fun c => by
      rw [if_neg c] at ps
      have ps : sN (PLS S tx kn (k + 1) 10 (10 * gr + yr)) 20 = sN (PLS S tx kn k 10 (10 * gr + yr)) 20 := ps
      rw [← ps]
      refine KK () g ⟨z, fun f hf => ?_⟩
      have pb := pb f
      rw [if_neg (fun q => c ⟨q.1, q.2.1, q.2.2.1⟩)] at pb
      have pb : PLS S tx kn (k + 1) 10 (10 * gr + yr) f = PLS S tx kn k 10 (10 * gr + yr) f := pb
      rw [pb]; exact i1 f hf
    refine v_X8_bring_30 (z.ly L) ⟨fun q => ?_, fun _ => ?_⟩
    · exfalso; rw [iVm, i3_le, nI_x (by omega), nI_x (by omega)] at q; omega
    rw [nI_clamp (n := k) (by omega), kg.r 18 _ (by decide), kg.r 9 _ (by decide), kg.r 14 _ (by decide), kg.r 10 _ (by decide), kg.r 15 _ (by decide), kg.r 16 _ (by decide), nI_1]
    refine ⟨vp_in_nI (by omega) (by decide), fun q => ?_, fun q => ⟨fun q2 => ?_, fun q2 => ?_⟩⟩
    · refine same (fun c => ?_)
      have := ev_kn.mp c.1
      rw [i3_le] at this; rw [i3_lt] at q; omega
    · exact same (fun c => q2 ((evS_0 (tx := tx) (kn := kn) W B hk).mp c.2.1))
    · have q2 : S.1 9 k = 0 := q2
      have k8 : S.1 18 k ≤ kn := by rw [i3_le]; rw [i3_lt] at q; omega
      obtain ⟨x0, x1, x1', x2, x2', x5, x5', x6, x6', yy, yy', ey, x4, xg, xg', xe, xe'⟩ := ev_ld (tx := tx) (kn := kn) W B hk q2
      obtain ⟨f25, f27⟩ := Fg.1 k hk k8 q2
      have tl := ldT_le (tx := tx) (kn := kn) W B hk q2
      rw [f27, f25]
      refine ⟨fun q3 => ?_, fun q3 => ⟨fun q4 => ?_, fun q4 => ?_⟩⟩
      · refine same (fun c => q3 ?_)
        rw [xg]; congr 1; omega
      · have eg : (grS S tx k kn).toNatClampNeg = gr := by rw [q3, nI_clamp (by omega)]
        have e14 : (S.1 14 k).toNatClampNeg = yr := by rw [q4, nI_clamp (by omega)]
        have net : S.1 15 k - S.1 15 k * S.1 16 k / (1000 : Int32) = nI (evS S tx kn 6 k) := x6
        have p17 := PL_17 (ro := roS S) EW (ev_kn.mpr k8) x0 (nV S) (Nat.le_refl _) hk
        have c4 : evS S tx kn 4 k = 10 * gr + yr := by omega
        rw [if_pos ⟨ev_kn.mpr k8, x0, c4⟩, p17] at ps
        have ps : sN (PLS S tx kn (k + 1) 10 (10 * gr + yr)) 20 = sN (PLS S tx kn k 10 (10 * gr + yr)) 20 + (evS S tx kn 6 k - ldT (roS S) (evS S tx kn) k (PLS S tx kn k)) := ps
        rw [net, pk_sub tl, nI_l (by omega), x1, nI_clamp (n := evS S tx kn 1 k) (by omega), i1 _ (by omega), lN_add, lN_add, ← ps]
        refine ⟨vp_in_nI (by omega) (by decide), fun h8 e8 _ => ?_⟩
        refine KK () h8 ⟨by rw [e8]; exact z.wJ (by decide), fun f hf => ?_⟩
        have pb := pb f
        rw [p17] at pb
        rw [e8, rd_JJ]
        by_cases c : f = evS S tx kn 1 k
        · rw [if_pos ⟨ev_kn.mpr k8, x0, c4, c.symm⟩] at pb
          have pb : PLS S tx kn (k + 1) 10 (10 * gr + yr) f = PLS S tx kn k 10 (10 * gr + yr) f + (evS S tx kn 6 k - ldT (roS S) (evS S tx kn) k (PLS S tx kn k)) := pb
          rw [if_pos ⟨rfl, c⟩, pb, c]
        · rw [if_neg (fun w => c w.2.2.2.symm)] at pb
          have pb : PLS S tx kn (k + 1) 10 (10 * gr + yr) f = PLS S tx kn k 10 (10 * gr + yr) f := pb
          rw [if_neg (fun w => c w.2), pb]; exact i1 f hf
      · refine same (fun c => q4 ?_)
        rw [yy]; congr 1; omega
  · obtain ⟨z, i1⟩ := hI
    have kg := kS.mc z (by decide) (by decide) (by decide)
    have iVm : ah_I g M 7 = nI (nV S) := (kg.z 7 (by decide) (by decide)).trans W.1.2.2.1
    exact v_X8_bring_30 (z.ly L) ⟨fun _ => K g z i1, fun q => absurd (by rw [iVm, i3_le]; exact Int.le_refl _) q⟩
theorem m_kept (L : LY8 h M) (kS : kq S (mv h M)) (W : WF S) (B : WB S) (T : TXm S tx) (F : mpF S tx kn M h) (hg : gr < 6) (hy : yr < 10) (K : ∀ g, mch [44, 45, 46, 47, 48] [72, 108] M h g → Q (some (jv (lN (PLS S tx kn (nV S) 16 (10 * gr + yr) 0) * ofY S tx 267652 gr yr / (1000 : Int64)))) g) : MX G mi_X8_kept (d + 6) 0 [some (rv M), some (iv (nI yr)), some (iv (nI gr)), some (iv kn)] [] h Q E := by
  refine v_X8_kept (d := d + 5) L ?_
  refine m_came L kS W B F hg hy ?_
  intro _
  rw [show (267652 : Int64) = lN 267652 from rfl]
  refine m_ofYear (d := d) L kS T (by decide) (fun g z => ?_)
  intro _
  exact K g z
end
def paV (S : MS) (tx : Nat → List Nat × List PD) (x1 x2 x3 x4 : Int32) : Int64 := if x3 = 0 then lN (PLS S tx x4 (nV S) 16 (10 * x2.toNatClampNeg + x1.toNatClampNeg) 0) else if x3 = 1 then lN (PLS S tx x4 (nV S) 16 (10 * x2.toNatClampNeg + x1.toNatClampNeg) 0) * ofY S tx 267652 x2.toNatClampNeg x1.toNatClampNeg / (1000 : Int64) else lN (sN (PLS S tx x4 (nV S) 10 (10 * x2.toNatClampNeg + x1.toNatClampNeg)) 20)

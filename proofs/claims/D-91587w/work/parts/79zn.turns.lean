/-! ===== turns ===== -/
def vtu (S : MS) (x : Int32) (e c w : Nat) : Nat → Int64 := fun j => if j = 9 then (nI w).toInt64 else if j = 8 then (nI c).toInt64 else if j = 7 then (S.1 7 e).toInt64 else if j = 3 then (x / (52 : Int32)).toInt64 else if j = 2 then x.toInt64 else 0
def tuS (S : MS) (tx : Nat → List Nat × List PD) (x : Int32) (e c w : Nat) : Int64 := askS S tx (vtu S x e c w) x 677454 0 (-1000000) 1000000
/-- the elevator of the greatest turn -/
def tuB (S : MS) (tx : Nat → List Nat × List PD) (x : Int32) (a c : Nat → Nat) : Nat → Option (Nat × Int64)
  | 0 => none
  | e + 1 => if a e - 1000 * c e = 0 then tuB S tx x a c e else match tuB S tx x a c e with
    | none => some (e, tuS S tx x e (c e) (a e - 1000 * c e))
    | some p => if p.2 < tuS S tx x e (c e) (a e - 1000 * c e) then some (e, tuS S tx x e (c e) (a e - 1000 * c e)) else some p
def tuC (S : MS) (tx : Nat → List Nat × List PD) (x : Int32) (a : Nat → Nat) : Nat → Nat → Nat
  | 0 => fun _ => 0
  | k + 1 => match tuB S tx x a (tuC S tx x a k) (nE S) with
    | none => tuC S tx x a k
    | some p => pwr (tuC S tx x a k) p.1 (tuC S tx x a k p.1 + 1)
def bI (o : Option (Nat × Int64)) : Int32 := match o with
  | none => -1
  | some p => nI p.1
def bJ (o : Option (Nat × Int64)) : Int64 := match o with
  | none => 0
  | some p => p.2
theorem wrd_turn : wrd 677454 := ⟨fun j => [116, 117, 114, 110].getD j 0, 0, 4, by decide, by decide, by decide, by decide⟩
theorem cst_turn : lN (n256 8 677454) = (1953854062 : Int64) := by decide
section
variable {G : ma_G} {d M X n e : Nat} {h g g2 : ah_T} {S : MS} {tx : Nat → List Nat × List PD} {Q : Option ma_V → ah_T → Prop} {E : Nat → ah_T → Prop} {x x1 x2 x3 : Int32} {a c : Nat → Nat}
theorem tuB_lt : ∀ e p, tuB S tx x a c e = some p → p.1 < e
  | 0, p, h => (op_nn h).elim
  | e + 1, p, h => by
    have ih := tuB_lt e
    have h : (if a e - 1000 * c e = 0 then tuB S tx x a c e else match tuB S tx x a c e with
      | none => some (e, tuS S tx x e (c e) (a e - 1000 * c e))
      | some p => if p.2 < tuS S tx x e (c e) (a e - 1000 * c e) then some (e, tuS S tx x e (c e) (a e - 1000 * c e)) else some p) = some p := h
    split at h
    · have := ih p h; omega
    · cases q : tuB S tx x a c e with
      | none =>
        rw [q] at h
        have h := Option.some.inj h
        rw [← h]; exact Nat.lt_succ_self _
      | some p' =>
        rw [q] at h
        simp only at h
        split at h
        · have h := Option.some.inj h
          rw [← h]; exact Nat.lt_succ_self _
        · have h := Option.some.inj h
          rw [← h]
          have := ih p' q; omega
theorem tuC_le : ∀ k e, tuC S tx x a k e ≤ k
  | 0, e => Nat.le_refl _
  | k + 1, e => by
    have ih := tuC_le k
    show (match tuB S tx x a (tuC S tx x a k) (nE S) with
      | none => tuC S tx x a k
      | some p => pwr (tuC S tx x a k) p.1 (tuC S tx x a k p.1 + 1)) e ≤ k + 1
    cases tuB S tx x a (tuC S tx x a k) (nE S) with
    | none => have := ih e; exact Nat.le_succ_of_le this
    | some p =>
      show pwr (tuC S tx x a k) p.1 (tuC S tx x a k p.1 + 1) e ≤ k + 1
      by_cases c : e = p.1
      · rw [c, pw_s]; have := ih p.1; omega
      · rw [pw_n c]; have := ih e; omega
theorem tuC_s (k : Nat) (h : tuB S tx x a (tuC S tx x a k) (nE S) = none) : ∀ j, tuC S tx x a (k + j) = tuC S tx x a k
  | 0 => rfl
  | j + 1 => by
    have ih := tuC_s k h j
    show (match tuB S tx x a (tuC S tx x a (k + j)) (nE S) with
      | none => tuC S tx x a (k + j)
      | some p => pwr (tuC S tx x a (k + j)) p.1 (tuC S tx x a (k + j) p.1 + 1)) = _
    rw [ih, h]
theorem bI_n {e : Nat} {o : Option (Nat × Int64)} (h : ∀ p, o = some p → p.1 < e) (he : e < 1000) : (bI o = -1 ↔ o = none) ∧ (bI o < 0 ↔ o = none) ∧ (0 ≤ bI o ↔ o ≠ none) := by
  cases o with
  | none => exact ⟨⟨fun _ => rfl, fun _ => rfl⟩, ⟨fun _ => rfl, fun _ => by decide⟩, ⟨fun q => absurd q (by decide), fun q => absurd rfl q⟩⟩
  | some p =>
    have := h p rfl
    have q : (bI (some p)).toInt = (p.1 : Int) := nI_x (by omega)
    refine ⟨⟨fun w => ?_, fun w => (op_sn w).elim⟩, ⟨fun w => ?_, fun w => (op_sn w).elim⟩, ⟨fun _ w => op_sn w, fun _ => ?_⟩⟩
    · rw [i3_eq, q] at w; have : (p.1 : Int) = -1 := w; omega
    · rw [i3_lt, q] at w; have : (p.1 : Int) < 0 := w; omega
    · rw [i3_le, q]; show (0 : Int) ≤ _; omega
/-- the class's rows for it -/
def tuR (g : ah_T) (X : Nat) (a c : Nat → Nat) : Prop := ∀ e, e < 8 → ah_I g (X + 1441) e = nI (c e) ∧ ah_I g (X + 1442) e = nI (a e - 1000 * c e)
theorem c_turns111 {k : Nat} (L : LY0 h X) (C : CI0 h X S) (T : CIk G h X S tx) (r : frc S x1 h X) (R : tuR h X a c) (ba : ∀ e, e < nE S → a e ≤ 1000000) (K0 : ∀ g, qfr X h g → frc S x1 g X → tuR g X a c → tuB S tx x1 a c (nE S) = none → MX G mi_X0_turns (d + 51) 111 [some (rv X), some (iv x1), some (iv x2), some (iv x3), some (iv (nI k)), some (iv (-1 : Int32)), some (jv (0 : Int64)), none, some (iv (nI (nE S))), none, none, none] [] g Q E)
    (K1 : ∀ g p, qfr X h g → frc S x1 g X → tuR g X a c → tuB S tx x1 a c (nE S) = some p → MX G mi_X0_turns (d + 51) 111 [some (rv X), some (iv x1), some (iv x2), some (iv x3), some (iv (nI k)), some (iv (nI p.1)), some (jv p.2), none, some (iv (nI (nE S))), none, none, none] [] g Q E) :
    MX G mi_X0_turns (d + 51) 111 [some (rv X), some (iv x1), some (iv x2), some (iv x3), some (iv (nI k)), some (iv (-1 : Int32)), some (jv (0 : Int64)), none, some (iv (0 : Int32)), none, none, none] [] h Q E := by
  have e8 := C.iE.2
  refine mx_up (α := Unit) (fun e _ => [some (rv X), some (iv x1), some (iv x2), some (iv x3), some (iv (nI k)), some (iv (bI (tuB S tx x1 a c e))), some (jv (bJ (tuB S tx x1 a c e))), none, some (iv (nI e)), none, none, none]) (nE S) (fun e _ g => efr X h g ∧ frc S x1 g X) (fun e _ g he hI KK => ?_) (fun _ g hI => ?_) 0 () h (Nat.zero_le _) ⟨efr.rf, r⟩
  · obtain ⟨z, r⟩ := hI
    have Lg := z.qf.ly L
    have Cg := C.qf L z.qf
    have bb := bI_n (o := tuB S tx x1 a c e) (fun p q => tuB_lt e p q) (by omega)
    refine v_X0_turns_111 (d := d + 50) Lg ⟨fun q => ?_, fun _ => ?_⟩
    · exfalso; rw [Cg.iE.1, i3_le, nI_x (by omega), nI_x (by omega)] at q; omega
    rw [nI_clamp (n := e) (by omega), z.2.2.1 _ _ (by omega), (R e (by omega)).2, nI_1]
    refine ⟨vp_in_nI (by omega) (by decide), fun q => ?_, fun q => ?_⟩
    · have w0 : a e - 1000 * c e ≠ 0 := fun w => q (by rw [w]; rfl)
      refine c_clear Lg (fun g1 z1 rg zz => ?_)
      intro _
      have zg := z.tr z1
      have Lg1 := zg.qf.ly L
      have Cg1 := C.qf L zg.qf
      have A : ∀ k, k < 11 → aok g1 41 (X + 1434) (nI k) := fun k hk => ly0_A_1434 Lg1 (vp_in_nI hk (by decide))
      obtain ⟨p1, p2, p3⟩ := (Cg1.2.2.1.2 e (by omega)).1 he
      rw [p3, zg.2.2.1 (X + 1441) _ (by omega), zg.2.2.1 (X + 1442) _ (by omega), (R e (by omega)).1, (R e (by omega)).2]
      refine ⟨A 2 (by decide), fun h13 e13 _ => ⟨A 3 (by decide), fun h15 e15 _ => ⟨p2, A 7 (by decide), fun h18 e18 _ => ⟨A 8 (by decide), fun h20 e20 _ => ⟨A 9 (by decide), fun h22 e22 _ => ?_⟩⟩⟩⟩⟩
      have z22 : efr X h h22 := by rw [e22, e20, e18, e15, e13]; exact zg.wJ.wJ.wJ.wJ.wJ
      have r22 : frc S x1 h22 X := by
        refine frc.r (g := g) r (fun a j => ?_)
        rw [e22, e20, e18, e15, e13]
        show ah_R g1 a j = _
        by_cases q : a = X ∧ j = 23
        · rw [q.1, q.2]; exact rg
        · exact z1.2.1 a j q
      rw [← cst_turn]
      refine c_ask4 (d := d) (x := x1) (vs := vtu S x1 e (c e) (a e - 1000 * c e)) (z22.qf.ly L) (C.qf L z22.qf) (T.qf L z22.qf) wrd_turn r22 (fun j hj => ?_) (by decide) (by decide) (fun g2 z2 => ?_)
      · rw [e22, e20, e18, e15, e13]
        simp only [rd_JJ, true_and, eq_self]
        rw [zz j hj]
        rfl
      · intro _
        have kk := KK () g2 ⟨z22.tr z2.ef, r22.r (fun a j => by rw [z2.1.2.2.2])⟩
        have eb : tuB S tx x1 a c (e + 1) = match tuB S tx x1 a c e with
          | none => some (e, tuS S tx x1 e (c e) (a e - 1000 * c e))
          | some p => if p.2 < tuS S tx x1 e (c e) (a e - 1000 * c e) then some (e, tuS S tx x1 e (c e) (a e - 1000 * c e)) else some p := if_neg w0
        refine ⟨fun q1 => ?_, fun q1 => ⟨fun q2 => ?_, fun q2 => ?_⟩⟩
        · rw [bb.1.mp q1] at eb
          rw [eb] at kk; exact kk
        · cases eo : tuB S tx x1 a c e with
          | none => exact absurd (bb.1.mpr eo) q1
          | some p =>
            rw [eo] at eb q2
            have q2 : p.2 < tuS S tx x1 e (c e) (a e - 1000 * c e) := q2
            have eb := eb.trans (if_pos q2)
            rw [eb] at kk; exact kk
        · cases eo : tuB S tx x1 a c e with
          | none => exact absurd (bb.1.mpr eo) q1
          | some p =>
            rw [eo] at eb q2
            have q2 : ¬ p.2 < tuS S tx x1 e (c e) (a e - 1000 * c e) := q2
            have eb := eb.trans (if_neg q2)
            rw [eb] at kk; exact kk
    · have w0 : a e - 1000 * c e = 0 := by
        by_cases ee : c e ≤ 1000
        · have := ba e he
          rw [show (0 : Int32) = nI 0 from rfl, nI_eq (by omega) (by decide)] at q
          exact q
        · have := ba e he; omega
      have eb : tuB S tx x1 a c (e + 1) = tuB S tx x1 a c e := if_pos w0
      have kk := KK () g ⟨z, r⟩
      rw [eb] at kk; exact kk
  · obtain ⟨z, r⟩ := hI
    have R' : tuR g X a c := fun e he => by rw [z.2.2.1 _ _ (by omega), z.2.2.1 _ _ (by omega)]; exact R e he
    cases eo : tuB S tx x1 a c (nE S) with
    | none => exact K0 g z.qf r R' eo
    | some p => exact K1 g p z.qf r R' eo
theorem c_turns96 (L : LY0 h X) (C : CI0 h X S) (T : CIk G h X S tx) (r : frc S x1 h X) (hn : x2 = nI n) (n20 : n ≤ 20) (h3 : e < 8) (e3 : x3 = nI e) (R : tuR h X a (tuC S tx x1 a 0)) (ba : ∀ e, e < nE S → a e ≤ 1000000) (K : ∀ g, qfr X h g → ∀ h2, h2 = ah_wI g X 20 0 → Q (some (iv (nI (tuC S tx x1 a n e)))) h2) :
    MX G mi_X0_turns (d + 51) 96 [some (rv X), some (iv x1), some (iv x2), some (iv x3), some (iv (0 : Int32)), none, none, none, none, none, none, none] [] h Q E := by
  have e8 := C.iE.2
  refine mx_up (α := Unit) (fun k _ => [some (rv X), some (iv x1), some (iv x2), some (iv x3), some (iv (nI k)), none, none, none, none, none, none, none]) n (fun k _ g => qfr X h g ∧ frc S x1 g X ∧ tuR g X a (tuC S tx x1 a k)) (fun k _ g hk hI KK => ?_) (fun _ g hI => ?_) 0 () h (Nat.zero_le _) ⟨qfr.rf, r, R⟩
  · obtain ⟨z, r, R⟩ := hI
    refine v_X0_turns_96 (d := d + 50) (z.ly L) ⟨fun q => ?_, fun _ => ?_⟩
    · exfalso; rw [hn, i3_le, nI_x (by omega), nI_x (by omega)] at q; omega
    refine c_turns111 (d := d) (z.ly L) (C.qf L z) (T.qf L z) r R ba (fun g2 z2 r2 R2 e2 => ?_) (fun g2 p z2 r2 R2 e2 => ?_)
    · have z3 := z.tr z2
      refine v_X0_turns_111 (d := d + 50) (z3.ly L) ⟨fun _ => ⟨fun q => absurd rfl q, fun _ => ?_⟩, fun q => absurd (by rw [(C.qf L z3).iE.1, i3_le]; exact Int.le_refl _) q⟩
      have ec := tuC_s k e2 (n - k)
      rw [show k + (n - k) = n by omega] at ec
      rw [ec] at K
      rw [e3, nI_clamp (by omega), (R2 e h3).1]
      exact ⟨vp_in_nI h3 (by decide), fun h7 e7 _ => K g2 z3 h7 e7⟩
    · have z3 := z.tr z2
      have pl := tuB_lt _ p e2
      have cl := tuC_le (S := S) (tx := tx) (x := x1) (a := a) k p.1
      refine v_X0_turns_111 (d := d + 50) (z3.ly L) ⟨fun _ => ⟨fun q => ?_, fun q => ?_⟩, fun q => absurd (by rw [(C.qf L z3).iE.1, i3_le]; exact Int.le_refl _) q⟩
      · rw [nI_clamp (n := p.1) (by omega), (R2 p.1 (by omega)).1, (R2 p.1 (by omega)).2, nI_1, nI_1]
        refine ⟨vp_in_nI (by omega) (by decide), fun h4 e4 _ h5 e5 _ => ?_⟩
        have ec : tuC S tx x1 a (k + 1) = pwr (tuC S tx x1 a k) p.1 (tuC S tx x1 a k p.1 + 1) := by
          show (match tuB S tx x1 a (tuC S tx x1 a k) (nE S) with
            | none => tuC S tx x1 a k
            | some p => pwr (tuC S tx x1 a k) p.1 (tuC S tx x1 a k p.1 + 1)) = _
          rw [e2]
        have ew : iMax (0 : Int32) (nI (a p.1 - 1000 * tuC S tx x1 a k p.1) - (1000 : Int32)) = nI (a p.1 - 1000 * (tuC S tx x1 a k p.1 + 1)) := by
          have := ba p.1 pl
          have q0 : (nI (a p.1 - 1000 * tuC S tx x1 a k p.1) - nI 1000).toInt = ((a p.1 - 1000 * tuC S tx x1 a k p.1 : Nat) : Int) - 1000 := pk_sub_toInt (by omega) (by decide)
          unfold iMax
          rw [show (1000 : Int32) = nI 1000 from rfl]
          split
          · rename_i c
            rw [i3_lt, q0] at c
            have c : (0 : Int) < ((a p.1 - 1000 * tuC S tx x1 a k p.1 : Nat) : Int) - 1000 := c
            rw [pk_sub (by omega), show a p.1 - 1000 * tuC S tx x1 a k p.1 - 1000 = a p.1 - 1000 * (tuC S tx x1 a k p.1 + 1) by omega]
          · rename_i c
            rw [i3_lt, q0] at c
            have c : ¬ (0 : Int) < ((a p.1 - 1000 * tuC S tx x1 a k p.1 : Nat) : Int) - 1000 := c
            rw [show a p.1 - 1000 * (tuC S tx x1 a k p.1 + 1) = 0 by omega]; rfl
        rw [ew] at e5
        refine KK () h5 ⟨?_, ?_, fun e' he' => ?_⟩
        · rw [e5, e4]
          exact (z3.wI (by decide) (ctA_c (by decide)) (ctZ_o (by decide) _)).wI (by decide) (ctA_c (by decide)) (ctZ_o (by decide) _)
        · exact r2.r (fun a j => by rw [e5, e4]; rfl)
        · rw [ec]
          by_cases c : e' = p.1
          · rw [c, pw_s, e5, rd_II, rd_II, if_neg (fun w => by have := w.1; omega), if_pos ⟨rfl, rfl⟩, e4, rd_II, if_pos ⟨rfl, rfl⟩]
            exact ⟨rfl, rfl⟩
          · rw [pw_n c, e5, rd_II, rd_II, if_neg (fun w => c w.2), if_neg (fun w => c w.2), e4, rd_II, rd_II, if_neg (fun w => c w.2), if_neg (fun w => c w.2)]
            exact R2 e' he'
      · have bb := bI_n (o := some p) (fun p' q => by rw [← Option.some.inj q]; exact pl) (by omega)
        exact absurd (bb.1.mp q) op_sn
  · obtain ⟨z, r, R⟩ := hI
    refine v_X0_turns_96 (d := d + 50) (z.ly L) ⟨fun _ => ?_, fun q => absurd (by rw [hn, i3_le]; exact Int.le_refl _) q⟩
    rw [e3, nI_clamp (by omega), (R e h3).1]
    exact ⟨vp_in_nI h3 (by decide), fun h3' e3' _ => K g z h3' e3'⟩
theorem m_turnOf {k w : Nat} (L : LY8 g M) (kS : kq S (mv g M)) (W : WF S) (B : WB S) (T : TXm S tx) (he : e < nE S) (hc : ah_I g (M + 77) e = nI k) (K : ∀ g2, mch [44, 45, 46, 47, 48] [72, 108] M g g2 → Q (some (jv (tuS S tx x e k w))) g2) : MX G mi_X8_turnOf (d + 5) 0 [some (rv M), some (iv (nI e)), some (iv x), some (iv (nI w))] [] g Q E := by
  have e8 := B.2.1
  refine v_X8_turnOf (d := d + 4) L ?_
  refine m_letNothing L (fun g1 z1 zz => ?_)
  intro _ h3 e3 _ h4 e4 _
  have k1 := kS.mc z1 (by decide) (by decide) (by decide)
  rw [nI_clamp (n := e) (by omega), k1.r 7 _ (by decide), z1.ar 77 (by decide) (by decide), hc]
  refine ⟨vp_in_nI (by omega) (by decide), fun h6 e6 _ h7 e7 _ h8 e8 _ => ?_⟩
  have z8 : mch [45] [] M g h8 := by rw [e8, e7, e6, e4, e3]; exact ((((z1.wJ (by decide)).wJ (by decide)).wJ (by decide)).wJ (by decide)).wJ (by decide)
  rw [show (677454 : Int64) = lN 677454 from rfl]
  refine m_ask3 (d := d) (vs := vtu S x e k w) (lo := -1000000) (hi := 1000000) (z8.ly L) (kS.mc z8 (by decide) (by decide) (by decide)) T (by decide) (fun j hj => ?_) (by decide) (by decide) (fun g2 v z2 ev => ?_)
  · rw [e8, e7, e6, e4, e3]
    simp only [rd_JJ, true_and, eq_self]
    rw [zz j hj]
    rfl
  · intro _
    rw [ev]
    exact K g2 ((z8.mono (by decide) (by decide)).tr (z2.mono (by decide) (by decide)))
theorem m_turns96 {k : Nat} {P : PS} (L : LY8 h M) (kS : kq S (mv h M)) (W : WF S) (B : WB S) (T : TXm S tx) (C : MPl h M P) (R : ∀ e, e < 8 → ah_I h (M + 77) e = nI (c e)) (bc : ∀ e, c e ≤ 20) (ba : ∀ e, e < nE S → inA P e ≤ 1000000) (K : ∀ g, mch [44, 45, 46, 47, 48] [72, 108] M h g → MX G mi_X8_turns (d + 7) 96 [some (rv M), some (iv x1), some (iv x2), some (iv x3), some (iv (nI k)), some (iv (bI (tuB S tx x1 (inA P) c (nE S)))), some (jv (bJ (tuB S tx x1 (inA P) c (nE S)))), none, some (iv (nI (nE S))), none, none, none] [] g Q E) :
    MX G mi_X8_turns (d + 7) 96 [some (rv M), some (iv x1), some (iv x2), some (iv x3), some (iv (nI k)), some (iv (-1 : Int32)), some (jv (0 : Int64)), none, some (iv (0 : Int32)), none, none, none] [] h Q E := by
  have e8 := B.2.1
  refine mx_up (α := Unit) (fun e _ => [some (rv M), some (iv x1), some (iv x2), some (iv x3), some (iv (nI k)), some (iv (bI (tuB S tx x1 (inA P) c e))), some (jv (bJ (tuB S tx x1 (inA P) c e))), none, some (iv (nI e)), none, none, none]) (nE S) (fun e _ g => mch [44, 45, 46, 47, 48] [72, 108] M h g) (fun e _ g he z KK => ?_) (fun _ g z => K g z) 0 () h (Nat.zero_le _) mch.rf
  have kg := kS.mc z (by decide) (by decide) (by decide)
  have iEm : ah_I g M 6 = nI (nE S) := (kg.z 6 (by decide) (by decide)).trans W.1.2.1
  have Cg : MPl g M P := C.cg (fun a ha j => by
    simp only [List.mem_cons, List.not_mem_nil, or_false] at ha
    rcases ha with q | q | q | q | q | q <;> subst q <;> exact z.ar _ (by decide) (by decide) j) (z.sc 39 (by decide) (by decide))
  have bb := bI_n (o := tuB S tx x1 (inA P) c e) (fun p q => tuB_lt e p q) (by omega)
  have c77 : ah_I g (M + 77) e = nI (c e) := by rw [z.ar 77 (by decide) (by decide)]; exact R e (by omega)
  have b1 := ba e he
  have b2 := bc e
  have ew : iMax (0 : Int32) (nI (inA P e) - (1000 : Int32) * nI (c e)) = nI (inA P e - 1000 * c e) := by
    have q0 : (nI (inA P e) - nI (1000 * c e)).toInt = ((inA P e : Nat) : Int) - ((1000 * c e : Nat) : Int) := pk_sub_toInt (by omega) (by omega)
    unfold iMax
    rw [show (1000 : Int32) = nI 1000 from rfl, pk_mul]
    split
    · rename_i w
      rw [i3_lt, q0] at w
      have w : (0 : Int) < ((inA P e : Nat) : Int) - ((1000 * c e : Nat) : Int) := w
      rw [pk_sub (by omega)]
    · rename_i w
      rw [i3_lt, q0] at w
      have w : ¬ (0 : Int) < ((inA P e : Nat) : Int) - ((1000 * c e : Nat) : Int) := w
      rw [show inA P e - 1000 * c e = 0 by omega]; rfl
  refine v_X8_turns_96 (d := d + 5) (z.ly L) ⟨fun q => ?_, fun _ => ?_⟩
  · exfalso; rw [iEm, i3_le, nI_x (by omega), nI_x (by omega)] at q; omega
  refine m_inElevator (d := d + 5) (z.ly L) Cg (by omega) ?_
  intro _
  rw [nI_clamp (n := e) (by omega), c77, ew, nI_1]
  refine ⟨vp_in_nI (by omega) (by decide), fun q => ?_, fun q => ?_⟩
  · have w0 : inA P e - 1000 * c e ≠ 0 := fun w => q (by rw [w]; rfl)
    refine m_turnOf (d := d + 1) (z.ly L) kg W B T he c77 (fun g2 z2 => ?_)
    intro _
    have kk := KK () g2 (z.tr z2)
    have eb : tuB S tx x1 (inA P) c (e + 1) = match tuB S tx x1 (inA P) c e with
      | none => some (e, tuS S tx x1 e (c e) (inA P e - 1000 * c e))
      | some p => if p.2 < tuS S tx x1 e (c e) (inA P e - 1000 * c e) then some (e, tuS S tx x1 e (c e) (inA P e - 1000 * c e)) else some p := if_neg w0
    refine ⟨fun q1 => ?_, fun q1 => ⟨fun q2 => ?_, fun q2 => ?_⟩⟩
    · rw [bb.2.1.mp q1] at eb
      rw [eb] at kk; exact kk
    · cases eo : tuB S tx x1 (inA P) c e with
      | none => exact absurd (bb.2.1.mpr eo) q1
      | some p =>
        rw [eo] at eb q2
        have q2 : p.2 < tuS S tx x1 e (c e) (inA P e - 1000 * c e) := q2
        have eb := eb.trans (if_pos q2)
        rw [eb] at kk; exact kk
    · cases eo : tuB S tx x1 (inA P) c e with
      | none => exact absurd (bb.2.1.mpr eo) q1
      | some p =>
        rw [eo] at eb q2
        have q2 : ¬ p.2 < tuS S tx x1 e (c e) (inA P e - 1000 * c e) := q2
        have eb := eb.trans (if_neg q2)
        rw [eb] at kk; exact kk
  · have w0 : inA P e - 1000 * c e = 0 := by
      rw [show (0 : Int32) = nI 0 from rfl, nI_eq (by omega) (by decide)] at q
      exact q
    have eb : tuB S tx x1 (inA P) c (e + 1) = tuB S tx x1 (inA P) c e := if_pos w0
    have kk := KK () g z
    rw [eb] at kk; exact kk
theorem m_turns57 {P : PS} (L : LY8 h M) (kS : kq S (mv h M)) (W : WF S) (B : WB S) (T : TXm S tx) (C : MPl h M P) (ba : ∀ e, e < nE S → inA P e ≤ 1000000) (hn : x2 = nI n) (n20 : n ≤ 20) (h3 : e < 8) (e3 : x3 = nI e) (K : ∀ g, mch [44, 45, 46, 47, 48, 77] [72, 108] M h g → Q (some (iv (nI (tuC S tx x1 (inA P) n e)))) g) :
    MX G mi_X8_turns (d + 7) 57 [some (rv M), some (iv x1), some (iv x2), some (iv x3), some (iv (0 : Int32)), none, none, none, none, none, none, none] [] h Q E := by
  have e8 := B.2.1
  refine mx_up (α := Unit) (fun k _ => [some (rv M), some (iv x1), some (iv x2), some (iv x3), some (iv (nI k)), none, none, none, none, none, none, none]) 8 (fun k _ g => mch [44, 45, 46, 47, 48, 77] [72, 108] M h g ∧ ∀ j, j < k → ah_I g (M + 77) j = 0) (fun k _ g hk hI KK => ?_) (fun _ g hI => ?_) 0 () h (Nat.zero_le _) ⟨mch.rf, fun j hj => by omega⟩
  · obtain ⟨z, i1⟩ := hI
    refine v_X8_turns_57 (d := d + 5) (z.ly L) ⟨fun q => ?_, fun _ => ⟨vp_in_nI hk (by decide), fun h3 e3 _ => ?_⟩⟩
    · exfalso; rw [i3_le, nI_x (by omega)] at q; have : (8 : Int) ≤ (k : Int) := q; omega
    · rw [nI_clamp (by omega)] at e3
      rw [nI_1]
      refine KK () h3 ⟨by rw [e3]; exact z.wI (by decide), fun j hj => ?_⟩
      rw [e3, rd_II]
      by_cases c : j = k
      · rw [if_pos ⟨rfl, c⟩]
      · rw [if_neg (fun q => c q.2)]; exact i1 j (by omega)
  obtain ⟨z0, i0⟩ := hI
  refine v_X8_turns_57 (d := d + 5) (z0.ly L) ⟨fun _ => ?_, fun q => absurd (by decide) q⟩
  refine mx_up (α := Unit) (fun k _ => [some (rv M), some (iv x1), some (iv x2), some (iv x3), some (iv (nI k)), none, none, none, none, none, none, none]) n (fun k _ g => mch [44, 45, 46, 47, 48, 77] [72, 108] M h g ∧ ∀ e, e < 8 → ah_I g (M + 77) e = nI (tuC S tx x1 (inA P) k e)) (fun k _ g hk hI KK => ?_) (fun _ g hI => ?_) 0 () g (Nat.zero_le _) ⟨z0, fun e he => i0 e he⟩
  · obtain ⟨z, R⟩ := hI
    have kg := kS.mc z (by decide) (by decide) (by decide)
    have Cg : MPl g M P := C.cg (fun a ha j => by
      simp only [List.mem_cons, List.not_mem_nil, or_false] at ha
      rcases ha with q | q | q | q | q | q <;> subst q <;> exact z.ar _ (by decide) (by decide) j) (z.sc 39 (by decide) (by decide))
    refine v_X8_turns_81 (d := d + 5) (z.ly L) ⟨fun q => ?_, fun _ => ?_⟩
    · exfalso; rw [hn, i3_le, nI_x (by omega), nI_x (by omega)] at q; omega
    refine m_turns96 (d := d) (z.ly L) kg W B T Cg R (fun e => Nat.le_trans (tuC_le k e) (by omega)) ba (fun g2 z2 => ?_)
    have z3 : mch [44, 45, 46, 47, 48, 77] [72, 108] M h g2 := z.tr (z2.mono (by decide) (by decide))
    have k3 := kS.mc z3 (by decide) (by decide) (by decide)
    have iEm : ah_I g2 M 6 = nI (nE S) := (k3.z 6 (by decide) (by decide)).trans W.1.2.1
    have R2 : ∀ e, e < 8 → ah_I g2 (M + 77) e = nI (tuC S tx x1 (inA P) k e) := fun e he => by rw [z2.ar 77 (by decide) (by decide)]; exact R e he
    have bb := bI_n (o := tuB S tx x1 (inA P) (tuC S tx x1 (inA P) k) (nE S)) (fun p q => tuB_lt _ p q) (by omega)
    refine v_X8_turns_96 (d := d + 5) (z3.ly L) ⟨fun _ => ⟨fun q => ?_, fun q => ?_⟩, fun q => absurd (by rw [iEm, i3_le]; exact Int.le_refl _) q⟩
    · cases eo : tuB S tx x1 (inA P) (tuC S tx x1 (inA P) k) (nE S) with
      | none => exact absurd eo (bb.2.2.mp q)
      | some p =>
        have pl := tuB_lt _ p eo
        show vp_in (nI p.1) 8 ∧ ∀ h4 : ah_T, h4 = ah_wI g2 (M + 77) (nI p.1).toNatClampNeg (ah_I g2 (M + 77) (nI p.1).toNatClampNeg + 1) → ah_ext g2 h4 → MX G mi_X8_turns (d + 5 + 2) 81 [some (rv M), some (iv x1), some (iv x2), some (iv x3), some (iv (nI k + 1)), none, none, none, none, none, none, none] [] h4 Q E
        rw [nI_clamp (n := p.1) (by omega), R2 p.1 (by omega), nI_1, nI_1]
        refine ⟨vp_in_nI (by omega) (by decide), fun h4 e4 _ => ?_⟩
        have ec : tuC S tx x1 (inA P) (k + 1) = pwr (tuC S tx x1 (inA P) k) p.1 (tuC S tx x1 (inA P) k p.1 + 1) := by
          show (match tuB S tx x1 (inA P) (tuC S tx x1 (inA P) k) (nE S) with
            | none => tuC S tx x1 (inA P) k
            | some p => pwr (tuC S tx x1 (inA P) k) p.1 (tuC S tx x1 (inA P) k p.1 + 1)) = _
          rw [eo]
        refine KK () h4 ⟨by rw [e4]; exact z3.wI (by decide), fun e' he' => ?_⟩
        rw [ec, e4, rd_II]
        by_cases c : e' = p.1
        · rw [if_pos ⟨rfl, c⟩, c, pw_s]
        · rw [if_neg (fun w => c w.2), pw_n c]; exact R2 e' he'
    · have eo : tuB S tx x1 (inA P) (tuC S tx x1 (inA P) k) (nE S) = none := by
        cases eo : tuB S tx x1 (inA P) (tuC S tx x1 (inA P) k) (nE S) with
        | none => rfl
        | some p => exact absurd (bb.2.2.mpr (by rw [eo]; exact op_sn)) q
      have ec := tuC_s k eo (n - k)
      rw [show k + (n - k) = n by omega] at ec
      rw [ec] at K
      rw [e3, nI_clamp (by omega), R2 e h3]
      exact ⟨vp_in_nI h3 (by decide), K g2 z3⟩
  · obtain ⟨z, R⟩ := hI
    refine v_X8_turns_81 (d := d + 5) (z.ly L) ⟨fun _ => ?_, fun q => absurd (by rw [hn, i3_le]; exact Int.le_refl _) q⟩
    rw [e3, nI_clamp (by omega), R e h3]
    exact ⟨vp_in_nI h3 (by decide), K g z⟩
/-- the class, from its play on -/
theorem c_turns55 {P : PS} (L : LY0 h X) (C : CI0 h X S) (T : CIk G h X S tx) (cp : CPl h (X + 9) P) (r : frc S x1 h X) (hn : x2 = nI n) (n20 : n ≤ 20) (h3 : e < 8) (e3 : x3 = nI e) (ba : ∀ e, e < nE S → inA P e ≤ 1000000) (K : ∀ g, qfr X h g → ∀ h2, h2 = ah_wI g X 20 0 → Q (some (iv (nI (tuC S tx x1 (inA P) n e)))) h2) :
    MX G mi_X0_turns (d + 51) 55 [some (rv X), some (iv x1), some (iv x2), some (iv x3), some (iv (0 : Int32)), none, none, none, none, none, none, none] [] h Q E := by
  refine mx_up (α := Unit) (fun k _ => [some (rv X), some (iv x1), some (iv x2), some (iv x3), some (iv (nI k)), none, none, none, none, none, none, none]) 8 (fun k _ g => qfr X h g ∧ frc S x1 g X ∧ (∀ e, e < 8 → ah_I g (X + 9 + 88) e = nI (inA P e)) ∧ ∀ e, e < k → ah_I g (X + 1441) e = nI 0 ∧ ah_I g (X + 1442) e = nI (inA P e - 1000 * 0)) (fun k _ g hk hI KK => ?_) (fun _ g hI => ?_) 0 () h (Nat.zero_le _) ⟨qfr.rf, r, cp.2.1, fun e he => by omega⟩
  · obtain ⟨z, r, i1, i2⟩ := hI
    refine v_X0_turns_55 (d := d + 50) (z.ly L) ⟨fun q => ?_, fun _ => ⟨vp_in_nI hk (by decide), fun h3 e3 _ h4 e4 _ => ?_⟩⟩
    · exfalso; rw [i3_le, nI_x (by omega)] at q; have : (8 : Int) ≤ (k : Int) := q; omega
    · rw [nI_clamp (by omega)] at e3 e4
      have i1k : ah_I g (X + 97) k = nI (inA P k) := i1 k hk
      rw [i1k] at e4
      rw [nI_1]
      refine KK () h4 ⟨?_, ?_, fun e he => ?_, fun e he => ?_⟩
      · rw [e4, e3]
        exact (z.wI (by decide) (ctA_c (by decide)) (ctZ_o (by decide) _)).wI (by decide) (ctA_c (by decide)) (ctZ_o (by decide) _)
      · exact r.r (fun a j => by rw [e4, e3]; rfl)
      · rw [e4, rd_Ia (by omega), e3, rd_Ia (by omega)]; exact i1 e he
      · by_cases c : e = k
        · rw [c, e4, rd_II, rd_II, if_neg (fun w => by have := w.1; omega), if_pos ⟨rfl, rfl⟩, e3, rd_II, if_pos ⟨rfl, rfl⟩]
          exact ⟨rfl, rfl⟩
        · rw [e4, rd_II, rd_II, if_neg (fun w => c w.2), if_neg (fun w => c w.2), e3, rd_II, rd_II, if_neg (fun w => c w.2), if_neg (fun w => c w.2)]
          exact i2 e (by omega)
  · obtain ⟨z, r, i1, i2⟩ := hI
    refine v_X0_turns_55 (d := d + 50) (z.ly L) ⟨fun _ => ?_, fun q => absurd (by decide) q⟩
    exact c_turns96 (d := d) (z.ly L) (C.qf L z) (T.qf L z) r hn n20 h3 e3 i2 ba (fun g2 z2 h2 e2 => K g2 (z.tr z2) h2 e2)
end

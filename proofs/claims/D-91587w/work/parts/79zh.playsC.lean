/-! ===== all events played: the class ===== -/
theorem ctZ_o {c : Nat} (h : (ct_Z.all (fun p => p.1 != c)) = true) (k : Nat) : ∀ m, (c, k, m) ∉ ct_Z := fun m hc => by
  have := List.all_eq_true.mp h _ hc
  simp at this
section
variable {G : ma_G} {d X p k n : Nat} {P : PS} {h g g2 : ah_T} {S : MS} {tx : Nat → List Nat × List PD} {kn : Int32} {Q : Option ma_V → ah_T → Prop} {E : Nat → ah_T → Prop}
theorem plf.qf (x : plf (X + 9) h g) : qfr X h g := by
  have i1 : ∀ p, p ∈ ct_A → p.1 ≤ 96 ∨ 1426 ≤ p.1 := by decide
  have i2 : ∀ p, p ∈ ct_Z → p.1 ≤ 96 ∨ 1426 ≤ p.1 := by decide
  exact ⟨⟨x.1.1, x.1.2.1, x.1.2.2.1⟩, fun a k _ => by rw [x.1.2.2.2], fun a k q _ => x.2.1 a k (by omega), fun a k q => x.2.2 a k (by omega), fun c m q k => x.2.1 _ k (by have := i1 _ q; simp only at this; omega), fun c k m q => x.2.1 _ k (by have := i2 _ q; simp only at this; omega)⟩
theorem CPl.cg (x : CPl g p P) (hI : ∀ a k, p + 88 ≤ a → a < p + 1417 → ah_I g2 a k = ah_I g a k) (hJ : ∀ a k, p ≤ a → a < p + 97 → ah_J g2 a k = ah_J g a k) : CPl g2 p P := by
  obtain ⟨c1, c2, c3, c4, c5⟩ := x
  exact ⟨fun e y he hy => ⟨fun f hf => by rw [hI _ _ (by omega) (by omega)]; exact (c1 e y he hy).1 f hf, by rw [hI _ _ (by omega) (by omega)]; exact (c1 e y he hy).2⟩, fun e he => by rw [hI _ _ (by omega) (by omega)]; exact c2 e he, fun i f hi hf => by rw [hI _ _ (by omega) (by omega)]; exact c3 i f hi hf, fun y hy => by rw [hJ _ _ (by omega) (by omega)]; exact c4 y hy, by rw [hJ _ _ (by omega) (by omega)]; exact c5⟩
theorem PLS_1 (W : WF S) (B : WB S) (hk : k < nV S) (k8 : S.1 18 k ≤ kn) : PLS S tx kn (k + 1) = if S.1 9 k = 0 then ldP (roS S) (evS S tx kn) k (PLS S tx kn k) else tkP (evS S tx kn) k (PLS S tx kn k) := by
  show (if evS S tx kn 8 k = 0 then PLS S tx kn k else if evS S tx kn 0 k = 0 then ldP (roS S) (evS S tx kn) k (PLS S tx kn k) else tkP (evS S tx kn) k (PLS S tx kn k)) = _
  rw [if_neg (ev_kn.mpr k8)]
  by_cases c : S.1 9 k = 0
  · rw [if_pos c, if_pos ((evS_0 W B hk).mpr c)]
  · rw [if_neg c, if_neg (fun q => c ((evS_0 W B hk).mp q))]
theorem PLS_0 (k8 : ¬ S.1 18 k ≤ kn) : PLS S tx kn (k + 1) = PLS S tx kn k := if_pos (Decidable.of_not_not (fun q => k8 (ev_kn.mp q)))
/-- one event -/
theorem c_evt (L : LY0 g X) (C : CI0 g X S) (hk : k < nV S) (cp : CPl g (X + 9) (PLS S tx kn k)) (k8 : S.1 18 k ≤ kn) (gr : S.1 9 k = 0 → ah_I g (ah_R g (X + 4) k) 6 = grS S tx k kn) (K : ∀ g2, plf (X + 9) g g2 → CPl g2 (X + 9) (PLS S tx kn (k + 1)) → Q none g2) :
    MX G (vm_plays (ah_kd g (ah_R g (X + 4) k))) (d + 3) 0 (al_ent (vm_plays (ah_kd g (ah_R g (X + 4) k))).2.2.1 [rv (ah_R g (X + 4) k), rv (X + 9)]) [] g Q E := by
  have W := C.2.2.2.2.2
  have B : WB S := ⟨C.iF.2, C.iE.2, C.iV.2⟩
  have v120 := B.2.2
  have e8 := B.2.1
  have f20 := B.1
  obtain ⟨p1, p2, p3, p4, p5⟩ := (C.2.2.2.1.2.1 k (by omega)).1 hk
  have I := PLS_i (tx := tx) (kn := kn) W B (Nat.le_of_lt hk)
  rw [PLS_1 W B hk k8] at K
  by_cases c : S.1 9 k = 0
  · rw [if_pos c] at K
    obtain ⟨x0, x1, x1', x2, x2', x5, x5', x6, x6', y, y', ey, x4, xg, xg', xe, xe'⟩ := ev_ld (tx := tx) (kn := kn) W B hk c
    rcases p5 with ⟨a1, a2, a3, a4, a5⟩ | ⟨a1, -⟩ | ⟨a1, -⟩ | ⟨a1, -⟩
    case inr.inl => rw [c] at a1; exact absurd a1 (by decide)
    case inr.inr.inl => rw [c] at a1; exact absurd a1 (by decide)
    case inr.inr.inr => rw [c] at a1; exact absurd a1 (by decide)
    have cl : (S.1 10 k).toNatClampNeg = evS S tx kn 1 k := rfl
    obtain ⟨f1, f2, f3, f4, f5, f6, f7⟩ := (C.2.1.2 (evS S tx kn 1 k) (by omega)).1 x1'
    rw [a2]
    show MX G mi_X12_plays (d + 3) 0 [some (rv (ah_R g (X + 4) k)), some (rv (X + 9)), none, none] [] g Q E
    have ro := roS_b W x2'
    refine c_pload (d := d + 1) (gr := (grS S tx k kn).toNatClampNeg) (yr := (S.1 14 k).toNatClampNeg) L.2.1 cp (by omega) a2 a3 ?_ ?_ ?_ (a4.trans x2) (p4.trans x5) ?_ ((gr c).trans xg) ?_ xg' y' x4 ?_ (by omega) (by omega) x6' x5' (I.1 _ (by omega)) ro.2 K
    · rw [cl]; omega
    · rw [cl]; exact f2
    · rw [cl]; exact f6
    · rw [p4, a5]; exact x6
    · rw [p2, ← ey]; exact y
    · exact (C.1.1 96 8 (by decide) _).trans ro.1
  · rw [if_neg c] at K
    obtain ⟨x0, x2, x5, x5', xg, xg', y, y', x4, o⟩ := ev_tk (tx := tx) (kn := kn) W B hk c
    have w4 : evS S tx kn 4 k < 60 := by omega
    rcases p5 with ⟨a1, -⟩ | ⟨a1, a2, a3, a4, a5, a6⟩ | ⟨a1, a2, a3, a4, a5, a6⟩ | ⟨a1, a2, a3, a4, a5⟩
    · exact absurd a1 c
    · rcases o with ⟨-, o1, o2, o3, o4⟩ | ⟨o0, -⟩ | ⟨o0, -⟩
      case inr.inl => rw [a1] at o0; exact absurd o0 (by decide)
      case inr.inr => rw [a1] at o0; exact absurd o0 (by decide)
      rw [a2]
      show MX G mi_X14_plays (d + 3) 0 [some (rv (ah_R g (X + 4) k)), some (rv (X + 9)), none, none] [] g Q E
      have s := PLS_s (tx := tx) (kn := kn) W B (Nat.le_of_lt hk) (Or.inl o2) w4
      exact c_pcar (d := d) L.2.1 cp (by omega) a2 o1 (a3.trans x2) (a6.trans o3) (p4.trans x5) (a4.trans xg) (a5.trans y) xg' y' x4 (by omega) o4 x5' (by omega) (inA_ge w4) K
    · rcases o with ⟨o0, -⟩ | ⟨-, o1, o2, o3, o4⟩ | ⟨o0, -⟩
      case inl => rw [a1] at o0; exact absurd o0 (by decide)
      case inr.inr => rw [a1] at o0; exact absurd o0 (by decide)
      rw [a2]
      show MX G mi_X16_plays (d + 3) 0 [some (rv (ah_R g (X + 4) k)), some (rv (X + 9)), none, none] [] g Q E
      have s := PLS_s (tx := tx) (kn := kn) W B (Nat.le_of_lt hk) (e := 8 + evS S tx kn 2 k) (Or.inr (by omega)) w4
      exact c_sal (d := d) L.2.1 cp (by omega) a2 o1 (a3.trans x2) (a6.trans o3) (p4.trans x5) (a4.trans xg) (a5.trans y) xg' y' x4 o2 x5' o4 (by omega) K
    · rcases o with ⟨o0, -⟩ | ⟨o0, -⟩ | ⟨-, o1, o2⟩
      case inl => rw [a1] at o0; exact absurd o0 (by decide)
      case inr.inl => rw [a1] at o0; exact absurd o0 (by decide)
      rw [a2]
      show MX G mi_X14_plays (d + 3) 0 [some (rv (ah_R g (X + 4) k)), some (rv (X + 9)), none, none] [] g Q E
      have s := PLS_s (tx := tx) (kn := kn) W B (Nat.le_of_lt hk) (Or.inl o2) w4
      exact c_spl (d := d) L.2.1 cp (by omega) a2 o1 (a3.trans x2) (p4.trans x5) (a4.trans xg) (a5.trans y) xg' y' x4 (by omega) x5' (by omega) (inA_ge w4) K
/-- what a play of the class has left -/
def plI (S : MS) (tx : Nat → List Nat × List PD) (kn : Int32) (X : Nat) (h : ah_T) (k : Nat) (g : ah_T) : Prop := qfr X h g ∧ CPl g (X + 9) (PLS S tx kn k) ∧ ∀ j, j < k → S.1 18 j ≤ kn → S.1 9 j = 0 → ah_I g (ah_R h (X + 4) j) 6 = grS S tx j kn
def jk3 (X : Nat) (h g : ah_T) : Prop := ∀ a k, X + 1438 ≤ a → a ≤ X + 1440 → ah_J g a k = ah_J h a k
theorem plf.j3 {X : Nat} {h g : ah_T} (x : plf (X + 9) h g) : jk3 X h g := fun a k h1 h2 => x.2.2 a k (by omega)
theorem efr.j3 {X : Nat} {h g : ah_T} (x : efr X h g) : jk3 X h g := fun a k h1 h2 => x.2.2.2 a k (by omega) (by omega)
theorem jk3.tr {X : Nat} {h g g2 : ah_T} (x : jk3 X h g) (z : jk3 X g g2) : jk3 X h g2 := fun a k h1 h2 => (z a k h1 h2).trans (x a k h1 h2)
/-- a load's grade is set -/
theorem plI.gr (L : LY0 h X) (C : CI0 h X S) (hk : k < nV S) (I : plI S tx kn X h k g) (z : efr X g g2) (h0 : (S.1 9 k).toInt = 0) {g3 : ah_T} (e3 : g3 = ah_wI g2 (ah_R g (X + 4) k) 6 (grS S tx k kn)) : qfr X h g3 ∧ CPl g3 (X + 9) (PLS S tx kn k) ∧ (∀ j, j < k + 1 → S.1 18 j ≤ kn → S.1 9 j = 0 → ah_I g3 (ah_R h (X + 4) j) 6 = grS S tx j kn) ∧ ∀ a j, ah_R g3 a j = ah_R g2 a j := by
  obtain ⟨q, cp, gs⟩ := I
  have v := C.iV.2
  have C2 := C.2.2.2.1
  have R : ah_R g (X + 4) k = ah_R h (X + 4) k := q.2.1 _ _ (by omega)
  obtain ⟨p1, -⟩ := (C2.2.1 k (by omega)).1 hk
  have kd := (C2.ld hk).mpr h0
  have q2 := q.tr z.qf
  rw [R] at e3
  refine ⟨by rw [e3]; exact q2.gI p1 kd, ?_, fun j hj k8 j0 => ?_, fun a j => by rw [e3]; rfl⟩
  · refine cp.cg (fun a j h1 h2 => ?_) (fun a j h1 h2 => ?_)
    · rw [e3, rd_Ia (by omega)]; exact z.2.2.1 a j (by omega)
    · rw [e3]; exact z.2.2.2 a j (by omega) (by omega)
  · rw [e3, rd_II]
    by_cases c : j = k
    · rw [if_pos ⟨by rw [c], rfl⟩, c]
    · have hj' : j < k := by omega
      have d1 := C2.2.2 j k hj' hk
      rw [if_neg (fun w => d1 w.1), z.2.2.1 _ _ (by have := (C2.2.1 j (by omega)).1 (by omega); omega)]
      exact gs j hj' k8 j0
theorem c_plays (L : LY0 h X) (C : CI0 h X S) (T : CIk G h X S tx) (K : ∀ g, plI S tx kn X h (nV S) g → jk3 X h g → Q none g) : MX G mi_X0_plays (d + 52) 0 [some (rv X), some (iv kn), none] [] h Q E := by
  have W := C.2.2.2.2.2
  have B : WB S := ⟨C.iF.2, C.iE.2, C.iV.2⟩
  have v120 := B.2.2
  refine v_X0_plays (d := d + 51) L ?_
  refine c_begin (d := d + 50) L.2.1 (fun g0 z0 c0 => ?_)
  intro _
  refine mx_up (α := Unit) (fun k _ => [some (rv X), some (iv kn), some (iv (nI k))]) (nV S) (fun k _ g => plI S tx kn X h k g ∧ jk3 X h g) (fun k _ g hk hI KK => ?_) (fun _ g hI => ?_) 0 () g0 (Nat.zero_le _) ⟨⟨z0.qf, c0, fun j hj => by omega⟩, z0.j3⟩
  · obtain ⟨⟨q, cp, gs⟩, j3⟩ := hI
    have Lg := q.ly L
    have Cg := C.qf L q
    have R : ah_R g (X + 4) k = ah_R h (X + 4) k := q.2.1 _ _ (by omega)
    obtain ⟨p1, p2, p3, p4, p5⟩ := (Cg.2.2.2.1.2.1 k (by omega)).1 hk
    have ld := Cg.2.2.2.1.ld hk
    refine v_X0_plays_9 (d := d + 51) Lg ⟨fun c => ?_, fun _ => ?_⟩
    · exfalso; rw [Cg.iV.1, i3_le, nI_x (by omega), nI_x (by omega)] at c; omega
    rw [nI_clamp (by omega), p3, nI_1]
    refine ⟨vp_in_nI (by omega) (by decide), Cg.2.2.2.1.ks hk, fun k8 => ⟨fun kd => ?_, fun kd => ?_⟩, fun k8 => ?_⟩
    · have h0 := ld.mp kd
      have h0' : S.1 9 k = 0 := by rw [i3_eq]; exact h0
      refine c_gradeOf (d := d) Lg Cg (T.qf L q) hk h0 (fun g6 z6 => ?_)
      intro _ h10 e10 _
      obtain ⟨u1, u2, u3, u4⟩ := plI.gr L C hk ⟨q, cp, gs⟩ z6 h0 e10
      have R6 : ah_R g6 (X + 4) k = ah_R g (X + 4) k := z6.2.1 _ _ (by omega)
      have R10 : ah_R h10 (X + 4) k = ah_R g6 (X + 4) k := u4 _ _
      refine ⟨(C.qf L (q.tr z6.qf)).2.2.2.1.ks hk, ?_⟩
      rw [← R10]
      refine c_evt (d := d + 48) (u1.ly L) (C.qf L u1) hk u2 k8 (fun _ => ?_) (fun g2 z2 cp2 => ?_)
      · rw [R10, R6, R]; exact u3 k (by omega) k8 h0'
      · intro _
        have j10 : jk3 X g6 h10 := fun a j _ _ => by rw [e10]; rfl
        refine KK () g2 ⟨⟨u1.tr z2.qf, cp2, fun j hj j8 j0 => ?_⟩, ((j3.tr z6.j3).tr j10).tr z2.j3⟩
        have := ((C.2.2.2.1.2.1 j (by omega)).1 (by omega)).1
        rw [z2.2.1 _ _ (by omega)]
        exact u3 j hj j8 j0
    · have h0' : S.1 9 k ≠ 0 := fun e => kd (ld.mpr (by rw [e]; rfl))
      refine c_evt (d := d + 48) Lg Cg hk cp k8 (fun e => absurd e h0') (fun g2 z2 cp2 => ?_)
      intro _
      refine KK () g2 ⟨⟨q.tr z2.qf, cp2, fun j hj j8 j0 => ?_⟩, j3.tr z2.j3⟩
      have := ((C.2.2.2.1.2.1 j (by omega)).1 (by omega)).1
      rw [z2.2.1 _ _ (by omega)]
      by_cases c : j = k
      · rw [c] at j0; exact absurd j0 h0'
      · exact gs j (by omega) j8 j0
    · refine KK () g ⟨⟨q, by rw [PLS_0 k8]; exact cp, fun j hj j8 j0 => ?_⟩, j3⟩
      by_cases c : j = k
      · rw [c] at j8; exact absurd j8 k8
      · exact gs j (by omega) j8 j0
  · have Cg := C.qf L hI.1.1
    refine v_X0_plays_9 (d := d + 51) (hI.1.1.ly L) ⟨fun _ => K g hI.1 hI.2, fun c => absurd ?_ c⟩
    rw [Cg.iV.1, i3_le]; exact Int.le_refl _
/-- and of each load what was turned away is kept -/
theorem c_playsL (L : LY0 h X) (C : CI0 h X S) (T : CIk G h X S tx) (K : ∀ g, plI S tx kn X h (nV S) g → (∀ j, j < nV S → S.1 18 j ≤ kn → S.1 9 j = 0 → ah_I g (X + 1448) j = nI (PLS S tx kn (nV S) 17 0 j)) → jk3 X h g → Q none g) : MX G mi_X0_playsLoads (d + 52) 0 [some (rv X), some (iv kn), none, none, none] [] h Q E := by
  have W := C.2.2.2.2.2
  have B : WB S := ⟨C.iF.2, C.iE.2, C.iV.2⟩
  have v120 := B.2.2
  have f20 := B.1
  refine v_X0_playsLoads (d := d + 51) L ?_
  refine c_begin (d := d + 50) L.2.1 (fun g0 z0 c0 => ?_)
  intro _
  refine mx_up (α := Unit) (fun k _ => [some (rv X), some (iv kn), some (iv (nI k)), none, none]) (nV S) (fun k _ g => plI S tx kn X h k g ∧ (∀ j, j < k → S.1 18 j ≤ kn → S.1 9 j = 0 → ah_I g (X + 1448) j = nI (ldT (roS S) (evS S tx kn) j (PLS S tx kn j))) ∧ jk3 X h g) (fun k _ g hk hI KK => ?_) (fun _ g hI => ?_) 0 () g0 (Nat.zero_le _) ⟨⟨z0.qf, c0, fun j hj => by omega⟩, fun j hj => by omega, z0.j3⟩
  · obtain ⟨⟨q, cp, gs⟩, tb, j3⟩ := hI
    have Lg := q.ly L
    have Cg := C.qf L q
    have R : ah_R g (X + 4) k = ah_R h (X + 4) k := q.2.1 _ _ (by omega)
    obtain ⟨p1, p2, p3, p4, p5⟩ := (Cg.2.2.2.1.2.1 k (by omega)).1 hk
    have ld := Cg.2.2.2.1.ld hk
    refine v_X0_playsLoads_9 (d := d + 51) Lg ⟨fun c => ?_, fun _ => ?_⟩
    · exfalso; rw [Cg.iV.1, i3_le, nI_x (by omega), nI_x (by omega)] at c; omega
    rw [nI_clamp (by omega), p3, nI_1]
    refine ⟨vp_in_nI (by omega) (by decide), Cg.2.2.2.1.ks hk, fun k8 => ⟨fun kd => ?_, fun kd => ?_⟩, fun k8 => ?_⟩
    · have h0 := ld.mp kd
      have h0' : S.1 9 k = 0 := by rw [i3_eq]; exact h0
      obtain ⟨-, x1, x1', x2, x2', -⟩ := ev_ld (tx := tx) (kn := kn) W B hk h0'
      have cl : (S.1 10 k).toNatClampNeg = evS S tx kn 1 k := rfl
      refine c_gradeOf (d := d) Lg Cg (T.qf L q) hk h0 (fun g6 z6 => ?_)
      intro _ h10 e10 _
      obtain ⟨u1, u2, u3, u4⟩ := plI.gr L C hk ⟨q, cp, gs⟩ z6 h0 e10
      have R6 : ah_R g6 (X + 4) k = ah_R g (X + 4) k := z6.2.1 _ _ (by omega)
      have R10 : ah_R h10 (X + 4) k = ah_R g6 (X + 4) k := u4 _ _
      have C6 := C.qf L (q.tr z6.qf)
      -- the farm
      have fa : ∀ g7, CI0 g7 X S → ah_kd g7 (ah_R g7 (ah_R g7 (X + 4) k) 3) = 10 ∧ ah_I g7 (ah_R g7 (ah_R g7 (X + 4) k) 3) 0 = nI (evS S tx kn 1 k) := fun g7 C7 => by
        obtain ⟨-, -, -, -, r5⟩ := (C7.2.2.2.1.2.1 k (by omega)).1 hk
        rcases r5 with ⟨a1, a2, a3, a4, a5⟩ | ⟨a1, -⟩ | ⟨a1, -⟩ | ⟨a1, -⟩
        case inr.inl => rw [h0'] at a1; exact absurd a1 (by decide)
        case inr.inr.inl => rw [h0'] at a1; exact absurd a1 (by decide)
        case inr.inr.inr => rw [h0'] at a1; exact absurd a1 (by decide)
        obtain ⟨f1, f2, f3, f4, f5, f6, f7⟩ := (C7.2.1.2 (evS S tx kn 1 k) (by omega)).1 x1'
        rw [a3, cl]
        exact ⟨f2, f6⟩
      have fa6 := fa g6 C6
      rw [R6] at fa6
      rw [fa6.2, nI_clamp (n := evS S tx kn 1 k) (by omega), show X + 99 = X + 9 + (89 + 1) from rfl, u2.2.2.1 1 _ (by decide) (by omega)]
      refine ⟨fa6.1, vp_in_nI (by omega) (by decide), ?_⟩
      have C10 := C.qf L u1
      refine v_X0_playsLoads_86 (d := d + 51) (u1.ly L) ?_
      rw [nI_clamp (n := k) (by omega)]
      refine ⟨vp_in_nI (by omega) (by decide), C10.2.2.2.1.ks hk, ?_⟩
      refine c_evt (d := d + 48) (u1.ly L) C10 hk u2 k8 (fun _ => ?_) (fun g2 z2 cp2 => ?_)
      · rw [R10, R6, R]; exact u3 k (by omega) k8 h0'
      · intro _
        have q2 := u1.tr z2.qf
        have C2 := C.qf L q2
        have fa2 := fa g2 C2
        have t2 : ah_I g2 (X + 9 + (89 + 1)) (evS S tx kn 1 k) = nI (PLS S tx kn k 12 0 (evS S tx kn 1 k) + ldT (roS S) (evS S tx kn) k (PLS S tx kn k)) := by
          rw [cp2.2.2.1 1 _ (by decide) (by omega)]
          show nI (PLS S tx kn (k + 1) 12 0 _) = _
          rw [PLS_1 W B hk k8, if_pos h0', ldP_12 (by have := B.2.1; omega), rad_s]
        rw [fa2.2, nI_clamp (n := evS S tx kn 1 k) (by omega), show X + 99 = X + 9 + (89 + 1) from rfl, t2, nI_1]
        have pk : nI (PLS S tx kn k 12 0 (evS S tx kn 1 k) + ldT (roS S) (evS S tx kn) k (PLS S tx kn k)) - nI (PLS S tx kn k (11 + 1) 0 (evS S tx kn 1 k)) = nI (ldT (roS S) (evS S tx kn) k (PLS S tx kn k)) := by
          show nI (PLS S tx kn k 12 0 (evS S tx kn 1 k) + ldT (roS S) (evS S tx kn) k (PLS S tx kn k)) - nI (PLS S tx kn k 12 0 (evS S tx kn 1 k)) = _
          rw [pk_sub (by omega)]
          congr 1
          omega
        rw [pk]
        refine ⟨C2.2.2.2.1.ks hk, fun _ => ⟨fa2.1, vp_in_nI (by omega) (by decide), fun h12 e12 _ => ?_⟩, fun kd2 => absurd ((C2.2.2.2.1.ld hk).mpr h0) kd2⟩
        have o12 : ∀ a j, a ≠ X + 1448 → ah_I h12 a j = ah_I g2 a j := fun a j ha => by rw [e12]; exact rd_Ia ha
        refine KK () h12 ⟨⟨by rw [e12]; exact q2.wI (by decide) (ctA_c (by decide)) (ctZ_o (by decide) _), cp2.cg (fun a j _ h2 => o12 a j (by omega)) (fun a j _ _ => by rw [e12]; rfl), fun j hj j8 j0 => ?_⟩, fun j hj j8 j0 => ?_, (((j3.tr z6.j3).tr (fun a j _ _ => by rw [e10]; rfl)).tr z2.j3).tr (fun a j _ _ => by rw [e12]; rfl)⟩
        · have := ((C.2.2.2.1.2.1 j (by omega)).1 (by omega)).1
          rw [o12 _ _ (by omega), z2.2.1 _ _ (by omega)]
          exact u3 j hj j8 j0
        · rw [e12, rd_II]
          by_cases c : j = k
          · rw [if_pos ⟨rfl, c⟩, c]
          · rw [if_neg (fun w => c w.2), z2.2.1 _ _ (by omega), e10, rd_Ia (by omega), z6.2.2.1 _ _ (by omega)]
            exact tb j (by omega) j8 j0
    · have h0' : S.1 9 k ≠ 0 := fun e => kd (ld.mpr (by rw [e]; rfl))
      refine v_X0_playsLoads_86 (d := d + 51) Lg ?_
      rw [nI_clamp (n := k) (by omega)]
      refine ⟨vp_in_nI (by omega) (by decide), Cg.2.2.2.1.ks hk, ?_⟩
      refine c_evt (d := d + 48) Lg Cg hk cp k8 (fun e => absurd e h0') (fun g2 z2 cp2 => ?_)
      intro _
      have C2 := C.qf L (q.tr z2.qf)
      refine ⟨C2.2.2.2.1.ks hk, fun kd2 => ?_, fun _ => ?_⟩
      · have := (C2.2.2.2.1.ld hk).mp kd2
        exact absurd (by rw [i3_eq]; exact this) h0'
      rw [nI_1]
      refine KK () g2 ⟨⟨q.tr z2.qf, cp2, fun j hj j8 j0 => ?_⟩, fun j hj j8 j0 => ?_, j3.tr z2.j3⟩
      all_goals
        have hjk : j ≠ k := fun c => by rw [c] at j0; exact absurd j0 h0'
      · have := ((C.2.2.2.1.2.1 j (by omega)).1 (by omega)).1
        rw [z2.2.1 _ _ (by omega)]
        exact gs j (by omega) j8 j0
      · rw [z2.2.1 _ _ (by omega)]; exact tb j (by omega) j8 j0
    · refine KK () g ⟨⟨q, by rw [PLS_0 k8]; exact cp, fun j hj j8 j0 => ?_⟩, fun j hj j8 j0 => ?_, j3⟩
      all_goals
        have hjk : j ≠ k := fun c => by rw [c] at j8; exact absurd j8 k8
      · exact gs j (by omega) j8 j0
      · exact tb j (by omega) j8 j0
  · obtain ⟨I, tb, j3⟩ := hI
    have Cg := C.qf L I.1
    refine v_X0_playsLoads_9 (d := d + 51) (I.1.ly L) ⟨fun _ => K g I (fun j hj j8 j0 => ?_) j3, fun c => absurd ?_ c⟩
    · rw [tb j hj j8 j0]
      congr 1
      exact (PL_17 (evS_w W B) (ev_kn.mpr j8) ((evS_0 W B hj).mpr j0) (nV S) (Nat.le_refl _) hj).symm
    · rw [Cg.iV.1, i3_le]; exact Int.le_refl _
end

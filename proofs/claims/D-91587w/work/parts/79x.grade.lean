/-! ===== the grade of a load ===== -/
def nt (S : MS) (k : Nat) : Int32 := S.1 15 k - S.1 15 k * S.1 16 k / (1000 : Int32)
def vgr (S : MS) (k n : Nat) : Nat → Int64 := fun j => if j = 7 then (S.1 4 (S.1 10 k).toNatClampNeg).toInt64 else if j = 4 then (nt S k).toInt64 else if j = 3 then (S.1 17 k / (52 : Int32)).toInt64 else if j = 2 then (S.1 17 k).toInt64 else if j = 1 then (S.1 20 n).toInt64 else if j = 0 then (S.1 21 n).toInt64 else 0
def rkS (S : MS) (tx : Nat → List Nat × List PD) (k n : Nat) : Int64 := askS S tx (vgr S k n) (S.1 17 k) 591307 0 (-1000000) 1000000
def bsC (o : Option Int64) : Int64 := match o with
  | none => -9223372036854775808
  | some t => t
def anM (o : Option Int64) : Int32 := match o with
  | none => 0
  | some _ => 1
def tpM (o : Option Int64) : Int64 := match o with
  | none => 0
  | some t => t
def grT (r : Int64) (p : Int32 × Option Int64) (a : Int32) : Int32 × Option Int64 := if bsC p.2 ≤ r then (a, some r) else p
def grL (S : MS) (tx : Nat → List Nat × List PD) (k : Nat) (kn : Int32) : Nat → Int32 × Option Int64
  | 0 => (5, none)
  | n + 1 => if S.1 19 n = nI k ∧ S.1 22 n ≤ kn then grT (rkS S tx k n) (grL S tx k kn n) (S.1 21 n) else grL S tx k kn n
def grS (S : MS) (tx : Nat → List Nat × List PD) (k : Nat) (kn : Int32) : Int32 := (grL S tx k kn (nG S)).1
theorem wrd_rank : wrd 591307 := ⟨fun j => [114, 97, 110, 107].getD j 0, 0, 4, by decide, by decide, by decide, by decide⟩
theorem cst_rank : lN (n256 8 591307) = (1918987883 : Int64) := by decide
/-- the text in force is set -/
def frc (S : MS) (x : Int32) (g : ah_T) (X : Nat) : Prop := ah_R g X 23 = (match foN (S.1 36) x (nT S) with
    | none => 0
    | some u => ah_R g (X + 1437) u)
section
variable {G : ma_G} {d M X k : Nat} {h g g2 : ah_T} {S : MS} {Q : Option ma_V → ah_T → Prop} {E : Nat → ah_T → Prop} {tx : Nat → List Nat × List PD} {kn : Int32}
theorem grL_in (W : WF S) : ∀ n, n ≤ nG S → inR (grL S tx k kn n).1 0 5
  | 0, _ => by show inR 5 0 5; exact ⟨by decide, by decide⟩
  | n + 1, h => by
    have ih := grL_in W n (by omega)
    have w := (W.2.2.2.2.1.2 n (by omega)).2.2.2.1
    show inR (if S.1 19 n = nI k ∧ S.1 22 n ≤ kn then grT (rkS S tx k n) (grL S tx k kn n) (S.1 21 n) else grL S tx k kn n).1 0 5
    unfold grT
    split
    · split
      · exact w
      · exact ih
    · exact ih
theorem grS_in (W : WF S) : inR (grS S tx k kn) 0 5 := grL_in W _ (Nat.le_refl _)
theorem frc.r {x : Int32} (r : frc S x g X) (e : ∀ a k, ah_R g2 a k = ah_R g a k) : frc S x g2 X := by
  unfold frc at r ⊢
  rw [e, r]
  cases foN (S.1 36) x (nT S) with
  | none => rfl
  | some u => exact (e _ _).symm
theorem c_ask4 {x : Int32} {w : Nat} {wo lo hi : Int64} {vs : Nat → Int64} (L : LY0 g X) (C : CI0 g X S) (T : CIk G g X S tx) (hw : wrd w) (r : frc S x g X) (e : ∀ j, j < 11 → ah_J g (X + 1434) j = vs j) (h1 : lo.toInt ≤ wo.toInt) (h2 : wo.toInt ≤ hi.toInt) (K : ∀ g2, wfr (X + 1433) g g2 → Q (some (jv (askS S tx vs x w wo lo hi))) g2) :
    MX G mi_X0_asks (d + 50) 0 [some (rv X), some (jv (lN (n256 8 w))), none, some (jv wo), none, some (jv lo), none, some (jv hi), none, none] [] g Q E := by
  have iT := C.iT
  refine c_asks L hw T iT.2 (x1 := x) r (fun g2 z2 => ?_)
  rw [askS_vs (T.mt iT.2 C.2.2.2.2.2.1.2.2.2.2.1) (vs := avs g (X + 1433)) (vs' := vs) (fun j hj => e j hj) h1 h2]
  exact K g2 z2
/-- the text in force is looked for and set -/
theorem c_force {x : Int32} (L : LY0 h X) (C : CI0 h X S) (T : CIk G h X S tx) (K : ∀ v g, g = ah_wR h X 23 v → frc S x g X → ah_ext h h → Q (some (rv v)) h) : MX G mi_X0_lawOf d 0 [some (rv X), some (iv x), none, none] [] h Q E := by
  refine c_lawOf L C T (K _ _ rfl ?_ ⟨Nat.le_refl _, fun _ _ => ⟨rfl, rfl, fun _ _ _ => rfl⟩⟩)
  unfold frc
  rw [rd_RR, if_pos ⟨rfl, rfl⟩]
  cases foN (S.1 36) x (nT S) with
  | none => rfl
  | some u =>
    show ah_R h (X + 1437) u = ah_R (ah_wR h X 23 (ah_R h (X + 1437) u)) (X + 1437) u
    rw [rd_RR, if_neg (fun q => by have := q.1; omega)]
theorem c_gradeOf (L : LY0 h X) (C : CI0 h X S) (T : CIk G h X S tx) (hk : k < nV S) (h0 : (S.1 9 k).toInt = 0) (K : ∀ g, efr X h g → Q (some (iv (grS S tx k kn))) g) : MX G mi_X0_gradeOf (d + 51) 0 [some (rv X), some (iv (nI k)), some (iv kn), none, none, none, none, none, none, none, none] [] h Q E := by
  have iV := C.iV.2
  have iG := C.iG.2
  have kX := ly0_k L
  obtain ⟨p1, p2, p3, p4, p5⟩ := (C.2.2.2.1.2.1 k (by omega)).1 hk
  have wv := C.2.2.2.2.2.2.2.2.1 k hk
  have h0' : S.1 9 k = 0 := by rw [i3_eq]; exact h0
  rcases p5 with ⟨a1, a2, a3, a4, a5⟩ | ⟨a1, -⟩ | ⟨a1, -⟩ | ⟨a1, -⟩
  case inr.inl => rw [h0'] at a1; exact absurd a1 (by decide)
  case inr.inr.inl => rw [h0'] at a1; exact absurd a1 (by decide)
  case inr.inr.inr => rw [h0'] at a1; exact absurd a1 (by decide)
  have fo : inR (S.1 10 k) 0 ((nF S : Int) - 1) := by
    rcases wv.2.2 with q | q | q | q
    · exact q.2.1
    all_goals rw [h0'] at q; exact absurd q.1 (by decide)
  have hf : (S.1 10 k).toNatClampNeg < nF S := cl_lt fo.1 fo.2
  have nF20 := C.iF.2
  obtain ⟨f1, f2, f3, f4, f5, f6, f7, f8⟩ := (C.2.1.2 (S.1 10 k).toNatClampNeg (by omega)).1 hf
  refine v_X0_gradeOf (d := d + 49) L ?_
  rw [nI_clamp (by omega)]
  refine ⟨vp_in_nI (by omega) (by decide), a2, ?_⟩
  rw [p2]
  refine c_force L C T (fun v g6 e6 r6 _ => ?_)
  intro _ h6 eh6 _
  have z6 : efr X h h6 := by rw [eh6]; exact efr.rf.wR
  have r6' : frc S (S.1 17 k) h6 X := by rw [eh6, ← e6]; exact r6
  clear e6 r6 eh6
  refine mx_up (α := Unit) (fun n _ => [some (rv X), some (iv (nI k)), some (iv kn), some (rv (ah_R h (X + 4) k)), some (iv (grL S tx k kn n).1), some (jv (bsC (grL S tx k kn n).2)), none, some (iv (nI n)), none, none, none]) (nG S) (fun n _ g => efr X h g ∧ frc S (S.1 17 k) g X) (fun n _ g hn hI KK => ?_) (fun _ g hI => ?_) 0 () h6 (Nat.zero_le _) ⟨z6, r6'⟩
  · obtain ⟨z, r⟩ := hI
    have Lg := z.qf.ly L
    have Cg := C.qf L z.qf
    refine v_X0_gradeOf_33 (d := d + 49) Lg ⟨fun q => ?_, fun _ => ⟨vp_in_nI (by omega) (by decide), fun q => ?_, fun q => ⟨fun q2 => ?_, fun q2 => ?_⟩⟩⟩
    · exfalso; rw [Cg.iG.1, i3_le, nI_x (by omega), nI_x (by omega)] at q; omega
    · rw [nI_clamp (by omega), Cg.1.1 5 19 (by decide)] at q
      have e : grL S tx k kn (n + 1) = grL S tx k kn n := if_neg (fun z => q z.1)
      rw [nI_1, ← e]; exact KK () g ⟨z, r⟩
    · rw [nI_clamp (by omega), Cg.1.1 5 19 (by decide)] at q
      rw [nI_clamp (by omega), Cg.1.1 8 22 (by decide)] at q2
      refine c_clear Lg (fun g1 z1 rg zz => ?_)
      intro _
      have zg := z.tr z1
      have Lg1 := zg.qf.ly L
      have Cg1 := C.qf L zg.qf
      have A : ∀ k, k < 11 → aok g1 41 (X + 1434) (nI k) := fun k hk => ly0_A_1434 Lg1 (vp_in_nI hk (by decide))
      have i3 : ∀ j, ah_I g1 (ah_R h (X + 4) k) j = ah_I h (ah_R h (X + 4) k) j := fun j => zg.2.2.1 _ _ (by omega)
      rw [nI_clamp (by omega), Cg1.1.1 7 21 (by decide), Cg1.1.1 6 20 (by decide), i3, i3, i3, p2, p4, a5, zg.2.1 _ 3 (by omega), a3, zg.2.2.1 _ 1 (by omega), f7, zg.1.2.1]
      refine ⟨A 0 (by decide), fun h8 e8 _ => ⟨A 1 (by decide), fun h10 e10 _ => ⟨a2, A 2 (by decide), fun h13 e13 _ => ⟨A 3 (by decide), fun h15 e15 _ => ⟨A 4 (by decide), fun h17 e17 _ => ⟨f2, A 7 (by decide), fun h20 e20 _ => ?_⟩⟩⟩⟩⟩⟩
      have z20 : efr X h h20 := by rw [e20, e17, e15, e13, e10, e8]; exact zg.wJ.wJ.wJ.wJ.wJ.wJ
      have r20 : frc S (S.1 17 k) h20 X := by
        refine frc.r (g := g) r (fun a j => ?_)
        rw [e20, e17, e15, e13, e10, e8]
        show ah_R g1 a j = _
        by_cases q : a = X ∧ j = 23
        · rw [q.1, q.2]; exact rg
        · exact z1.2.1 a j q
      rw [← cst_rank]
      refine c_ask4 (d := d) (x := S.1 17 k) (vs := vgr S k n) (z20.qf.ly L) (C.qf L z20.qf) (T.qf L z20.qf) wrd_rank r20 (fun j hj => ?_) (by decide) (by decide) (fun g2 z2 => ?_)
      · rw [e20, e17, e15, e13, e10, e8]
        simp only [rd_JJ, true_and, eq_self]
        rw [zz j hj]
        rfl
      · intro _
        have z3 := z20.tr z2.ef
        have r3 : frc S (S.1 17 k) g2 X := r20.r (fun a j => by rw [z2.1.2.2.2])
        rw [(C.qf L z3.qf).1.1 7 21 (by decide), nI_1]
        have e : grL S tx k kn (n + 1) = grT (rkS S tx k n) (grL S tx k kn n) (S.1 21 n) := if_pos ⟨q, q2⟩
        have kk := KK () g2 ⟨z3, r3⟩
        refine ⟨fun q3 => ?_, fun q3 => ?_⟩
        · have e2 : grL S tx k kn (n + 1) = (S.1 21 n, some (rkS S tx k n)) := e.trans (if_pos q3)
          rw [e2] at kk; exact kk
        · have e2 : grL S tx k kn (n + 1) = grL S tx k kn n := e.trans (if_neg q3)
          rw [e2] at kk; exact kk
    · rw [nI_clamp (by omega), Cg.1.1 8 22 (by decide)] at q2
      have e : grL S tx k kn (n + 1) = grL S tx k kn n := if_neg (fun z => q2 z.2)
      rw [nI_1, ← e]; exact KK () g ⟨z, r⟩
  · have Cg := C.qf L hI.1.qf
    refine v_X0_gradeOf_33 (d := d + 49) (hI.1.qf.ly L) ⟨fun _ => K g hI.1, fun q => absurd ?_ q⟩
    rw [Cg.iG.1, i3_le]; exact Int.le_refl _
theorem m_gradeOf (L : LY8 h M) (kS : kq S (mv h M)) (W : WF S) (B : WB S) (T : TXm S tx) (hk : k < nV S) (h0 : (S.1 9 k).toInt = 0) (K : ∀ g, mch [44, 45, 46, 47, 48] [72, 108] M h g → Q (some (iv (grS S tx k kn))) g) : MX G mi_X8_gradeOf (d + 5) 0 [some (rv M), some (iv (nI k)), some (iv kn), none, none, none, none, none, none, none] [] h Q E := by
  have iV := B.2.2
  have iG := mb_G W B
  have wv := W.2.2.2.1 k hk
  have h0' : S.1 9 k = 0 := by rw [i3_eq]; exact h0
  have fo : inR (S.1 10 k) 0 ((nF S : Int) - 1) := by
    rcases wv.2.2 with q | q | q | q
    · exact q.2.1
    all_goals rw [h0'] at q; exact absurd q.1 (by decide)
  have hf : (S.1 10 k).toNatClampNeg < nF S := cl_lt fo.1 fo.2
  have nF20 := B.1
  refine v_X8_gradeOf (d := d + 4) L ?_
  refine mx_up (α := Unit) (fun n _ => [some (rv M), some (iv (nI k)), some (iv kn), some (iv (grL S tx k kn n).1), some (iv (anM (grL S tx k kn n).2)), some (jv (tpM (grL S tx k kn n).2)), none, some (iv (nI n)), none, none]) (nG S) (fun n _ g => mch [44, 45, 46, 47, 48] [72, 108] M h g) (fun n _ g hn z KK => ?_) (fun _ g z => ?_) 0 () h (Nat.zero_le _) mch.rf
  · have kg := kS.mc z (by decide) (by decide) (by decide)
    have iGm : ah_I g M 8 = nI (nG S) := (kg.z 8 (by decide) (by decide)).trans W.1.2.2.2.1
    refine v_X8_gradeOf_11 (d := d + 4) (z.ly L) ⟨fun q => ?_, fun _ => ⟨vp_in_nI (by omega) (by decide), fun q => ?_, fun q => ⟨fun q2 => ?_, fun q2 => ?_⟩⟩⟩
    · exfalso; rw [iGm, i3_le, nI_x (by omega), nI_x (by omega)] at q; omega
    · rw [nI_clamp (by omega), kg.r 19 _ (by decide)] at q
      have e : grL S tx k kn (n + 1) = grL S tx k kn n := if_neg (fun z => q z.1)
      rw [nI_1, ← e]; exact KK () g z
    · rw [nI_clamp (by omega), kg.r 19 _ (by decide)] at q
      rw [nI_clamp (by omega), kg.r 22 _ (by decide)] at q2
      refine m_letNothing (z.ly L) (fun g1 z1 zz => ?_)
      intro _
      have k1 := kg.mc z1 (by decide) (by decide) (by decide)
      rw [nI_clamp (n := n) (by omega), nI_clamp (n := k) (by omega), k1.r 21 _ (by decide), k1.r 20 _ (by decide), k1.r 17 _ (by decide), k1.r 15 _ (by decide), k1.r 16 _ (by decide), k1.r 10 _ (by decide), k1.r 4 _ (by decide)]
      intro h7 e7 _ h8 e8 _
      refine ⟨vp_in_nI (by omega) (by decide), fun h10 e10 _ h11 e11 _ h12 e12 _ => ⟨vp_x fo.1 (by have := fo.2; omega), fun h14 e14 _ => ?_⟩⟩
      have z14 : mch [45] [] M g h14 := by rw [e14, e12, e11, e10, e8, e7]; exact (((((z1.wJ (by decide)).wJ (by decide)).wJ (by decide)).wJ (by decide)).wJ (by decide)).wJ (by decide)
      have k14 := kg.mc z14 (by decide) (by decide) (by decide)
      rw [show (591307 : Int64) = lN 591307 from rfl]
      refine m_ask3 (d := d) (vs := vgr S k n) (lo := -1000000) (hi := 1000000) ((z14.ly (z.ly L))) k14 T (by decide) (fun j hj => ?_) (by decide) (by decide) (fun g2 v z2 ev => ?_)
      · rw [e14, e12, e11, e10, e8, e7]
        simp only [rd_JJ, true_and, eq_self]
        rw [zz j hj]
        rfl
      · intro _
        have z3 : mch [44, 45, 46, 47, 48] [72, 108] M h g2 := z.tr ((z14.mono (by decide) (by decide)).tr (z2.mono (by decide) (by decide)))
        rw [(kS.mc z3 (by decide) (by decide) (by decide)).r 21 _ (by decide), nI_1, ev]
        have e : grL S tx k kn (n + 1) = grT (rkS S tx k n) (grL S tx k kn n) (S.1 21 n) := if_pos ⟨q, q2⟩
        have kk := KK () g2 z3
        have f1 : bsC (grL S tx k kn n).2 ≤ rkS S tx k n → MX G mi_X8_gradeOf (d + 4 + 1) 11 [some (rv M), some (iv (nI k)), some (iv kn), some (iv (S.1 21 n)), some (iv (1 : Int32)), some (jv (rkS S tx k n)), none, some (iv (nI (n + 1))), none, none] [] g2 Q E := fun q3 => by
          have e2 : grL S tx k kn (n + 1) = (S.1 21 n, some (rkS S tx k n)) := e.trans (if_pos q3)
          rw [e2] at kk; exact kk
        cases eo : (grL S tx k kn n).2 with
        | none =>
          rw [eo] at f1
          exact ⟨fun _ => f1 (by rw [i6_le]; exact (i6_b _).1), fun q3 => absurd rfl q3⟩
        | some t =>
          rw [eo] at f1
          refine ⟨fun q3 => absurd q3 (by show ¬ (1 : Int32) = 0; decide), fun _ => ⟨f1, fun q3 => ?_⟩⟩
          have e2 : grL S tx k kn (n + 1) = grL S tx k kn n := e.trans (if_neg (by rw [eo]; exact q3))
          rw [e2, eo] at kk; exact kk
    · rw [nI_clamp (by omega), kg.r 22 _ (by decide)] at q2
      have e : grL S tx k kn (n + 1) = grL S tx k kn n := if_neg (fun z => q2 z.2)
      rw [nI_1, ← e]; exact KK () g z
  · have kg := kS.mc z (by decide) (by decide) (by decide)
    have iGm : ah_I g M 8 = nI (nG S) := (kg.z 8 (by decide) (by decide)).trans W.1.2.2.2.1
    refine v_X8_gradeOf_11 (d := d + 4) (z.ly L) ⟨fun _ => K g z, fun q => absurd ?_ q⟩
    rw [iGm, i3_le]; exact Int.le_refl _
end

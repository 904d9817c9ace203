/-! ===== feed: bytes laid on the tape ===== -/
def fd (S : MS) (b : Int32) : MS := uI (uI S 35 (nP S) b) 0 44 (S.1 0 44 + 1)
def byt (v s : Int32) : Int32 := vp_nar .byte (v >>> (s &&& 31)).toInt8.toInt32
def fd4 (S : MS) (v : Int32) : MS := fd (fd (fd (fd S (byt v 24)) (byt v 16)) (byt v 8)) (byt v 0)
/-- the class's fixed ints alone -/
def cpq (X : Nat) (h h' : ah_T) (S' : MS) : Prop := LY0 h' X ∧ CI0 h' X S' ∧ dyn pT (X + 5, 0) X h h' ∧ cfr X h h' ∧ ah_ext h h' ∧ h'.1 = h.1
section
variable {G : ma_G} {d X M : Nat} {h h1 h2 : ah_T} {S S' : MS} {Q : Option ma_V → ah_T → Prop} {E : Nat → ah_T → Prop} {b v : Int32}
theorem cpq.rf (L : LY0 h X) (C : CI0 h X S) : cpq X h h S := ⟨L, C, dyn.rf, cfr.rf, ah_ext.rf, rfl⟩
theorem cpq.tr (x : cpq X h h1 S) (z : cpq X h1 h2 S') : cpq X h h2 S' := ⟨z.1, z.2.1, x.2.2.1.tr z.2.2.1, x.2.2.2.1.tr z.2.2.2.1, x.2.2.2.2.1.tr z.2.2.2.2.1, z.2.2.2.2.2.trans x.2.2.2.2.2⟩
theorem cpq.po (L : LY0 h X) (x : cpq X h h1 S) : cpo X h h1 S := ⟨x.1, x.2.1, x.2.2.2.1, x.2.2.2.2.1, by unfold ah_rc; rw [x.2.2.2.2.2]; omega, by unfold ah_rs; rw [x.2.2.2.2.2]; omega, x.2.2.1.lf L ⟨by show X + 5 < _; omega, by show X + 5 ≠ _; omega, by show ah_kd h (X + 5) ≠ 50; rw [ly0_K_5 L]; decide⟩ (fun _ _ _ => trivial)⟩
theorem wf_fd (W : WF S) (hp : nP S < 500) : WF (fd S b) ∧ nP (fd S b) = nP S + 1 := by
  obtain ⟨⟨b1, b2, b3, b4, b5, b6, b7, b8, b9⟩, a2⟩ := W
  have ho : S.1 0 44 + 1 = nI (nP S + 1) := by rw [b7, nI_1]
  have hn : nP (fd S b) = nP S + 1 := by
    show (S.1 0 44 + 1).toNatClampNeg = _
    rw [ho, nI_clamp (by omega)]
  exact ⟨⟨⟨b1, b2, b3, b4, b5, b6, by rw [hn]; exact ho, by rw [hn]; omega, b9⟩, a2⟩, hn⟩
theorem kept.fdk (x : kept S S') : kept (fd S b) (fd S' b) := by
  have e : S.1 0 44 = S'.1 0 44 := x.2 44 (by decide)
  unfold fd nP
  rw [e]
  exact x.cI.cI
theorem kept.fdk4 (x : kept S S') : kept (fd4 S v) (fd4 S' v) := x.fdk.fdk.fdk.fdk
theorem cpq.fdq (L : LY0 h X) (C : CI0 h X S) (hp : nP S < 500) (t : ah_ext h (ah_wI (ah_wI h (X + 1432) (nP S) b) (X + 1431) 1 (S.1 0 44 + 1))) : cpq X h (ah_wI (ah_wI h (X + 1432) (nP S) b) (X + 1431) 1 (S.1 0 44 + 1)) (fd S b) :=
  ⟨L.ext t, C.up L ((dyn.rf.wI (by decide)).wI (by decide)) ((C.1.pA 1432 35 (by decide)).pZ 1431 1 44 (by decide)) (wf_fd C.2.2.2.2.2 hp).1 ⟨⟨rfl, rfl, rfl, rfl, rfl, rfl, rfl, rfl⟩, ⟨rfl, rfl⟩, ⟨rfl, rfl, rfl, rfl, rfl, rfl, rfl, rfl, rfl, rfl, rfl⟩, rfl, rfl, rfl⟩, (dyn.rf.wI (by decide)).wI (by decide), (cfr.rf.wI (by omega)).wI (by omega), t, rfl⟩
theorem c_four1 {s : Int32} (hs : ¬ s < 0) (L : LY0 h X) (C : CI0 h X S) (hp : nP S < 500) (K : ∀ h1, cpq X h h1 (fd S (byt v s)) → MX G mi_X0_four d 3 [some (rv X), some (iv v), some (iv (s + (-8)))] [] h1 Q E) : MX G mi_X0_four d 3 [some (rv X), some (iv v), some (iv s)] [] h Q E := by
  have cz : ah_I h (X + 1431) 1 = S.1 0 44 := C.1.2 1431 1 44 (by decide)
  have cv : S.1 0 44 = nI (nP S) := C.2.2.2.2.2.1.2.2.2.2.2.2.1
  have en : (S.1 0 44).toNatClampNeg = nP S := rfl
  refine v_X0_four_3 L ⟨fun c => absurd c hs, fun _ => ?_⟩
  rw [cz, en]
  refine ⟨by rw [cv]; exact vp_in_nI hp (by decide), ?_⟩
  intro h3 q3 x3 h4 q4 x4
  subst q3; subst q4
  exact K _ (cpq.fdq L C hp (x3.tr x4))
theorem c_four (L : LY0 h X) (C : CI0 h X S) (hp : nP S + 4 ≤ 500) (K : ∀ h1, cpq X h h1 (fd4 S v) → nP (fd4 S v) = nP S + 4 → Q none h1) : MX G mi_X0_four d 0 [some (rv X), some (iv v), none] [] h Q E := by
  have n1 := fun b => (wf_fd (b := b) C.2.2.2.2.2 (by omega)).2
  refine v_X0_four L (c_four1 (by decide) L C (by omega) (fun g1 p1 => ?_))
  rw [show (24 : Int32) + (-8) = 16 from by decide]
  have n2 := fun b => (wf_fd (b := b) p1.2.1.2.2.2.2.2 (by rw [n1]; omega)).2
  refine c_four1 (by decide) p1.1 p1.2.1 (by rw [n1]; omega) (fun g2 p2 => ?_)
  rw [show (16 : Int32) + (-8) = 8 from by decide]
  have n3 := fun b => (wf_fd (b := b) p2.2.1.2.2.2.2.2 (by rw [n2, n1]; omega)).2
  refine c_four1 (by decide) p2.1 p2.2.1 (by rw [n2, n1]; omega) (fun g3 p3 => ?_)
  rw [show (8 : Int32) + (-8) = 0 from by decide]
  have n4 := fun b => (wf_fd (b := b) p3.2.1.2.2.2.2.2 (by rw [n3, n2, n1]; omega)).2
  refine c_four1 (by decide) p3.1 p3.2.1 (by rw [n3, n2, n1]; omega) (fun g4 p4 => ?_)
  rw [show (0 : Int32) + (-8) = -8 from by decide]
  refine v_X0_four_3 p4.1 ⟨fun _ => ?_, fun c => absurd (by decide) c⟩
  exact K g4 (((p1.tr p2).tr p3).tr p4) (by unfold fd4; rw [n4, n3, n2, n1])
def sp_feed (S : MS) (a b c e f : Int32) : MS := fd4 (fd4 (fd4 (fd4 (fd4 S a) b) c) e) f
theorem c_feed {x1 x2 x3 x4 x5 : Int32} (L : LY0 h X) (C : CI0 h X S) (Kf : ¬ nP S + 20 ≤ 500 → ∀ h1, cpo X h h1 S → Q (some (iv (-1))) h1) (Kg : nP S + 20 ≤ 500 → ∀ h1, cpo X h h1 (sp_feed S x1 x2 x3 x4 x5) → Q (some (iv (nI (nP S + 20)))) h1) : MX G mi_X0_feed (d + 1) 0 [some (rv X), some (iv x1), some (iv x2), some (iv x3), some (iv x4), some (iv x5)] [] h Q E := by
  have bP := C.iP.2
  have fP : (ah_I h (X + 1431) 1 + 20).toInt = (nP S : Int) + 20 := by
    rw [C.iP.1, show (20 : Int32) = nI 20 from rfl, nI_add, nI_x (by omega)]; omega
  refine v_X0_feed L ⟨fun c => ?_, fun c => ?_⟩
  · have hp : nP S + 20 ≤ 500 := by simp only [i3_le, fP, Int32.reduceToInt] at c; omega
    refine c_four L C (by omega) (fun g1 p1 n1 _ => ?_)
    refine c_four p1.1 p1.2.1 (by omega) (fun g2 p2 n2 _ => ?_)
    refine c_four p2.1 p2.2.1 (by omega) (fun g3 p3 n3 _ => ?_)
    refine c_four p3.1 p3.2.1 (by omega) (fun g4 p4 n4 _ => ?_)
    refine c_four p4.1 p4.2.1 (by omega) (fun g5 p5 n5 _ => ?_)
    rw [p5.2.1.iP.1, show nP (fd4 (fd4 (fd4 (fd4 (fd4 S x1) x2) x3) x4) x5) = nP S + 20 by omega]
    exact Kg hp g5 (((((p1.tr p2).tr p3).tr p4).tr p5).po L)
  · have hp : ¬ nP S + 20 ≤ 500 := by simp only [i3_le, fP, Int32.reduceToInt] at c; omega
    exact Kf hp h (cpo.rf L C)
/-! the model's -/
theorem m_lay1 {s s8 : Int32} (hs : ¬ s < 0) (h8 : (8 : Int32) * s = s8) (L : LY8 h M) (eS : mv h M = S) (W : WF S) (hp : nP S < 500) (K : ∀ h1, mch [35] [44] M h h1 → mv h1 M = fd S (byt v s8) → MX G mi_X8_lay d 2 [some (rv M), some (iv v), some (iv (s + (-1)))] [] h1 Q E) : MX G mi_X8_lay d 2 [some (rv M), some (iv v), some (iv s)] [] h Q E := by
  have cz : ah_I h M 44 = S.1 0 44 := mk_z0 eS 44
  have cv : S.1 0 44 = nI (nP S) := W.1.2.2.2.2.2.2.1
  have en : (S.1 0 44).toNatClampNeg = nP S := rfl
  refine v_X8_lay_2 L ⟨fun c => absurd c hs, fun _ => ?_⟩
  rw [cz, en, h8]
  refine ⟨by rw [cv]; exact vp_in_nI hp (by decide), ?_⟩
  intro h3 q3 x3 h4 q4 x4
  subst q3; subst q4
  exact K _ ((mch.rf.wI (by decide)).zI (by decide)) (by rw [mv_zI, mv_wI, eS]; rfl)
theorem m_lay (L : LY8 h M) (eS : mv h M = S) (W : WF S) (hp : nP S + 4 ≤ 500) (K : ∀ h1, mch [35] [44] M h h1 → mv h1 M = fd4 S v → WF (fd4 S v) → nP (fd4 S v) = nP S + 4 → Q none h1) : MX G mi_X8_lay d 0 [some (rv M), some (iv v), none] [] h Q E := by
  have w1 := fun b => wf_fd (b := b) W (by omega)
  refine v_X8_lay L (m_lay1 (s8 := 24) (by decide) (by decide) L eS W (by omega) (fun g1 p1 e1 => ?_))
  rw [show (3 : Int32) + (-1) = 2 from by decide]
  have w2 := fun b => wf_fd (b := b) (w1 (byt v 24)).1 (by rw [(w1 _).2]; omega)
  refine m_lay1 (s8 := 16) (by decide) (by decide) (p1.ly L) e1 (w1 _).1 (by rw [(w1 _).2]; omega) (fun g2 p2 e2 => ?_)
  rw [show (2 : Int32) + (-1) = 1 from by decide]
  have w3 := fun b => wf_fd (b := b) (w2 (byt v 16)).1 (by rw [(w2 _).2, (w1 _).2]; omega)
  refine m_lay1 (s8 := 8) (by decide) (by decide) (p2.ly (p1.ly L)) e2 (w2 _).1 (by rw [(w2 _).2, (w1 _).2]; omega) (fun g3 p3 e3 => ?_)
  rw [show (1 : Int32) + (-1) = 0 from by decide]
  have w4 := fun b => wf_fd (b := b) (w3 (byt v 8)).1 (by rw [(w3 _).2, (w2 _).2, (w1 _).2]; omega)
  refine m_lay1 (s8 := 0) (by decide) (by decide) (p3.ly (p2.ly (p1.ly L))) e3 (w3 _).1 (by rw [(w3 _).2, (w2 _).2, (w1 _).2]; omega) (fun g4 p4 e4 => ?_)
  rw [show (0 : Int32) + (-1) = -1 from by decide]
  refine v_X8_lay_2 (p4.ly (p3.ly (p2.ly (p1.ly L)))) ⟨fun _ => ?_, fun c => absurd (by decide) c⟩
  exact K g4 (((p1.tr p2).tr p3).tr p4) e4 (w4 _).1 (by unfold fd4; rw [(w4 _).2, (w3 _).2, (w2 _).2, (w1 _).2])
theorem m_feed {x1 x2 x3 x4 x5 : Int32} (L : LY8 h M) (eS : mv h M = S) (W : WF S) (Kf : ¬ nP S + 20 ≤ 500 → ∀ h1, mpo M h h1 S → Q (some (iv (-1))) h1) (Kg : nP S + 20 ≤ 500 → ∀ h1, mpo M h h1 (sp_feed S x1 x2 x3 x4 x5) → Q (some (iv (nI (nP S + 20)))) h1) : MX G mi_X8_feed (d + 1) 0 [some (rv M), some (iv x1), some (iv x2), some (iv x3), some (iv x4), some (iv x5)] [] h Q E := by
  have bP : nP S ≤ 500 := W.1.2.2.2.2.2.2.2.1
  have fP : (ah_I h M 44 + 20).toInt = (nP S : Int) + 20 := by
    rw [mk_P eS W, show (20 : Int32) = nI 20 from rfl, nI_add, nI_x (by omega)]; omega
  refine v_X8_feed L ?_
  intro h1 q1 x1'
  subst q1
  have m0 : mch [] [1] M h (ah_wI h M 1 0) := mch.rf.zI (by decide)
  have e0 : mv (ah_wI h M 1 0) M = uI S 0 1 0 := by rw [mv_zI, eS]
  have k0 : kept S (uI S 0 1 0) := kept.rf.sI (by decide) (by decide)
  refine ⟨fun c => ?_, fun c => ?_⟩
  · have hp : nP S + 20 ≤ 500 := by simp only [i3_le, fP, Int32.reduceToInt] at c; omega
    have n0 : nP (uI S 0 1 0) = nP S := rfl
    refine m_lay (m0.ly L) e0 W (by omega) (fun g1 p1 e1 w1 n1 _ => ?_)
    refine m_lay (p1.ly (m0.ly L)) e1 w1 (by omega) (fun g2 p2 e2 w2 n2 _ => ?_)
    refine m_lay (p2.ly (p1.ly (m0.ly L))) e2 w2 (by omega) (fun g3 p3 e3 w3 n3 _ => ?_)
    refine m_lay (p3.ly (p2.ly (p1.ly (m0.ly L)))) e3 w3 (by omega) (fun g4 p4 e4 w4 n4 _ => ?_)
    refine m_lay (p4.ly (p3.ly (p2.ly (p1.ly (m0.ly L))))) e4 w4 (by omega) (fun g5 p5 e5 w5 n5 _ => ?_)
    rw [mk_P e5 w5, show nP (fd4 (fd4 (fd4 (fd4 (fd4 (uI S 0 1 0) x1) x2) x3) x4) x5) = nP S + 20 by omega]
    refine Kg hp g5 (mpo.tr m0 (by decide) (mpo.mk (by decide) ((((p1.tr p2).tr p3).tr p4).tr p5) (by rw [e5]; exact kept.rf)) ?_)
    exact k0.fdk4.fdk4.fdk4.fdk4.fdk4
  · have hp : ¬ nP S + 20 ≤ 500 := by simp only [i3_le, fP, Int32.reduceToInt] at c; omega
    exact Kf hp _ (mpo.mk (by decide) m0 (by rw [e0]; exact k0))
end

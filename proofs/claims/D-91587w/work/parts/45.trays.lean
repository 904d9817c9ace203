/-! ===== trays ===== -/
def p8 : Nat → Nat → Prop := fun a _ => a ≠ 8
section
variable {G : ma_G} {d X M : Nat} {h h1 h2 : ah_T} {S S' : MS} {Q : Option ma_V → ah_T → Prop} {E : Nat → ah_T → Prop}
/-- a heap with the same content: an exception more -/
theorem dyn.ofx {P : Nat → Nat → Prop} {e : Nat × Nat} (x : ah_ext h h1) (eI : ah_I h1 = ah_I h) (eJ : ah_J h1 = ah_J h) (eR : ah_R h1 = ah_R h) : dyn P e X h h1 :=
  ⟨fun a ha => ⟨(x.2 a ha).1, (x.2 a ha).2.1⟩, fun a k _ _ _ => by rw [eR], fun a k _ _ _ _ => ⟨by rw [eI], by rw [eJ]⟩⟩
theorem lfr.tr (x : lfr X h h1) (z : lfr X h1 h2) (k : ∀ a, ah_kd h a ≠ 0 → ah_kd h1 a = ah_kd h a) (ks : ah_sz h ≤ ah_sz h1) : lfr X h h2 := by
  refine ⟨fun a j h0 ha hb => ?_, fun j => (z.2.1 j).trans (x.2.1 j), fun a j h0 ha => ?_, fun u j hu hr hk => ?_, fun t ht => ?_⟩
  · have e := k a (by omega)
    obtain ⟨x1, x2, x3⟩ := x.1 a j h0 ha hb
    obtain ⟨z1, z2, z3⟩ := z.1 a j h0 (by omega) (by omega)
    exact ⟨z1.trans x1, z2.trans x2, z3.trans x3⟩
  · have e := k a (by omega)
    exact (z.2.2.1 a j h0 (by omega)).trans (x.2.2.1 a j h0 ha)
  · have e := k _ (show ah_kd h (ah_R h (X + 1437) u + 1) ≠ 0 by omega)
    have x1 := x.2.2.2.1 u j hu hr hk
    have z1 := z.2.2.2.1 u j hu (by rw [x.2.1]; exact hr) (by rw [x.2.1, e]; exact hk)
    rw [x.2.1] at z1
    exact z1.trans x1
  · rcases z.2.2.2.2 t ht with q | q
    · rw [q]; exact x.2.2.2.2 t ht
    · exact Or.inr (by omega)
theorem cpq.op (L : LY0 h X) (x : cpq X h h1 S) (z : cpo X h1 h2 S') : cpo X h h2 S' := by
  have p := x.po L
  refine ⟨z.1, z.2.1, p.2.2.1.tr z.2.2.1, p.2.2.2.1.tr z.2.2.2.1, ?_, ?_, p.2.2.2.2.2.2.tr z.2.2.2.2.2.2 (fun a ha => (x.2.2.1.1 a ha).1) p.2.2.2.1.1⟩
  · have := z.2.2.2.2.1
    have e : ah_rc h1 = ah_rc h := by unfold ah_rc; rw [x.2.2.2.2.2]
    omega
  · have := z.2.2.2.2.2.1
    have e : ah_rs h1 = ah_rs h := by unfold ah_rs; rw [x.2.2.2.2.2]
    omega
/-- an exception of the machine, then a status -/
theorem cpo.exn {j c cost : Nat} {s : Int32} (L : LY0 h X) (C : CI0 h X S) (x : ah_ext h (ah_exn h j c cost)) (hc : c ≤ 4000) (ht : cost ≤ 40000) (t : ah_ext (ah_exn h j c cost) (ah_wI (ah_exn h j c cost) X 20 s)) : cpo X h (ah_wI (ah_exn h j c cost) X 20 s) (uI S 0 0 s) := by
  have z : dyn pT (X + 5, 0) X h (ah_exn h j c cost) := dyn.ofx x rfl rfl rfl
  have z2 : dyn pT (X + 5, 0) X h (ah_wI (ah_exn h j c cost) X 20 s) := z.zI
  refine ⟨(L.ext x).ext t, C.up L z2 ((C.1.sm (h' := ah_exn h j c cost) (fun _ _ _ => rfl)).pX 20 0 (by decide)) C.2.2.2.2.2 ⟨⟨rfl, rfl, rfl, rfl, rfl, rfl, rfl, rfl⟩, ⟨rfl, rfl⟩, ⟨rfl, rfl, rfl, rfl, rfl, rfl, rfl, rfl, rfl, rfl, rfl⟩, rfl, rfl, rfl⟩, (cfr.tr (h' := ah_exn h j c cost) (fun _ _ _ => ⟨rfl, rfl⟩) cfr.rf.zI), x.tr t, ?_, ?_, z2.lf L ⟨by show X + 5 < _; omega, by show X + 5 ≠ _; omega, by show ah_kd h (X + 5) ≠ 50; rw [ly0_K_5 L]; decide⟩ (fun _ _ _ => trivial)⟩
  · show h.1.2.1 ≤ h.1.2.1 - c + 4000; omega
  · show h.1.2.2 ≤ h.1.2.2 - cost + 40000; omega
theorem cpq.st {s : Int32} (L : LY0 h X) (C : CI0 h X S) (t : ah_ext h (ah_wI h X 20 s)) : cpq X h (ah_wI h X 20 s) (uI S 0 0 s) := ⟨L.ext t, C.st L, dyn.rf.zI, cfr.rf.zI, t, rfl⟩
/-! read -/
/-- 1: no tray; 3: it is missing; 4: beyond -/
def wy_read (S : MS) (t k : Int32) : Int32 := if 0 ≤ t.toInt ∧ t.toInt ≤ 3 then (if 0 ≤ (S.1 2 t.toNatClampNeg).toInt then (if 0 ≤ k.toInt ∧ k.toInt < (S.1 2 t.toNatClampNeg).toInt then 0 else 4) else 3) else 1
def sp_read (S : MS) (t k : Int32) : Int64 := if wy_read S t k = 0 then S.2 3 (40 * t.toNatClampNeg + k.toNatClampNeg) else -1
theorem ix_40 {x y : Int32} (h0 : 0 ≤ x.toInt) (h1 : x.toInt ≤ 3) (h2 : 0 ≤ y.toInt) (h3 : y.toInt ≤ 39) : (40 : Int32) * x + y = nI (40 * x.toNatClampNeg + y.toNatClampNeg) ∧ 40 * x.toNatClampNeg + y.toNatClampNeg < 160 := by
  obtain ⟨a1, a2⟩ := x_nI (n := 3) h0 h1
  obtain ⟨b1, b2⟩ := x_nI (n := 39) h2 h3
  refine ⟨?_, by omega⟩
  have e : (40 : Int32) * x + y = nI 40 * nI x.toNatClampNeg + nI y.toNatClampNeg := by rw [← a1, ← b1]; rfl
  rw [e, pk_mul, nI_add]
/-- a tray as it lies: missing, or a row of n numbers -/
theorem CIt.at_ {ts tm : Nat → Int32} {nu : Nat → Int64} (x : CIt h X ts tm nu) {t : Nat} (ht : t < 4) : (ah_R h (X + (1494 + t)) 0 = 0 ∧ (tm t).toInt = -1) ∨ ∃ n, n ≤ 40 ∧ tm t = nI n ∧ (tm t).toInt = n ∧ X + 1576 ≤ ah_R h (X + (1494 + t)) 0 ∧ ah_I h (X + (1494 + t)) 1 = ts t ∧ ah_ln h (ah_R h (X + (1494 + t)) 0) = n ∧ CIr h t (ah_R h (X + (1494 + t)) 0) (ts t) n nu := by
  rcases x.1 t ht with ⟨p1, p2⟩ | ⟨p1, p2, n, p3, p4, p5, p6⟩
  · exact Or.inl ⟨p1, by rw [p2]; decide⟩
  · exact Or.inr ⟨n, p3, p4, by rw [p4]; exact nI_x (by omega), p1, p2, p5, p6⟩
/-- a number read: the class's get, by the row's sort -/
theorem c_get {t : Nat} {k : Int32} {ts tm : Nat → Int32} {nu : Nat → Int64} (L : LY0 h X) (x : CIt h X ts tm nu) (ht : t < 4) (rm : 3 ≤ ah_rc h ∧ 222 ≤ ah_rs h)
    (K0 : (tm t).toInt = -1 → E (ah_sz h) (ah_exn h 0 1 8)) (K1 : 0 ≤ (tm t).toInt → ¬ (0 ≤ k.toInt ∧ k.toInt < (tm t).toInt) → E (ah_sz h + 2) (ah_exn h 1 3 222)) (K2 : 0 ≤ (tm t).toInt → (0 ≤ k.toInt ∧ k.toInt < (tm t).toInt) → Q (some (jv (nu (40 * t + k.toNatClampNeg)))) h) : MX G mi_X7_get (d + 40) 0 [some (rv (X + (1494 + t))), some (iv k)] [] h Q E := by
  refine v_X7_get ⟨ly0_TK L ht, ?_⟩
  have hN : ∀ n, n ≤ 40 → ah_ln h (ah_R h (X + (1494 + t)) 0) = n → (vp_in k (ah_ln h (ah_R h (X + (1494 + t)) 0)) ↔ 0 ≤ k.toInt ∧ k.toInt < (n : Int)) := fun n hn e => by rw [e]; exact vp_in_iff
  have F0 : ∀ kd, ah_R h (X + (1494 + t)) 0 = 0 → (ah_R h (X + (1494 + t)) 0 = 0 ∨ ah_kd h (ah_R h (X + (1494 + t)) 0) = kd) := fun _ e => Or.inl e
  rcases x.at_ ht with ⟨p1, p2⟩ | ⟨n, p1, p2, p3, p4, p5, p6, p7⟩
  · have e0 : (1 ≤ ah_rc h ∧ 8 ≤ ah_rs h) ∧ E (ah_sz h) (ah_exn h 0 1 8) := ⟨⟨by omega, by omega⟩, K0 p2⟩
    exact ⟨fun _ => ⟨fun _ => ⟨fun _ => ⟨Or.inl p1, fun _ => e0, fun c => absurd p1 c⟩, fun _ => ⟨Or.inl p1, fun _ => e0, fun c => absurd p1 c⟩⟩, fun _ => ⟨Or.inl p1, fun _ => e0, fun c => absurd p1 c⟩⟩, fun _ => ⟨Or.inl p1, fun _ => e0, fun c => absurd p1 c⟩⟩
  · have nz : ah_R h (X + (1494 + t)) 0 ≠ 0 := by omega
    have out : ¬ vp_in k (ah_ln h (ah_R h (X + (1494 + t)) 0)) → ah_ln h (ah_R h (X + (1494 + t)) 0) < 2 ^ 31 ∧ (3 ≤ ah_rc h ∧ 222 ≤ ah_rs h) ∧ E (ah_sz h + 2) (ah_exn h 1 3 222) := fun c => ⟨by rw [p6]; omega, rm, K1 (by omega) (by rw [hN n p1 p6] at c; rw [p3]; exact c)⟩
    have inn : vp_in k (ah_ln h (ah_R h (X + (1494 + t)) 0)) → Q (some (jv (nu (40 * t + k.toNatClampNeg)))) h ∧ k.toNatClampNeg < n := fun c => by
      rw [hN n p1 p6] at c
      exact ⟨K2 (by omega) (by rw [p3]; exact c), cl_lt c.1 (by omega)⟩
    rw [p5]
    rcases p7 with ⟨s0, q1, q2⟩ | ⟨s0, q1, q2⟩ | ⟨s0, q1, q2⟩ | ⟨s0, q1, q2⟩
    · exact ⟨fun c => absurd s0 c, fun _ => ⟨Or.inr q1, fun c => absurd c nz, fun _ => ⟨fun c => by rw [q2 _ (inn c).2]; exact (inn c).1, out⟩⟩⟩
    · exact ⟨fun _ => ⟨fun c => absurd s0 c, fun _ => ⟨Or.inr q1, fun c => absurd c nz, fun _ => ⟨fun c => by rw [q2 _ (inn c).2]; exact (inn c).1, out⟩⟩⟩, fun c => absurd (s0.symm.trans c) (by decide)⟩
    · exact ⟨fun _ => ⟨fun _ => ⟨fun c => absurd s0 c, fun _ => ⟨Or.inr q1, fun c => absurd c nz, fun _ => ⟨fun c => by rw [q2 _ (inn c).2]; exact (inn c).1, out⟩⟩⟩, fun c => absurd (s0.symm.trans c) (by decide)⟩, fun c => absurd (s0.symm.trans c) (by decide)⟩
    · exact ⟨fun _ => ⟨fun _ => ⟨fun _ => ⟨Or.inr q1, fun c => absurd c nz, fun _ => ⟨fun c => by rw [q2 _ (inn c).2]; exact (inn c).1, out⟩⟩, fun c => absurd (s0.symm.trans c) (by decide)⟩, fun c => absurd (s0.symm.trans c) (by decide)⟩, fun c => absurd (s0.symm.trans c) (by decide)⟩
end

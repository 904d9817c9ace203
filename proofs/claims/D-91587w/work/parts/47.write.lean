/-! ===== write ===== -/
/-- the texts' names lie in no tray -/
def CIx (h : ah_T) (X : Nat) : Prop := ∀ t u, t < 4 → u < 4 → ah_R h (X + (1494 + t)) 0 ≠ 0 → ah_R h (X + 1437) u ≠ 0 → ah_R h (X + 1437) u + 1 ≠ ah_R h (X + (1494 + t)) 0
section
variable {G : ma_G} {d X M : Nat} {h h' : ah_T} {S : MS} {Q : Option ma_V → ah_T → Prop} {E : Nat → ah_T → Prop} {x1 x2 : Int32} {x3 : Int64}
theorem CIt.set {t n : Nat} {ts tm : Nat → Int32} {nu nu' : Nat → Int64} (L : LY0 h X) (x : CIt h X ts tm nu) (ht : t < 4) (hr : X + 1576 ≤ ah_R h (X + (1494 + t)) 0) (f : fre [ah_R h (X + (1494 + t)) 0] h h') (ll : ah_ln h' (ah_R h (X + (1494 + t)) 0) = ah_ln h (ah_R h (X + (1494 + t)) 0)) (hn : n ≤ 40) (tn : tm t = nI n) (ln : ah_ln h (ah_R h (X + (1494 + t)) 0) = n) (ss : ah_I h (X + (1494 + t)) 1 = ts t)
    (q : CIr h' t (ah_R h (X + (1494 + t)) 0) (ts t) n nu') (o : ∀ u k, u < 4 → u ≠ t → k < 40 → nu' (40 * u + k) = nu (40 * u + k)) : CIt h' X ts tm nu' := by
  have nT : ∀ u, u < 4 → X + (1494 + u) ∉ [ah_R h (X + (1494 + t)) 0] := fun u hu => by simp only [List.mem_cons, List.not_mem_nil, or_false]; omega
  have eR : ∀ u, u < 4 → ah_R h' (X + (1494 + u)) 0 = ah_R h (X + (1494 + u)) 0 := fun u hu => f.R (nT u hu) 0
  refine ⟨fun u hu => ?_, fun u w hu hw => by rw [eR u hu, eR w hw]; exact x.2 u w hu hw⟩
  rw [eR u hu, f.I (nT u hu) 1]
  rcases Nat.decEq u t with c | c
  · rcases x.1 u hu with p | ⟨p1, p2, m, p3, p4, p5, p6⟩
    · exact Or.inl p
    · have nr : ah_R h (X + (1494 + u)) 0 ∉ [ah_R h (X + (1494 + t)) 0] := fun hm => x.2 u t hu ht c (by omega) (List.mem_singleton.mp hm)
      refine Or.inr ⟨p1, p2, m, p3, p4, by rw [(f _ nr).2.1]; exact p5, ?_⟩
      have p7 := p6.dy (h' := h') (f _ nr).1 (fun k => ⟨((f _ nr).2.2 k).1, ((f _ nr).2.2 k).2.1⟩)
      rcases p7 with ⟨s0, q1, q2⟩ | ⟨s0, q1, q2⟩ | ⟨s0, q1, q2⟩ | ⟨s0, q1, q2⟩
      · exact Or.inl ⟨s0, q1, fun k hk => (q2 k hk).trans (o u k hu c (by omega)).symm⟩
      · exact Or.inr (Or.inl ⟨s0, q1, fun k hk => (q2 k hk).trans (o u k hu c (by omega)).symm⟩)
      · exact Or.inr (Or.inr (Or.inl ⟨s0, q1, fun k hk => (q2 k hk).trans (o u k hu c (by omega)).symm⟩))
      · exact Or.inr (Or.inr (Or.inr ⟨s0, q1, fun k hk => (q2 k hk).trans (o u k hu c (by omega)).symm⟩))
  · subst c
    exact Or.inr ⟨hr, ss, n, hn, tn, by rw [ll]; exact ln, q⟩
/-- a number written: the class's set, by the row's sort -/
theorem c_set {t : Nat} {k : Int32} {v : Int64} {ts tm : Nat → Int32} {nu : Nat → Int64} (L : LY0 h X) (x : CIt h X ts tm nu) (ht : t < 4) (rm : 3 ≤ ah_rc h ∧ 222 ≤ ah_rs h)
    (K0 : (tm t).toInt = -1 → E (ah_sz h) (ah_exn h 0 1 8)) (K1 : 0 ≤ (tm t).toInt → ¬ (0 ≤ k.toInt ∧ k.toInt < (tm t).toInt) → E (ah_sz h + 2) (ah_exn h 1 3 222))
    (K2 : 0 ≤ (tm t).toInt → (0 ≤ k.toInt ∧ k.toInt < (tm t).toInt) → ∀ h', X + 1576 ≤ ah_R h (X + (1494 + t)) 0 → 40 ≤ ah_kd h (ah_R h (X + (1494 + t)) 0) → ah_kd h (ah_R h (X + (1494 + t)) 0) ≤ 43 → h'.1 = h.1 → ah_kd h' = ah_kd h → ah_ln h' = ah_ln h → ah_R h' = ah_R h → fre [ah_R h (X + (1494 + t)) 0] h h' → CIt h' X ts tm (fun j => if j = 40 * t + k.toNatClampNeg then sCut (ts t) v else nu j) → Q none h') : MX G mi_X7_set (d + 40) 0 [some (rv (X + (1494 + t))), some (iv k), some (jv v), none] [] h Q E := by
  refine v_X7_set ⟨ly0_TK L ht, ?_⟩
  have hN : ∀ n, n ≤ 40 → ah_ln h (ah_R h (X + (1494 + t)) 0) = n → (vp_in k (ah_ln h (ah_R h (X + (1494 + t)) 0)) ↔ 0 ≤ k.toInt ∧ k.toInt < (n : Int)) := fun n hn e => by rw [e]; exact vp_in_iff
  rcases x.at_ ht with ⟨p1, p2⟩ | ⟨n, p1, p2, p3, p4, p5, p6, p7⟩
  · have e0 : (1 ≤ ah_rc h ∧ 8 ≤ ah_rs h) ∧ E (ah_sz h) (ah_exn h 0 1 8) := ⟨⟨by omega, by omega⟩, K0 p2⟩
    exact ⟨fun _ => ⟨fun _ => ⟨fun _ => ⟨Or.inl p1, fun _ => e0, fun c => absurd p1 c⟩, fun _ => ⟨Or.inl p1, fun _ => e0, fun c => absurd p1 c⟩⟩, fun _ => ⟨Or.inl p1, fun _ => e0, fun c => absurd p1 c⟩⟩, fun _ => ⟨Or.inl p1, fun _ => e0, fun c => absurd p1 c⟩⟩
  · have nz : ah_R h (X + (1494 + t)) 0 ≠ 0 := by omega
    have out : ¬ vp_in k (ah_ln h (ah_R h (X + (1494 + t)) 0)) → ah_ln h (ah_R h (X + (1494 + t)) 0) < 2 ^ 31 ∧ (3 ≤ ah_rc h ∧ 222 ≤ ah_rs h) ∧ E (ah_sz h + 2) (ah_exn h 1 3 222) := fun c => ⟨by rw [p6]; omega, rm, K1 (by omega) (by rw [hN n p1 p6] at c; rw [p3]; exact c)⟩
    have kk := p7.kk
    have inn : vp_in k (ah_ln h (ah_R h (X + (1494 + t)) 0)) → k.toNatClampNeg < n ∧ ∀ h', h'.1 = h.1 → ah_kd h' = ah_kd h → ah_ln h' = ah_ln h → ah_R h' = ah_R h → fre [ah_R h (X + (1494 + t)) 0] h h' → CIr h' t (ah_R h (X + (1494 + t)) 0) (ts t) n (fun j => if j = 40 * t + k.toNatClampNeg then sCut (ts t) v else nu j) → Q none h' := fun c => by
      rw [hN n p1 p6] at c
      have hk := cl_lt (n := n) c.1 (by omega)
      refine ⟨hk, fun h' e1 e2 e3 e4 f q => K2 (by omega) (by rw [p3]; exact c) h' p4 kk.1 kk.2 e1 e2 e3 e4 f (x.set L ht p4 f (by rw [e3]) p1 p2 p6 p5 q (fun u j hu hne hj => ?_))⟩
      show (if 40 * u + j = 40 * t + k.toNatClampNeg then _ else _) = _
      rw [if_neg (by omega)]
    have wI : ∀ b : Int32, ts t ≠ 3 → b.toInt64 = sCut (ts t) v → (∀ j, j < n → (ah_I h (ah_R h (X + (1494 + t)) 0) j).toInt64 = nu (40 * t + j)) → ∀ j, j < n → (ah_I (ah_wI h (ah_R h (X + (1494 + t)) 0) k.toNatClampNeg b) (ah_R h (X + (1494 + t)) 0) j).toInt64 = (if 40 * t + j = 40 * t + k.toNatClampNeg then sCut (ts t) v else nu (40 * t + j)) := fun b _ eb q2 j hj => by
      rw [rd_II]
      rcases Nat.decEq j k.toNatClampNeg with c | c
      · rw [if_neg (fun q => c q.2), if_neg (by omega)]; exact q2 j hj
      · rw [if_pos ⟨rfl, c⟩, if_pos (by omega)]; exact eb
    rw [p5]
    rcases p7 with ⟨s0, q1, q2⟩ | ⟨s0, q1, q2⟩ | ⟨s0, q1, q2⟩ | ⟨s0, q1, q2⟩
    · have c1 : (vp_nar .byte v.toInt32.toInt8.toInt32).toInt64 = sCut (ts t) v := by rw [pk_vb, s0]; rfl
      exact ⟨fun c => absurd s0 c, fun _ => ⟨Or.inr q1, fun c => absurd c nz, fun _ => ⟨fun c h' e' _ => by subst e'; exact (inn c).2 _ rfl rfl rfl rfl (fre.rf.wI List.mem_cons_self) (Or.inl ⟨s0, q1, wI _ (by rw [s0]; decide) c1 q2⟩), out⟩⟩⟩
    · have c1 : (vp_nar .short v.toInt32.toInt16.toInt32).toInt64 = sCut (ts t) v := by rw [pk_vs, s0]; rfl
      exact ⟨fun _ => ⟨fun c => absurd s0 c, fun _ => ⟨Or.inr q1, fun c => absurd c nz, fun _ => ⟨fun c h' e' _ => by subst e'; exact (inn c).2 _ rfl rfl rfl rfl (fre.rf.wI List.mem_cons_self) (Or.inr (Or.inl ⟨s0, q1, wI _ (by rw [s0]; decide) c1 q2⟩)), out⟩⟩⟩, fun c => absurd (s0.symm.trans c) (by decide)⟩
    · have c1 : v.toInt32.toInt64 = sCut (ts t) v := by rw [s0]; rfl
      exact ⟨fun _ => ⟨fun _ => ⟨fun c => absurd s0 c, fun _ => ⟨Or.inr q1, fun c => absurd c nz, fun _ => ⟨fun c h' e' _ => by subst e'; exact (inn c).2 _ rfl rfl rfl rfl (fre.rf.wI List.mem_cons_self) (Or.inr (Or.inr (Or.inl ⟨s0, q1, wI _ (by rw [s0]; decide) c1 q2⟩))), out⟩⟩⟩, fun c => absurd (s0.symm.trans c) (by decide)⟩, fun c => absurd (s0.symm.trans c) (by decide)⟩
    · have c1 : v = sCut (ts t) v := by rw [s0]; rfl
      have wJ : ∀ j, j < n → ah_J (ah_wJ h (ah_R h (X + (1494 + t)) 0) k.toNatClampNeg v) (ah_R h (X + (1494 + t)) 0) j = (if 40 * t + j = 40 * t + k.toNatClampNeg then sCut (ts t) v else nu (40 * t + j)) := fun j hj => by
        rw [rd_JJ]
        rcases Nat.decEq j k.toNatClampNeg with c | c
        · rw [if_neg (fun q => c q.2), if_neg (by omega)]; exact q2 j hj
        · rw [if_pos ⟨rfl, c⟩, if_pos (by omega)]; exact c1
      exact ⟨fun _ => ⟨fun _ => ⟨fun _ => ⟨Or.inr q1, fun c => absurd c nz, fun _ => ⟨fun c h' e' _ => by subst e'; exact (inn c).2 _ rfl rfl rfl rfl (fre.rf.wJ List.mem_cons_self) (Or.inr (Or.inr (Or.inr ⟨s0, q1, wJ⟩))), out⟩⟩, fun c => absurd (s0.symm.trans c) (by decide)⟩, fun c => absurd (s0.symm.trans c) (by decide)⟩, fun c => absurd (s0.symm.trans c) (by decide)⟩
def sg_write (S : MS) (t k : Int32) (v : Int64) : MS := uJ (uI S 0 0 0) 3 (40 * t.toNatClampNeg + k.toNatClampNeg) (sCut (S.1 1 t.toNatClampNeg) v)
theorem c_write (L : LY0 h X) (C : CI0 h X S) (CX : CIx h X) (RM : X + 1576 ≤ ah_sz h ∧ 4000 ≤ ah_rc h ∧ 40000 ≤ ah_rs h) (Kf : wy_read S x1 x2 ≠ 0 → ∀ h1, cpo X h h1 (uI S 0 0 (wy_read S x1 x2)) → Q (some (iv 0)) h1) (Kg : wy_read S x1 x2 = 0 → ∀ h1, cpo X h h1 (sg_write S x1 x2 x3) → Q (some (iv 1)) h1) : MX G mi_X0_write (d + 41) 0 [some (rv X), some (iv x1), some (iv x2), some (jv x3), none, none] [] h Q E := by
  have r1 : 4000 ≤ h.1.2.1 := RM.2.1
  have r2 : 40000 ≤ h.1.2.2 := RM.2.2
  refine v_X0_write L ?_
  refine ⟨fun c1 => ?_, fun c1 => ⟨fun c2 => ?_, fun c2 => ?_⟩⟩
  · intro h2 e2 X2
    have w_ : wy_read S x1 x2 = 1 := by simp only [i3_lt, i3_le, i6_lt, i6_le, i3_eq, i3_l, Int32.reduceToInt, Int64.reduceToInt, tm_1, tl_1] at c1; unfold wy_read; rw [if_neg (by omega)]
    subst e2
    exact Kf (by rw [w_]; decide) _ (by rw [w_]; exact cpo.st L C X2)
  · intro h2 e2 X2
    have w_ : wy_read S x1 x2 = 1 := by simp only [i3_lt, i3_le, i6_lt, i6_le, i3_eq, i3_l, Int32.reduceToInt, Int64.reduceToInt, tm_1, tl_1] at c1 c2; unfold wy_read; rw [if_neg (by omega)]
    subst e2
    exact Kf (by rw [w_]; decide) _ (by rw [w_]; exact cpo.st L C X2)
  · simp only [i3_lt, i3_le, i6_lt, i6_le, i3_eq, i3_l, Int32.reduceToInt, Int64.reduceToInt, tm_1, tl_1] at c1 c2
    have ht : x1.toNatClampNeg < 4 := cl_lt (by omega) (by omega)
    refine ⟨vp_x (by omega) (by omega), ?_⟩
    refine c_set L C.2.2.2.2.1 ht ⟨by show 3 ≤ h.1.2.1; omega, by show 222 ≤ h.1.2.2; omega⟩ (fun t0 x0 => Or.inl ⟨if_pos rfl, ?_⟩) (fun t0 t1 x0 => Or.inr ⟨if_pos rfl, ?_⟩) (fun t0 t1 h6 rr k1 k2 e1 e2 e3 e4 f q x6 => ?_)
    · have w_ : wy_read S x1 x2 = 3 := by unfold wy_read; rw [if_pos (by omega), if_neg (by omega)]
      refine v_X0_write_27 (L.ext x0) (fun h9 e9 X9 => ?_)
      subst e9
      exact Kf (by rw [w_]; decide) _ (by rw [w_]; exact cpo.exn L C x0 (by decide) (by decide) X9)
    · have w_ : wy_read S x1 x2 = 4 := by unfold wy_read; rw [if_pos (by omega), if_pos (by omega), if_neg t1]
      refine v_X0_write_35 (L.ext x0) (fun h9 e9 X9 => ?_)
      subst e9
      exact Kf (by rw [w_]; decide) _ (by rw [w_]; exact cpo.exn L C x0 (by decide) (by decide) X9)
    · have w_ : wy_read S x1 x2 = 0 := by unfold wy_read; rw [if_pos (by omega), if_pos (by omega), if_pos t1]
      intro h8 e8 X8
      subst e8
      have nr : ∀ a, ah_kd h a < 40 ∨ 43 < ah_kd h a → a ∉ [ah_R h (X + (1494 + x1.toNatClampNeg)) 0] := fun a ha hm => by rw [List.mem_singleton.mp hm] at ha; omega
      have nX : ∀ c, c < 1498 → X + c ∉ [ah_R h (X + (1494 + x1.toNatClampNeg)) 0] := fun c hc hm => by have := List.mem_singleton.mp hm; omega
      have z0 : dyn pR (X + 5, 0) X h h6 := ⟨fun a _ => ⟨by rw [e2], by rw [e3]⟩, fun a k _ _ _ => by rw [e4], fun a k _ _ _ hp => ⟨f.I (nr a hp) k, ((f a (nr a hp)).2.2 k).2.1⟩⟩
      have z : dyn pR (X + 5, 0) X h (ah_wI h6 X 20 0) := z0.zI
      have e_ := ((C.1.sm (h' := h6) (fun c k hc => f.I (nX c hc) k)).pX (v := 0) 20 0 (by decide)).cJ (a := 3) (k := 40 * x1.toNatClampNeg + x2.toNatClampNeg) (v := sCut (S.1 1 x1.toNatClampNeg) x3)
      have q8 : CIt (ah_wI h6 X 20 0) X (S.1 1) (S.1 2) (fun j => if j = 40 * x1.toNatClampNeg + x2.toNatClampNeg then sCut (S.1 1 x1.toNatClampNeg) x3 else S.2 3 j) := q.dy (P := pT) (e := (X + 5, 0)) (L.ext x6) dyn.rf.zI (fun _ _ _ => trivial) (by show X + 5 < _; omega)
      have cf : cfr X h h6 := f.cfr (fun b hb => by rw [List.mem_singleton.mp hb]; omega)
      refine Kg w_ _ ⟨(L.ext x6).ext X8, ⟨e_, C.2.1.dy L z (fun _ => ⟨Or.inl (by decide), Or.inr (by decide)⟩) ⟨by show X + 5 < _; omega, by show X + 5 ≠ _; omega⟩, C.2.2.1.dy L z (fun _ => Or.inl (by decide)) ⟨by show X + 5 < _; omega, by show X + 5 ≠ _; omega⟩, C.2.2.2.1.dy L z (fun a _ h1 h2 _ => Or.inl (by omega)) ⟨by show X + 5 < _; omega, by show X + 5 ≠ _; omega⟩ (fun q => absurd q (by show X + 5 ≠ _; omega)), q8, C.2.2.2.2.2⟩, cf.zI, x6.tr X8, ?_, ?_, ?_⟩
      · show h.1.2.1 ≤ h6.1.2.1 + 4000
        rw [e1]; omega
      · show h.1.2.2 ≤ h6.1.2.2 + 40000
        rw [e1]; omega
      · refine ⟨fun a k h0 h1 h2 => ?_, fun k => by show ah_R h6 _ _ = _; rw [e4], fun a k _ _ => by show ah_R h6 _ _ = _; rw [e4], fun u k hu h1 h2 => ?_, fun t _ => Or.inl (by show ah_R h6 _ _ = _; rw [e4])⟩
        · have := f a (nr a (Or.inl (by omega)))
          refine ⟨by show ah_R h6 _ _ = _; rw [e4], ?_, (this.2.2 k).2.1⟩
          rw [rd_Ia (by omega)]; exact (this.2.2 k).1
        · exact ((f _ (fun hm => CX _ u ht hu (by omega) (by omega) (List.mem_singleton.mp hm))).2.2 k).2.1
theorem m_write (L : LY8 h M) (eS : mv h M = S) (T : ∀ t, t < 4 → (S.1 2 t).toInt ≤ 40) (Kf : wy_read S x1 x2 ≠ 0 → ∀ h1, mpo M h h1 (uI S 0 0 (wy_read S x1 x2)) → Q (some (iv 0)) h1) (Kg : wy_read S x1 x2 = 0 → ∀ h1, mpo M h h1 (sg_write S x1 x2 x3) → Q (some (iv 1)) h1) : MX G mi_X8_write (d + 2) 0 [some (rv M), some (iv x1), some (iv x2), some (jv x3), none] [] h Q E := by
  refine v_X8_write L ?_
  rw [mk_r eS, mk_r eS]
  intro h1 eh1 Xh1
  refine ⟨fun c1 => ?_, fun c1 => ?_⟩
  · skip
    intro h3 eh3 Xh3
    have w_ : wy_read S x1 x2 = (1 : Int32) := by
      simp only [i3_lt, i3_le, i6_lt, i6_le, i3_eq, i3_l, Int32.reduceToInt, Int64.reduceToInt, tm_1, tl_1] at c1
      unfold wy_read
      (repeat' split) <;> first | rfl | (exfalso; omega)
    subst eh1
    subst eh3
    exact Kf (by rw [w_]; decide) _ (by rw [w_]; exact mpo.s1 eS)
  · skip
    refine ⟨fun c2 => ?_, fun c2 => ?_⟩
    · skip
      refine ⟨?_, ?_⟩
      · exact vp_x (by simp only [i3_lt, i3_le, i6_lt, i6_le, i3_eq, i3_l, Int32.reduceToInt, Int64.reduceToInt, tm_1, tl_1] at c1 c2; omega) (by simp only [i3_lt, i3_le, i6_lt, i6_le, i3_eq, i3_l, Int32.reduceToInt, Int64.reduceToInt, tm_1, tl_1] at c1 c2; omega)
      refine ⟨fun c3 => ?_, fun c3 => ?_⟩
      · skip
        refine ⟨fun c4 => ?_, fun c4 => ?_⟩
        · skip
          intro h8 eh8 Xh8
          have w_ : wy_read S x1 x2 = (4 : Int32) := by
            simp only [i3_lt, i3_le, i6_lt, i6_le, i3_eq, i3_l, Int32.reduceToInt, Int64.reduceToInt, tm_1, tl_1] at c1 c2 c3 c4
            unfold wy_read
            (repeat' split) <;> first | rfl | (exfalso; omega)
          subst eh1
          subst eh8
          exact Kf (by rw [w_]; decide) _ (by rw [w_]; exact mpo.s1 eS)
        · skip
          refine ⟨fun c5 => ?_, fun c5 => ?_⟩
          · skip
            intro h10 eh10 Xh10
            refine ⟨?_, ?_⟩
            · have t_ := T x1.toNatClampNeg (cl_lt (by simp only [i3_lt, i3_le, i6_lt, i6_le, i3_eq, i3_l, Int32.reduceToInt, Int64.reduceToInt, tm_1, tl_1] at c1 c2; omega) (by simp only [i3_lt, i3_le, i6_lt, i6_le, i3_eq, i3_l, Int32.reduceToInt, Int64.reduceToInt, tm_1, tl_1] at c1 c2; omega))
              obtain ⟨i1, i2⟩ := ix_40 (x := x1) (y := x2) (by simp only [i3_lt, i3_le, i6_lt, i6_le, i3_eq, i3_l, Int32.reduceToInt, Int64.reduceToInt, tm_1, tl_1] at c1 c2 c3 c4 c5; omega) (by simp only [i3_lt, i3_le, i6_lt, i6_le, i3_eq, i3_l, Int32.reduceToInt, Int64.reduceToInt, tm_1, tl_1] at c1 c2 c3 c4 c5; omega) (by simp only [i3_lt, i3_le, i6_lt, i6_le, i3_eq, i3_l, Int32.reduceToInt, Int64.reduceToInt, tm_1, tl_1] at c1 c2 c3 c4 c5; omega) (by simp only [i3_lt, i3_le, i6_lt, i6_le, i3_eq, i3_l, Int32.reduceToInt, Int64.reduceToInt, tm_1, tl_1] at c1 c2 c3 c4 c5; omega)
              rw [i1]; exact vp_in_nI i2 (by decide)
            intro h12 eh12 Xh12
            have t_ := T x1.toNatClampNeg (cl_lt (by simp only [i3_lt, i3_le, i6_lt, i6_le, i3_eq, i3_l, Int32.reduceToInt, Int64.reduceToInt, tm_1, tl_1] at c1 c2; omega) (by simp only [i3_lt, i3_le, i6_lt, i6_le, i3_eq, i3_l, Int32.reduceToInt, Int64.reduceToInt, tm_1, tl_1] at c1 c2; omega))
            obtain ⟨i1, i2⟩ := ix_40 (x := x1) (y := x2) (by simp only [i3_lt, i3_le, i6_lt, i6_le, i3_eq, i3_l, Int32.reduceToInt, Int64.reduceToInt, tm_1, tl_1] at c1 c2 c3 c4 c5; omega) (by simp only [i3_lt, i3_le, i6_lt, i6_le, i3_eq, i3_l, Int32.reduceToInt, Int64.reduceToInt, tm_1, tl_1] at c1 c2 c3 c4 c5; omega) (by simp only [i3_lt, i3_le, i6_lt, i6_le, i3_eq, i3_l, Int32.reduceToInt, Int64.reduceToInt, tm_1, tl_1] at c1 c2 c3 c4 c5; omega) (by simp only [i3_lt, i3_le, i6_lt, i6_le, i3_eq, i3_l, Int32.reduceToInt, Int64.reduceToInt, tm_1, tl_1] at c1 c2 c3 c4 c5; omega)
            have w_ : wy_read S x1 x2 = (0 : Int32) := by
              simp only [i3_lt, i3_le, i6_lt, i6_le, i3_eq, i3_l, Int32.reduceToInt, Int64.reduceToInt, tm_1, tl_1] at c1 c2 c3 c4 c5
              unfold wy_read
              (repeat' split) <;> first | rfl | (exfalso; omega)
            subst eh1
            subst eh10
            subst eh12
            rw [i1, nI_clamp (by omega)]
            exact Kg w_ _ (mpo.mk (A := [3]) (Z := [0, 1]) (by decide) (((mch.rf.zI (by decide)).zI (by decide)).wJ (by decide)) (by rw [mv_wJ, mv_zI, mv_zI, eS]; exact ((kept.rf.sI (by decide) (by decide)).cI).cJ))
          · skip
            intro h13 eh13 Xh13
            have w_ : wy_read S x1 x2 = (4 : Int32) := by
              simp only [i3_lt, i3_le, i6_lt, i6_le, i3_eq, i3_l, Int32.reduceToInt, Int64.reduceToInt, tm_1, tl_1] at c1 c2 c3 c4 c5
              unfold wy_read
              (repeat' split) <;> first | rfl | (exfalso; omega)
            subst eh1
            subst eh13
            exact Kf (by rw [w_]; decide) _ (by rw [w_]; exact mpo.s1 eS)
      · skip
        intro h14 eh14 Xh14
        have w_ : wy_read S x1 x2 = (3 : Int32) := by
          simp only [i3_lt, i3_le, i6_lt, i6_le, i3_eq, i3_l, Int32.reduceToInt, Int64.reduceToInt, tm_1, tl_1] at c1 c2 c3
          unfold wy_read
          (repeat' split) <;> first | rfl | (exfalso; omega)
        subst eh1
        subst eh14
        exact Kf (by rw [w_]; decide) _ (by rw [w_]; exact mpo.s1 eS)
    · skip
      intro h15 eh15 Xh15
      have w_ : wy_read S x1 x2 = (1 : Int32) := by
        simp only [i3_lt, i3_le, i6_lt, i6_le, i3_eq, i3_l, Int32.reduceToInt, Int64.reduceToInt, tm_1, tl_1] at c1 c2
        unfold wy_read
        (repeat' split) <;> first | rfl | (exfalso; omega)
      subst eh1
      subst eh15
      exact Kf (by rw [w_]; decide) _ (by rw [w_]; exact mpo.s1 eS)
end

/-! ===== acts: the model reads wholes ===== -/
noncomputable section
/-- a test: one, then others joined -/
def pTst (t : Nat → Nat) (n : Nat) (U : Nat → PR) (p : Nat) : PT :=
  match pOne t n U p with
  | .inl e => .inl e
  | .inr (q, b) => pTest t n U (pJoin t n q) (n + 1) q b
end
theorem pIf_l {t : Nat → Nat} {n : Nat} {U W : Nat → PR} {p : Nat} {z : Nat × Nat} (h : pTst t n U p = .inl z) : pIf t n U W p = .inl z := by
  unfold pTst at h
  unfold pIf
  cases h1 : pOne t n U p with
  | inl y => rw [h1] at h; simp only at h ⊢; injection h with h; rw [h]
  | inr y =>
    obtain ⟨q, b⟩ := y
    rw [h1] at h
    simp only at h ⊢
    rw [h]
theorem pIf_r {t : Nat → Nat} {n : Nat} {U W : Nat → PR} {p q1 : Nat} {b1 : PB} (h : pTst t n U p = .inr (q1, b1)) : pIf t n U W p = if tK 0 t n q1 = 1 then (match W (tE t n q1) with
      | .inl e => .inl e
      | .inr (q2, A) => if tK 0 t n q2 = 2 then (match W (tE t n q2) with
        | .inl e => .inl e
        | .inr (q3, B) => .inr (q3, fun v d => if b1 v d then A v d else B v d)) else .inl (pw t n q2 2)) else .inl (pw t n q1 2) := by
  unfold pTst at h
  unfold pIf
  cases h1 : pOne t n U p with
  | inl y => rw [h1] at h; simp at h
  | inr y =>
    obtain ⟨q, b⟩ := y
    rw [h1] at h
    simp only at h ⊢
    rw [h]
    rfl
theorem pos_tst {t : Nat → Nat} {n : Nat} {U : Nat → PR} (hU : pos n U) {p q : Nat} {b : PB} (hp : p ≤ n) (h : pTst t n U p = .inr (q, b)) : p < q ∧ q ≤ n := by
  unfold pTst at h
  cases h1 : pOne t n U p with
  | inl y => rw [h1] at h; simp at h
  | inr y =>
    obtain ⟨q1, b1⟩ := y
    rw [h1] at h
    simp only at h
    have a := pos_one hU hp h1
    have c := pos_test hU a.2 h
    omega
section
variable {G : ma_G} {d M n p q b e B c : Nat} {h g g2 : ah_T} {t : Nat → Nat} {nm : List Nat} {Q : Option ma_V → ah_T → Prop} {E : Nat → ah_T → Prop} {x : Int32} {D : PD} {W S U : Nat → PR}
theorem mkey (D : rdM h M n t p) (hs : tS t n p = 2) {k : Nat} (hk : k < 8) {y : Int64} (hy : y = lN (kwK.getD k 0)) (hb : kwK.getD k 0 < 1152921504606846976) : ah_J h M 55 = y ↔ tK 0 t n p = k := (mw D hs hb hy).trans ⟨fun w => (tK0 k hk).2 ⟨hs, w⟩, fun w => ((tK0 k hk).1 w).2⟩
theorem m_One_77 {f : Nat × Nat} {x2 x3 : Int32} (L : LY8 g M) (cf : MCf M B f g) (K : Q none g) : MX G mi_X8_readOne (d + 2) 77 [some (rv M), some (iv x), some (iv x2), some (iv x3)] [] g Q E := v_X8_readOne_77 L ⟨fun y => absurd y cf.n0.2, fun _ => K⟩
theorem m_One_13 {k : Bool} {x2 : Int32} (hx2 : x2 = if k = true then 1 else 0) (hU : ∀ d, mcon G M n t nm mi_X8_readSum [none] B (d + c + 1) x U) (hUp : pos n U) (hnB : n ≤ B) (hB : B ≤ 1000) (P : MP h M n t nm b p)
    (K : ∀ g, MCB M n t (B + 1) b p (match U p with
      | .inl e => .inl e
      | .inr (q, A) => if tS t n q = 4 ∧ tV t n q ∈ [60, 62, 61] then (match U (tE t n q) with
        | .inl e => .inl e
        | .inr (q2, B) => .inr (q2, fun v d => dho k (tV t n q) (A v d) (B v d))) else .inl (pw t n q 2)) h g → Q none g) :
    MX G mi_X8_readOne (d + c + 2) 13 [some (rv M), some (iv x), some (iv x2), none] [] h Q E := by
  have P' := P
  obtain ⟨P1, P2, P3, P4, P5, P6, P7, P8⟩ := P
  refine v_X8_readOne_13 (d := d + c) P1 ?_
  refine hU d h b p _ _ P' (fun g1 C1 => ?_)
  intro _
  obtain ⟨C0, C1, C2⟩ := C1
  cases hF : U p with
  | inl z =>
    have cf := C1 z hF
    have fin : Q none g1 := K g1 ⟨C0, fun y hy => by
      rw [hF] at hy
      injection hy with hy
      subst hy
      exact cf.mn (by omega), fun q' D' hy => by rw [hF] at hy; simp at hy⟩
    have f77 : ∀ x3, MX G mi_X8_readOne (d + c + 2) 77 [some (rv M), some (iv x), some (iv x2), some (iv x3)] [] g1 Q E := fun x3 => m_One_77 (C0.ly P1) cf fin
    have n0 := cf.n0.1
    exact ⟨fun _ => ⟨fun _ => f77 _, fun y => absurd y n0⟩, fun _ => ⟨fun _ => ⟨fun _ => ⟨fun _ => ⟨fun _ => f77 _, fun y => absurd y n0⟩, fun _ => ⟨fun _ => f77 _, fun y => absurd y n0⟩⟩, fun _ => ⟨fun _ => f77 _, fun y => absurd y n0⟩⟩, fun _ => ⟨fun _ => f77 _, fun y => absurd y n0⟩⟩⟩
  | inr z =>
    obtain ⟨q2, D2⟩ := z
    obtain ⟨r1, r2, r3, e2, r4, r5, r6, r7⟩ := C2 q2 D2 hF
    have pq := hUp _ _ _ P3 hF
    have P2' := P'.nx C0 pq.2 r2 r1 r6 (by omega)
    rw [hF] at K
    simp only at K
    have bad : ¬ (tS t n q2 = 4 ∧ tV t n q2 ∈ [60, 62, 61]) → MX G mi_X8_readOne (d + c + 2) 77 [some (rv M), some (iv x), some (iv x2), some (iv (-1 : Int32))] [] (ah_wI (ah_wI g1 M 48 (nI (pw t n q2 2).1)) M 49 (nI (pw t n q2 2).2)) Q E := fun y => by
      rw [if_neg y] at K
      have cf := P2'.wr hnB
      refine m_One_77 ((MC0.w2 C0).ly P1) cf (K _ ⟨MC0.w2 C0, fun z hz => ?_, fun q' D' hz => by simp at hz⟩)
      injection hz with hz
      subst hz
      exact cf.mn (by omega)
    have good : tS t n q2 = 4 → ∀ o : Nat, tV t n q2 = o → (o = 60 ∨ o = 62 ∨ o = 61) → ∀ x3 : Int32, x3 = nI (cmw o) → MX G mi_X8_readOne (d + c + 2) 77 [some (rv M), some (iv x), some (iv x2), some (iv x3)] [] g1 Q E := fun s4 o eo ho x3 hx3 => by
      have hin : tS t n q2 = 4 ∧ tV t n q2 ∈ [60, 62, 61] := ⟨s4, by rw [eo]; rcases ho with z | z | z <;> rw [z] <;> decide⟩
      rw [if_pos hin] at K
      have a := tE_s pq.2 (by rw [s4]; decide)
      refine v_X8_readOne_77 (d := d + c) (C0.ly P1) ⟨fun _ => ?_, fun y => absurd (by rw [r1]; exact le00) y⟩
      refine m_nx P2' (fun g2 m2 a2 Pn => ?_)
      intro _
      refine hU d g2 e2 (tE t n q2) _ _ Pn (fun g3 C3 => ?_)
      intro _
      obtain ⟨F0, F1, F2⟩ := C3
      have m13 := (C0.tr m2).tr F0
      have ev : ∀ v : Nat, x2 = nI v → (1048576 : Int32) * x3 + nI v = enc (cmw o) v := fun v _ => encE hx3 rfl
      cases hF2 : U (tE t n q2) with
      | inl z =>
        have cf := F1 z hF2
        rw [hF2] at K
        simp only at K
        have fin : ∀ v : Int32, vp_in (ah_I g3 M 58) 1100 ∧ ∀ h8 : ah_T, h8 = ah_wI g3 (M + 41) (ah_I g3 M 58).toNatClampNeg v → ah_ext g3 h8 → ∀ h9 : ah_T, h9 = ah_wI h8 M 58 ((ah_I g3 M 58) + (1 : Int32)) → ah_ext h8 h9 → Q none h9 := fun v => by
          obtain ⟨v1, v2⟩ := cf.mk (v := v) hB
          refine ⟨v1, fun h8 e8 _ h9 e9 _ => ?_⟩
          subst e8; subst e9
          refine K _ ⟨MC0.mk m13, fun y hy => ?_, fun q' D' hy => by simp at hy⟩
          injection hy with hy
          subst hy
          exact v2
        exact ⟨fun _ => fin _, fun _ => fin _⟩
      | inr z =>
        obtain ⟨q3, D3⟩ := z
        obtain ⟨u1, u2, u3, e3, u4, u5, u6, u7⟩ := F2 q3 D3 hF2
        have pq3 := hUp _ _ _ a.2 hF2
        rw [hF2] at K
        simp only at K
        have fin : ∀ v : Int32, v = enc (cmw o) (if k = true then 1 else 0) → vp_in (ah_I g3 M 58) 1100 ∧ ∀ h8 : ah_T, h8 = ah_wI g3 (M + 41) (ah_I g3 M 58).toNatClampNeg v → ah_ext g3 h8 → ∀ h9 : ah_T, h9 = ah_wI h8 M 58 ((ah_I g3 M 58) + (1 : Int32)) → ah_ext h8 h9 → Q none h9 := fun v hv => by
          obtain ⟨k1, k2, k3⟩ := P'.mk m13 pq3.2 u2 u1 u6 (by omega) (v := v)
          refine ⟨k1, fun h8 e8 _ h9 e9 _ => ?_⟩
          rw [k2] at e8
          subst e8; subst e9
          refine K _ ⟨MC0.mk m13, fun y hy => by simp at hy, fun q' D' hy => ?_⟩
          injection hy with hy
          injection hy with z1 z2
          subst z1; subst z2
          obtain ⟨-, -, -, x4, x5, x6, -, -⟩ := k3
          have ag : ∀ j, j < e2 → ah_I (ah_wI (ah_wI g3 (M + 41) e3 v) M 58 (ah_I g3 M 58 + 1)) (M + 41) j = ah_I g1 (M + 41) j := fun j hj => by
            rw [mk_at, if_neg (by omega), u3 j hj, a2]
          refine ⟨x5, x4, fun j hj => ?_, e3 + 1, by omega, by omega, x6, ?_⟩
          · rw [ag j (by omega)]; exact r3 j hj
          · rw [eo]
            refine RB.cmp (c := e2) ho (r7.ag (fun j j1 j2 => (ag j j2).symm)) (u7.ag (fun j j1 j2 => ?_)) ?_
            · rw [mk_at, if_neg (by omega)]
            · rw [mk_at, if_pos rfl]; exact hv
        cases k with
        | true =>
          rw [show x2 = (1 : Int32) from hx2]
          exact ⟨fun y => absurd y (by decide), fun _ => fin _ (encE hx3 rfl)⟩
        | false =>
          rw [show x2 = (0 : Int32) from hx2]
          exact ⟨fun _ => fin _ (encE hx3 rfl), fun y => absurd rfl y⟩
    rw [md3 r2]
    refine ⟨fun s4 => ⟨fun y => absurd r1 y, fun _ => wr_ok r2 r1 (bad (fun y => s4 y.1))⟩, fun s4 => ?_⟩
    rw [mv53 P2'.2.1 r2 (by omega) (c := 60) (by decide) (x := (60 : Int32)) rfl, mv53 P2'.2.1 r2 (by omega) (c := 62) (by decide) (x := (62 : Int32)) rfl, mv53 P2'.2.1 r2 (by omega) (c := 61) (by decide) (x := (61 : Int32)) rfl]
    refine ⟨fun n60 => ⟨fun n62 => ⟨fun n61 => ⟨fun y => absurd r1 y, fun _ => wr_ok r2 r1 (bad (fun y => ?_))⟩, fun y61 => ⟨fun y => absurd r1 y, fun _ => good s4 61 y61 (by omega) _ rfl⟩⟩, fun y62 => ⟨fun y => absurd r1 y, fun _ => good s4 62 y62 (by omega) _ rfl⟩⟩, fun y60 => ⟨fun y => absurd r1 y, fun _ => good s4 60 y60 (by omega) _ rfl⟩⟩
    have := y.2
    simp at this
    omega
theorem m_One (hU : ∀ d, mcon G M n t nm mi_X8_readSum [none] B (d + c + 1) x U) (hUp : pos n U) (hnB : n ≤ B) (hB : B ≤ 1000) : mcoB G M n t nm mi_X8_readOne [none, none] (B + 1) (d + c + 2) x (pOne t n U) := by
  intro h b p Q E P K
  have P' := P
  obtain ⟨P1, P2, P3, P4, P5, P6, P7, P8⟩ := P
  have no : tK 0 t n p ≠ 5 → MX G mi_X8_readOne (d + c + 2) 13 [some (rv M), some (iv x), some (iv (0 : Int32)), none] [] h Q E := fun z => by
    refine m_One_13 (k := false) rfl hU hUp hnB hB P' (fun g C2 => K g ?_)
    unfold pOne pNot
    rw [if_neg z, decide_eq_false z]
    exact C2
  refine v_X8_readOne (d := d + c) P1 ?_
  rw [md1 P4]
  refine ⟨fun s2 => no (fun z => s2 (tK_2 (k := 5) z)), fun s2 => ?_⟩
  rw [mkey P4 s2 (k := 5) (by decide) (y := (14836 : Int64)) rfl (by decide)]
  refine ⟨fun z => no z, fun z => ?_⟩
  have a := tE_s P3 (by rw [s2]; decide)
  refine m_nx P' (fun g1 m1 a1 Pn => ?_)
  intro _
  refine m_One_13 (k := true) rfl hU hUp hnB hB Pn (fun g C2 => K g ?_)
  obtain ⟨C0, C1, C2⟩ := C2
  unfold pOne pNot
  have zz : tK 0 t n p = 5 := z
  rw [if_pos zz, decide_eq_true zz]
  exact ⟨m1.tr C0, C1, fun q' D' hy => (C2 q' D' hy).a41 a1 (by omega)⟩
theorem m_Test_18 (hU : ∀ d, mcoB G M n t nm mi_X8_readOne [none, none] B (d + c + 1) x (pOne t n U)) (hUp : pos n U) (hB : B ≤ 1000) {k : Nat} {x2 : Int32} : ∀ (f : Nat) (g : ah_T) (e q : Nat) (D : PB), n - q < f → ((k = 3 ∧ x2 = 1) ∨ (k = 4 ∧ x2 = 0) ∨ (k = 0 ∧ x2 = 0 ∧ tK 0 t n q ≠ 4)) → MP g M n t nm e q → b ≤ e → RB (ah_I g (M + 41)) b e D →
    (∀ g', MC0 M g g' → (∀ z, pTest t n U k f q D = .inl z → MCf M (B + 1) z g') → (∀ q' D', pTest t n U k f q D = .inr (q', D') → ah_I g' M 48 = 0 ∧ rdM g' M n t q' ∧ (∀ k, k < b → ah_I g' (M + 41) k = ah_I g (M + 41) k) ∧ ∃ e', b ≤ e' ∧ e' + q ≤ q' + e ∧ ah_I g' M 58 = nI e' ∧ RB (ah_I g' (M + 41)) b e' D') → Q none g') →
    MX G mi_X8_readTest (d + c + 2) 18 [some (rv M), some (iv x), some (iv x2)] [] g Q E := by
  intro f
  induction f with
  | zero => intro g e q D hf; exact absurd hf (Nat.not_lt_zero _)
  | succ f ih =>
    intro g e q D hf hk P hbe R K
    have P' := P
    obtain ⟨P1, P2, P3, P4, P5, P6, P7, P8⟩ := P
    have stop : ¬ ((k = 3 ∨ k = 4) ∧ tK 0 t n q = k) → Q none g := fun z => by
      refine K g mch.rf (fun w hw => ?_) (fun q' D' hw => ?_)
      · unfold pTest at hw; rw [if_neg z] at hw; simp at hw
      · unfold pTest at hw
        rw [if_neg z] at hw
        injection hw with hw
        injection hw with w1 w2
        subst w1; subst w2
        exact ⟨P5, P4, fun _ _ => rfl, e, hbe, by omega, P6, R⟩
    have go : (k = 3 ∨ k = 4) → tK 0 t n q = k → MX G mi_X8_readTest (d + c + 2) 46 [some (rv M), some (iv x), some (iv x2)] [] g Q E := fun hk2 hkk => by
      have hin : (k = 3 ∨ k = 4) ∧ tK 0 t n q = k := ⟨hk2, hkk⟩
      have a := tE_s P3 (by rw [tK_2 hkk]; decide)
      refine v_X8_readTest_46 (d := d + c) P1 ?_
      refine m_nx P' (fun g1 m1 a41 Pn => ?_)
      intro _
      refine hU d g1 e (tE t n q) _ _ Pn (fun g2 C2 => ?_)
      intro _
      obtain ⟨C0, C1, C2⟩ := C2
      have m12 := m1.tr C0
      cases hF : pOne t n U (tE t n q) with
      | inl z =>
        have cf := C1 z hF
        have fin : ∀ v : Int32, vp_in (ah_I g2 M 58) 1100 ∧ ∀ h7 : ah_T, h7 = ah_wI g2 (M + 41) (ah_I g2 M 58).toNatClampNeg v → ah_ext g2 h7 → ∀ h8 : ah_T, h8 = ah_wI h7 M 58 ((ah_I g2 M 58) + (1 : Int32)) → ah_ext h7 h8 → MX G mi_X8_readTest (d + c + 2) 18 [some (rv M), some (iv x), some (iv x2)] [] h8 Q E := fun v => by
          obtain ⟨v1, v2⟩ := cf.mk (v := v) hB
          refine ⟨v1, fun h7 e7 _ h8 e8 _ => ?_⟩
          subst e7; subst e8
          have mm : MC0 M g (ah_wI (ah_wI g2 (M + 41) (ah_I g2 M 58).toNatClampNeg v) M 58 (ah_I g2 M 58 + 1)) := MC0.mk m12
          refine v_X8_readTest_18 (mm.ly P1) ⟨fun _ => ?_, fun w => absurd w v2.n0.1⟩
          refine K _ mm (fun y hy => ?_) (fun q' D' hy => ?_)
          · rw [pTest, if_pos hin, hF] at hy
            injection hy with hy
            subst hy
            exact v2
          · rw [pTest, if_pos hin, hF] at hy; simp at hy
        exact ⟨fun _ => fin _, fun _ => fin _⟩
      | inr z =>
        obtain ⟨q2, D2⟩ := z
        obtain ⟨r1, r2, r3, e2, r4, r5, r6, r7⟩ := C2 q2 D2 hF
        have pq := pos_one hUp a.2 hF
        have fin : ∀ w : Nat, (w = 13 ∨ w = 14) → (w = 13 ↔ k = 3) → ∀ v : Int32, v = enc w 0 → vp_in (ah_I g2 M 58) 1100 ∧ ∀ h7 : ah_T, h7 = ah_wI g2 (M + 41) (ah_I g2 M 58).toNatClampNeg v → ah_ext g2 h7 → ∀ h8 : ah_T, h8 = ah_wI h7 M 58 ((ah_I g2 M 58) + (1 : Int32)) → ah_ext h7 h8 → MX G mi_X8_readTest (d + c + 2) 18 [some (rv M), some (iv x), some (iv x2)] [] h8 Q E := fun w hw hwk v hv => by
          obtain ⟨k1, k2, k3⟩ := P'.mk m12 pq.2 r2 r1 r6 (by omega) (v := v)
          refine ⟨k1, fun h7 e7 _ h8 e8 _ => ?_⟩
          rw [k2] at e7
          subst e7; subst e8
          have ag : ∀ j, j < e → ah_I (ah_wI (ah_wI g2 (M + 41) e2 v) M 58 (ah_I g2 M 58 + 1)) (M + 41) j = ah_I g (M + 41) j := fun j hj => by
            rw [mk_at, if_neg (by omega), r3 j hj, a41]
          refine ih _ (e2 + 1) q2 (fun v d => if k = 3 then D v d && D2 v d else D v d || D2 v d) (by omega) ?_ k3 (by omega) ?_ (fun g' m' K1 K2 => ?_)
          · rcases hk with z | z | z
            · exact Or.inl z
            · exact Or.inr (Or.inl z)
            · omega
          · have jn := RB.jn hw (R.ag (m' := ah_I (ah_wI (ah_wI g2 (M + 41) e2 v) M 58 (ah_I g2 M 58 + 1)) (M + 41)) (fun j j1 j2 => (ag j j2).symm)) (r7.ag (m' := ah_I (ah_wI (ah_wI g2 (M + 41) e2 v) M 58 (ah_I g2 M 58 + 1)) (M + 41)) (fun j j1 j2 => by rw [mk_at, if_neg (by omega)])) (by rw [mk_at, if_pos rfl]; exact hv)
            have ef : (fun (v : Nat → Int64) (d : Nat → Option Int64) => if k = 3 then D v d && D2 v d else D v d || D2 v d) = fun v d => if w = 13 then D v d && D2 v d else D v d || D2 v d := by
              funext v d
              by_cases z : k = 3
              · rw [if_pos z, if_pos (hwk.2 z)]
              · rw [if_neg z, if_neg (fun y => z (hwk.1 y))]
            rw [ef]
            exact jn
          · refine K g' (mch.tr (MC0.mk m12) m') (fun y hy => K1 y (by rw [pTest, if_pos hin, hF] at hy; exact hy)) (fun q' D' hy => ?_)
            obtain ⟨s1, s2, s3, e3, s4, s5, s6, s7⟩ := K2 q' D' (by rw [pTest, if_pos hin, hF] at hy; exact hy)
            exact ⟨s1, s2, fun k hk => by rw [s3 k hk]; exact ag k (by omega), e3, s4, by omega, s6, s7⟩
        rcases hk with z | z | z
        · obtain ⟨z1, z2⟩ := z
          subst z2
          exact ⟨fun y => absurd y (by decide), fun _ => fin 13 (by omega) (by omega) _ (encE rfl rfl)⟩
        · obtain ⟨z1, z2⟩ := z
          subst z2
          exact ⟨fun _ => fin 14 (by omega) (by omega) _ (encE rfl rfl), fun y => absurd rfl y⟩
        · omega
    refine v_X8_readTest_18 P1 ?_
    rw [P5, md1 P4]
    refine ⟨fun y => absurd rfl y, fun _ => ?_⟩
    have nk : tS t n q ≠ 2 → ¬ ((k = 3 ∨ k = 4) ∧ tK 0 t n q = k) := fun z w => z (tK_2 w.2)
    rcases hk with z | z | z
    · rw [z.2]
      refine ⟨fun y => absurd y (by decide), fun _ => ⟨fun s2 => stop (nk s2), fun s2 => ?_⟩⟩
      rw [mkey P4 s2 (k := 3) (by decide) (y := (1476 : Int64)) rfl (by decide)]
      exact ⟨fun y => stop (fun w => y (by rw [w.2, z.1])), fun y => z.2 ▸ go (Or.inl z.1) (by rw [z.1]; exact y)⟩
    · rw [z.2]
      refine ⟨fun _ => ⟨fun s2 => stop (nk s2), fun s2 => ?_⟩, fun y => absurd rfl y⟩
      rw [mkey P4 s2 (k := 4) (by decide) (y := (498 : Int64)) rfl (by decide)]
      exact ⟨fun y => stop (fun w => y (by rw [w.2, z.1])), fun y => z.2 ▸ go (Or.inr z.1) (by rw [z.1]; exact y)⟩
    · rw [z.2.1]
      refine ⟨fun _ => ⟨fun s2 => stop (nk s2), fun s2 => ?_⟩, fun y => absurd rfl y⟩
      rw [mkey P4 s2 (k := 4) (by decide) (y := (498 : Int64)) rfl (by decide)]
      exact ⟨fun y => stop (fun w => by omega), fun y => absurd y z.2.2⟩
theorem m_Test (hU : ∀ d, mcoB G M n t nm mi_X8_readOne [none, none] B (d + c + 1) x (pOne t n U)) (hUp : pos n U) (hB : B ≤ 1000) : mcoB G M n t nm mi_X8_readTest [none] (B + 1) (d + c + 2) x (pTst t n U) := by
  intro h b p Q E P K
  have P' := P
  obtain ⟨P1, P2, P3, P4, P5, P6, P7, P8⟩ := P
  refine v_X8_readTest (d := d + c) P1 ?_
  refine hU d h b p _ _ P' (fun g1 C1 => ?_)
  intro _
  obtain ⟨C0, C1, C2⟩ := C1
  cases hF : pOne t n U p with
  | inl z =>
    have cf := C1 z hF
    have un : pTst t n U p = .inl z := by unfold pTst; rw [hF]
    refine ⟨fun y => absurd y cf.n0.2, fun _ => K g1 ⟨C0, fun y hy => ?_, fun q' D' hy => ?_⟩⟩
    · rw [un] at hy
      injection hy with hy
      subst hy
      exact cf.mn (by omega)
    · rw [un] at hy; simp at hy
  | inr z =>
    obtain ⟨q2, D2⟩ := z
    obtain ⟨r1, r2, r3, e2, r4, r5, r6, r7⟩ := C2 q2 D2 hF
    have pq := pos_one hUp P3 hF
    have un : pTst t n U p = pTest t n U (pJoin t n q2) (n + 1) q2 D2 := by unfold pTst; rw [hF]
    have P2' := P'.nx C0 pq.2 r2 r1 r6 (by omega)
    have go : ∀ x2 : Int32, ((pJoin t n q2 = 3 ∧ x2 = 1) ∨ (pJoin t n q2 = 4 ∧ x2 = 0) ∨ (pJoin t n q2 = 0 ∧ x2 = 0 ∧ tK 0 t n q2 ≠ 4)) → MX G mi_X8_readTest (d + c + 2) 18 [some (rv M), some (iv x), some (iv x2)] [] g1 Q E := fun x2 hx2 => by
      refine m_Test_18 (b := b) hU hUp hB (n + 1) g1 e2 q2 D2 (by omega) hx2 P2' r4 r7 (fun g' m' K1 K2 => K g' ⟨C0.tr m', fun y hy => K1 y (by rw [← un]; exact hy), fun q' D' hy => ?_⟩)
      obtain ⟨s1, s2, s3, e3, s4, s5, s6, s7⟩ := K2 q' D' (by rw [← un]; exact hy)
      exact ⟨s1, s2, fun k hk => (s3 k hk).trans (r3 k hk), e3, s4, by omega, s6, s7⟩
    have no : tK 0 t n q2 ≠ 3 → MX G mi_X8_readTest (d + c + 2) 18 [some (rv M), some (iv x), some (iv (0 : Int32))] [] g1 Q E := fun y => by
      by_cases y4 : tK 0 t n q2 = 4
      · exact go 0 (Or.inr (Or.inl ⟨by unfold pJoin; rw [if_neg y, if_pos y4], rfl⟩))
      · exact go 0 (Or.inr (Or.inr ⟨by unfold pJoin; rw [if_neg y, if_neg y4], rfl, y4⟩))
    rw [r1, md1 r2]
    refine ⟨fun _ => ⟨fun s2 => no (fun y => s2 (tK_2 (k := 3) y)), fun s2 => ?_⟩, fun y => absurd le00 y⟩
    rw [mkey r2 s2 (k := 3) (by decide) (y := (1476 : Int64)) rfl (by decide)]
    exact ⟨fun y => no y, fun y => go 1 (Or.inl ⟨by unfold pJoin; rw [if_pos (show tK 0 t n q2 = 3 from y)], rfl⟩)⟩
end

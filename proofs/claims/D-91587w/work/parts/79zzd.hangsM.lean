/-! ===== hangs: the model ===== -/
/-- what the places of a set weigh in a district -/
def plW (S : MS) (vt : Nat → Nat) (op : Nat → Nat) (t d n : Nat) : Nat := sN (fun j => if t / 2 ^ j % 2 = 1 then (if S.1 4 (op j) = nI d then vt (op j) else 0) else 0) n
section
variable {G : ma_G} {d X M n s t m : Nat} {h g g2 : ah_T} {S : MS} {tx : Nat → List Nat × List PD} {x : Int32} {vt op : Nat → Nat} {w : Int32} {Q : Option ma_V → ah_T → Prop} {E : Nat → ah_T → Prop} {F : Nat → Nat}
theorem plW_b {e : Nat} (hv : ∀ f, vt f ≤ 1000) : plW S vt op t e n ≤ n * 1000 := sN_c (fun j _ => by
  show (if _ then (if _ then vt (op j) else 0) else 0) ≤ 1000
  split
  · split
    · exact hv _
    · omega
  · omega)
theorem plW_faI {e : Nat} (ht : t < 2 ^ mI (idv S) n) : plW S vt (opL (idv S) n) t e (mI (idv S) n) = faI S vt (pdn (idv S) n t) e n := by
  have q := opL_sum (v := idv S) (fun f => if S.1 4 f = nI e then vt f else 0) n t ht
  unfold plW faI
  rw [q]
  refine sN_ext (fun f _ => ?_)
  show (if idv S f = true ∧ _ then (if S.1 4 f = nI e then vt f else 0) else 0) = (if S.1 4 f = nI e ∧ S.1 55 f = -1 ∧ _ then vt f else 0)
  by_cases a : S.1 4 f = nI e
  · by_cases b : idv S f = true ∧ pdn (idv S) n t / 2 ^ f % 2 = 1
    · rw [if_pos b, if_pos a, if_pos ⟨a, idv_i.mp b.1, b.2⟩]
    · rw [if_neg b, if_neg (fun q => b ⟨idv_i.mpr q.2.1, q.2.2⟩)]
  · rw [if_neg (c := S.1 4 f = nI e ∧ _) (fun q => a q.1), if_neg a]
    split <;> rfl
/-- votes of a set come to a side, or go again -/
theorem m_add {a : Nat} {x3 x4 : Int32} {V : Nat → Nat → Nat} (L : LY8 h M) (kS : kq S (mv h M)) (W : WF S) (B : WB S) (m20 : m ≤ 20) (ht : t < 1048576) (ha : (x3 = 0 ∧ a = 64) ∨ (x3 = 1 ∧ a = 65)) (hop : ∀ j, j < m → ah_I h (M + 62) j = nI (op j) ∧ op j < nF S) (hvt : ∀ f, f < nF S → ah_J h (M + 66) f = lN (vt f)) (h0 : ∀ e, e < 6 → ah_J h (M + a) e = lN (V 0 e))
    (st : ∀ j, j < m → ∀ e, e < 6 → (t / 2 ^ j % 2 = 1 → S.1 4 (op j) = nI e → lN (V j e) + x4.toInt64 * lN (vt (op j)) = lN (V (j + 1) e)) ∧ (¬ (t / 2 ^ j % 2 = 1 ∧ S.1 4 (op j) = nI e) → V (j + 1) e = V j e)) (K : ∀ g, mch [a] [] M h g → (∀ e, e < 6 → ah_J g (M + a) e = lN (V m e)) → Q none g) : MX G mi_X8_add d 0 [some (rv M), some (iv (nI t)), some (iv (nI m)), some (iv x3), some (iv x4), none, none] [] h Q E := by
  have f20 := B.1
  have a0 : a ≠ 0 := by rcases ha with q | q <;> rw [q.2] <;> decide
  have aN : ∀ b, b ≠ 64 → b ≠ 65 → b ∉ [a] := fun b h1 h2 q => by
    have q : b = a := by simpa using q
    rcases ha with r | r <;> omega
  have mA : ∀ b, b ∈ mk_a → b ∉ [a] := fun b hb => aN b (fun q => absurd (q ▸ hb) (by decide)) (fun q => absurd (q ▸ hb) (by decide))
  refine v_X8_add L ?_
  refine mx_up (α := Unit) (fun j _ => [some (rv M), some (iv (nI t)), some (iv (nI m)), some (iv x3), some (iv x4), some (iv (nI j)), none]) m (fun j _ g => mch [a] [] M h g ∧ ∀ e, e < 6 → ah_J g (M + a) e = lN (V j e)) (fun j _ g hj hI KK => ?_) (fun _ g hI => ?_) 0 () h (Nat.zero_le _) ⟨mch.rf, h0⟩
  · obtain ⟨z, i1⟩ := hI
    have kg := kS.mc z mA (aN 0 (by decide) (by decide)) (fun k _ => by simp)
    obtain ⟨o1, o2⟩ := hop j hj
    have wf := W.2.1 (op j) o2
    obtain ⟨d1, d2⟩ := wf.1.u (a := 5)
    generalize hd0 : (S.1 4 (op j)).toNatClampNeg = d0 at d1 d2
    have bt := bit_1 (s := t) (k := j) (by omega) (by omega)
    have g62 : ah_I g (M + 62) j = nI (op j) := by rw [z.ar 62 (aN 62 (by decide) (by decide)) (by decide)]; exact o1
    have g66 : ah_J g (M + 66) (op j) = lN (vt (op j)) := by rw [z.arJ 66 (aN 66 (by decide) (by decide)) (by decide)]; exact hvt _ o2
    have nj : ∀ e, e < 6 → e ≠ d0 → ¬ S.1 4 (op j) = nI e := fun e he hn q => hn (by rw [d1, nI_eq (by omega) (by omega)] at q; exact q.symm)
    refine v_X8_add_3 (z.ly L) ⟨fun c => ?_, fun _ => ?_⟩
    · exfalso; rw [i3_le, nI_x (by omega), nI_x (by omega)] at c; omega
    rw [nI_clamp (n := j) (by omega), g62, nI_clamp (n := op j) (by omega), g66, kg.r 4 _ (by decide), hd0, nI_1]
    refine ⟨fun c => ?_, fun c => ?_⟩
    · have b1 : t / 2 ^ j % 2 = 1 := by
        have : t / 2 ^ j % 2 ≠ 0 := fun q => c (bt.2.mpr q)
        omega
      have fin : ∀ h7, h7 = ah_wJ g (M + a) d0 (ah_J g (M + a) d0 + x4.toInt64 * lN (vt (op j))) → MX G mi_X8_add d 3 [some (rv M), some (iv (nI t)), some (iv (nI m)), some (iv x3), some (iv x4), some (iv (nI (j + 1))), none] [] h7 Q E := fun h7 e7 => by
        refine KK () h7 ⟨by rw [e7]; exact z.wJ (by simp), fun e he => ?_⟩
        rw [e7, rd_JJ]
        by_cases q : e = d0
        · rw [if_pos ⟨rfl, q⟩, i1 d0 (by omega), q]
          exact (st j hj d0 (by omega)).1 b1 d1
        · rw [if_neg (fun r => q r.2), (st j hj e he).2 (fun r => nj e he q r.2)]; exact i1 e he
      have v6 : vp_in (S.1 4 (op j)) 6 := by rw [d1]; exact vp_in_nI (by omega) (by decide)
      refine ⟨vp_in_nI (by omega) (by decide), fun c3 => ⟨vp_in_nI (by omega) (by decide), v6, fun h7 e7 _ => ?_⟩, fun c3 => ⟨vp_in_nI (by omega) (by decide), v6, fun h10 e10 _ => ?_⟩⟩
      · rcases ha with r | r
        · rw [← r.2] at e7; exact fin h7 e7
        · rw [r.1] at c3; exact absurd c3 (by decide)
      · rcases ha with r | r
        · exact absurd r.1 c3
        · rw [← r.2] at e10; exact fin h10 e10
    · have b0 : t / 2 ^ j % 2 = 0 := bt.2.mp c
      refine KK () g ⟨z, fun e he => ?_⟩
      rw [(st j hj e he).2 (fun r => by omega)]; exact i1 e he
  · obtain ⟨z, i1⟩ := hI
    exact v_X8_add_3 (z.ly L) ⟨fun _ => K g z i1, fun c => absurd (by rw [i3_le]; exact Int.le_refl _) c⟩
theorem mbs_1 {m : Nat} {fl : Nat → Bool} (h : fl 0 = false) : mbs m fl 1 = none := by
  have st : mbs m fl 1 = if pcn 0 m < szo m none ∧ fl 0 = true then some 0 else none := rfl
  rw [st, if_neg]
  rintro ⟨-, q⟩
  rw [h] at q
  exact absurd q (by decide)
theorem one_l {a : Nat} : (1 : Int32).toInt64 * lN a = lN a := by
  rw [show (1 : Int32).toInt64 = 1 from by decide, Int64.one_mul]
theorem mone_l {a b : Nat} (h : b ≤ a) : lN a + (-1 : Int32).toInt64 * lN b = lN (a - b) := by
  rw [show (-1 : Int32).toInt64 = -1 from by decide, Int64.neg_mul, Int64.one_mul, ← Int64.sub_eq_add_neg, lN_sub h]
/-- the base of both sides, as they lie -/
def hgB (S : MS) (vt : Nat → Nat) (M : Nat) (g : ah_T) : Prop := ∀ e, e < 6 → ah_J g (M + 64) e = lN (fa0 S vt 1 e (nF S)) ∧ ah_J g (M + 65) e = lN (fa0 S vt 0 e (nF S))
theorem m_hangs89 (L : LY8 h M) (kS : kq S (mv h M)) (W : WF S) (B : WB S) (hop : ∀ j, j < mI (idv S) (nF S) → ah_I h (M + 62) j = nI (opL (idv S) (nF S) j)) (hvt : ∀ f, f < nF S → ah_J h (M + 66) f = lN (vtS S tx x f)) (b0 : hgB S (vtS S tx x) M h) (K : ∀ g, mch [64, 65] [] M h g → Q (some (iv (haV S tx x))) g) :
    MX G mi_X8_hangs (d + 2) 89 [some (rv M), none, some (iv (nwS S tx x)), some (iv (nI (mI (idv S) (nF S)))), some (iv (-1 : Int32)), some (iv (nI (mI (idv S) (nF S)) + 1)), some (iv (1 : Int32)), none] [] h Q E := by
  have f20 := B.1
  have hv : ∀ f, vtS S tx x f ≤ 1000 := fun f => vtS_v.2
  have ml := mI_le (v := idv S) (nF S)
  have eh : haV S tx x = bO ((mbs (mI (idv S) (nF S)) (fun t => flS S tx x (pdn (idv S) (nF S) t)) (2 ^ mI (idv S) (nF S))).map (pdn (idv S) (nF S))) := by
    unfold haV; rw [cbs_all]
  rw [eh] at K
  clear eh
  have ol : ∀ j, j < mI (idv S) (nF S) → opL (idv S) (nF S) j < nF S := fun j hj => (opL_lt _ j hj).1
  have pd : ∀ t, t < 2 ^ mI (idv S) (nF S) → ∀ e, plW S (vtS S tx x) (opL (idv S) (nF S)) t e (mI (idv S) (nF S)) = faI S (vtS S tx x) (pdn (idv S) (nF S) t) e (nF S) := fun t ht e => plW_faI ht
  have pz : pdn (idv S) (nF S) 0 = 0 := pdn_0 _
  have osl : ∀ t, t < 2 ^ mI (idv S) (nF S) → sN (fun j => t / 2 ^ j % 2 * 2 ^ opL (idv S) (nF S) j) (mI (idv S) (nF S)) = pdn (idv S) (nF S) t := fun t ht => opL_set _ t ht
  have olow : ∀ t j, j < mI (idv S) (nF S) → sN (fun i => t / 2 ^ i % 2 * 2 ^ opL (idv S) (nF S) i) j < 2 ^ opL (idv S) (nF S) j := fun t j hj => opL_low _ t j hj
  generalize mI (idv S) (nF S) = m at *
  generalize opL (idv S) (nF S) = op at *
  generalize pdn (idv S) (nF S) = pdf at *
  have m20 : m ≤ 20 := by omega
  have p2 := p2p m
  have p2b : 2 ^ m ≤ 1048576 := Nat.pow_le_pow_right (n := 2) (by decide) m20
  have nw := nwS_01 (S := S) (tx := tx) (x := x)
  have f0 : flS S tx x 0 = false := by
    unfold flS wzS
    simp only [faS_0]
    exact decide_eq_false (fun q => q rfl)
  have f00 : flS S tx x (pdf 0) = false := by rw [pz]; exact f0
  have m1 : mbs m (fun t => flS S tx x (pdf t)) 1 = none := mbs_1 (fl := fun t => flS S tx x (pdf t)) f00
  have e1 : nI m + 1 = nI (szo m (mbs m (fun t => flS S tx x (pdf t)) 1)) := by rw [m1, nI_1]; rfl
  have e2 : (-1 : Int32) = bO (mbs m (fun t => flS S tx x (pdf t)) 1) := by rw [m1]; rfl
  rw [e1]
  suffices HH : MX G mi_X8_hangs (d + 2) 89 [some (rv M), none, some (iv (nwS S tx x)), some (iv (nI m)), some (iv (bO (mbs m (fun t => flS S tx x (pdf t)) 1))), some (iv (nI (szo m (mbs m (fun t => flS S tx x (pdf t)) 1)))), some (iv (nI 1)), none] [] h Q E by
    rw [← e2] at HH; exact HH
  refine mx_up (α := Unit) (fun t _ => [some (rv M), none, some (iv (nwS S tx x)), some (iv (nI m)), some (iv (bO (mbs m (fun t => flS S tx x (pdf t)) t))), some (iv (nI (szo m (mbs m (fun t => flS S tx x (pdf t)) t)))), some (iv (nI t)), none]) (2 ^ m) (fun t _ g => mch [64, 65] [] M h g ∧ hgB S (vtS S tx x) M g) (fun t _ g ht hI KK => ?_) (fun _ g hI => ?_) 1 () h (by omega) ⟨mch.rf, b0⟩
  · obtain ⟨z, bg⟩ := hI
    have kg := kS.mc z (by decide) (by decide) (by decide)
    have t20 : t < 1048576 := by omega
    have szb : szo m (mbs m (fun t => flS S tx x (pdf t)) t) ≤ 21 := by
      unfold szo
      split
      · omega
      · have := pcn_le (s := ‹Nat›) m; omega
    have pcb := pcn_le (s := t) m
    have hop' : ∀ g', mch [64, 65] [] M h g' → ∀ j, j < m → ah_I g' (M + 62) j = nI (op j) ∧ op j < nF S := fun g' z' j hj => ⟨by rw [z'.ar 62 (by decide) (by decide)]; exact hop j hj, ol j hj⟩
    have hvt' : ∀ g', mch [64, 65] [] M h g' → ∀ f, f < nF S → ah_J g' (M + 66) f = lN (vtS S tx x f) := fun g' z' f hf => by rw [z'.arJ 66 (by decide) (by decide)]; exact hvt f hf
    have mstep : mbs m (fun t => flS S tx x (pdf t)) (t + 1) = if pcn t m < szo m (mbs m (fun t => flS S tx x (pdf t)) t) ∧ flS S tx x (pdf t) = true then some t else mbs m (fun t => flS S tx x (pdf t)) t := rfl
    refine v_X8_hangs_89 (z.ly L) ⟨fun c => ?_, fun _ => ?_⟩
    · exfalso; rw [sh1 m (by omega), i3_le, nI_x (by omega), nI_x (by omega)] at c; omega
    have ib : iBits (nI t) = nI (pcn t m) := by rw [iBits_n t20, pcn_cut ht m20]
    rw [ib, nI_1, i3_lt, nI_x (by omega), nI_x (by omega)]
    refine ⟨fun c => ?_, fun c => ?_⟩
    · have c : pcn t m < szo m (mbs m (fun t => flS S tx x (pdf t)) t) := by omega
      have b1 : ∀ c' e, fa0 S (vtS S tx x) c' e (nF S) ≤ 20000 := fun c' e => by
        have := fa0_b (S := S) (n := nF S) (c := c') (d := e) hv; omega
      have b2 : ∀ e, faI S (vtS S tx x) (pdf t) e (nF S) ≤ 20000 := fun e => by
        have := faI_b (S := S) (s := pdf t) (n := nF S) (d := e) hv; omega
      -- the side that the set comes to
      have side : ∃ a cc, ((nwS S tx x = 0 ∧ a = 64 ∧ cc = (1 : Int32)) ∨ (nwS S tx x = 1 ∧ a = 65 ∧ cc = (0 : Int32))) := by
        rcases nw with q | q
        · exact ⟨64, 1, Or.inl ⟨q, rfl, rfl⟩⟩
        · exact ⟨65, 0, Or.inr ⟨q, rfl, rfl⟩⟩
      obtain ⟨a, cc, hs⟩ := side
      have ha : (nwS S tx x = 0 ∧ a = 64) ∨ (nwS S tx x = 1 ∧ a = 65) := by
        rcases hs with q | q
        · exact Or.inl ⟨q.1, q.2.1⟩
        · exact Or.inr ⟨q.1, q.2.1⟩
      have hb : ∀ g', hgB S (vtS S tx x) M g' → ∀ e, e < 6 → ah_J g' (M + a) e = lN (fa0 S (vtS S tx x) cc e (nF S)) := fun g' q e he => by
        rcases hs with r | r
        · rw [r.2.1, r.2.2]; exact (q e he).1
        · rw [r.2.1, r.2.2]; exact (q e he).2
      have aA : ∀ b, b ∈ [a] → b ∈ [64, 65] := fun b hb => by
        have : b = a := by simpa using hb
        rcases ha with q | q <;> rw [this, q.2] <;> decide
      have wy : wyS S tx x = cc := by
        unfold wyS
        rcases hs with r | r
        · rw [if_pos r.1, r.2.2]
        · rw [if_neg (by rw [r.1]; decide), r.2.2]
      -- the whole with the set
      have wz : ∀ F A : Nat → Nat, (∀ e, e < 6 → F e = fa0 S (vtS S tx x) 1 e (nF S) + (if cc = 1 then faI S (vtS S tx x) (pdf t) e (nF S) else 0) ∧ A e = fa0 S (vtS S tx x) 0 e (nF S) + (if cc = 0 then faI S (vtS S tx x) (pdf t) e (nF S) else 0)) → whI F A 6 = wzS S tx x (pdf t) := fun F A q => by
        unfold wzS
        refine whI_cg 6 (fun e he => ⟨?_, ?_⟩)
        · rw [(q e he).1]; show _ = faS S (vtS S tx x) (pdf t) (wyS S tx x) 1 e (nF S); rw [wy]; rfl
        · rw [(q e he).2]; show _ = faS S (vtS S tx x) (pdf t) (wyS S tx x) 0 e (nF S); rw [wy]; rfl
      -- it comes
      refine m_add (a := a) (op := op) (vt := vtS S tx x) (V := fun j e => fa0 S (vtS S tx x) cc e (nF S) + plW S (vtS S tx x) op t e j) (z.ly L) kg W B m20 t20 ha (hop' g z) (hvt' g z) (hb g bg) (fun j hj e he => ⟨fun q1 q2 => ?_, fun q => ?_⟩) (fun g4 z4 i4 => ?_)
      · rw [one_l, lN_add]
        show _ = lN (fa0 S (vtS S tx x) cc e (nF S) + (plW S (vtS S tx x) op t e j + (if t / 2 ^ j % 2 = 1 then (if S.1 4 (op j) = nI e then vtS S tx x (op j) else 0) else 0)))
        rw [if_pos q1, if_pos q2, Nat.add_assoc]
      · show fa0 S (vtS S tx x) cc e (nF S) + (plW S (vtS S tx x) op t e j + (if t / 2 ^ j % 2 = 1 then (if S.1 4 (op j) = nI e then vtS S tx x (op j) else 0) else 0)) = fa0 S (vtS S tx x) cc e (nF S) + plW S (vtS S tx x) op t e j
        by_cases q1 : t / 2 ^ j % 2 = 1
        · rw [if_pos q1, if_neg (fun q2 => q ⟨q1, q2⟩)]; rfl
        · rw [if_neg q1]; rfl
      intro _
      have y4 : mch [64, 65] [] M h g4 := z.tr (z4.mono aA (fun _ q => q))
      have i4 : ∀ e, e < 6 → ah_J g4 (M + a) e = lN (fa0 S (vtS S tx x) cc e (nF S) + faI S (vtS S tx x) (pdf t) e (nF S)) := fun e he => by
        have := i4 e he
        rw [pd t ht e] at this; exact this
      have o4 : ∀ b, b ≠ a → (b = 64 ∨ b = 65) → ∀ e, ah_J g4 (M + b) e = ah_J g (M + b) e := fun b hb hb2 e => z4.arJ b (by simpa using hb) (by omega) e
      have hF : ∀ e, e < 6 → ah_J g4 (M + 64) e = lN (fa0 S (vtS S tx x) 1 e (nF S) + (if cc = 1 then faI S (vtS S tx x) (pdf t) e (nF S) else 0)) ∧ ah_J g4 (M + 65) e = lN (fa0 S (vtS S tx x) 0 e (nF S) + (if cc = 0 then faI S (vtS S tx x) (pdf t) e (nF S) else 0)) := fun e he => by
        rcases hs with r | r
        · have := i4 e he
          rw [r.2.1] at this
          rw [this, o4 65 (by omega) (Or.inr rfl), (bg e he).2, r.2.2]
          exact ⟨rfl, rfl⟩
        · have := i4 e he
          rw [r.2.1] at this
          rw [this, o4 64 (by omega) (Or.inl rfl), (bg e he).1, r.2.2]
          exact ⟨rfl, rfl⟩
      refine m_isFor (F := fun e => fa0 S (vtS S tx x) 1 e (nF S) + (if cc = 1 then faI S (vtS S tx x) (pdf t) e (nF S) else 0)) (A := fun e => fa0 S (vtS S tx x) 0 e (nF S) + (if cc = 0 then faI S (vtS S tx x) (pdf t) e (nF S) else 0)) (y4.ly L) hF (fun e _ => ?_) ?_
      · have u1 := b1 1 e
        have u0 := b1 0 e
        have u2 := b2 e
        refine ⟨?_, ?_⟩
        · show _ + (if cc = 1 then _ else 0) < _
          split <;> omega
        · show _ + (if cc = 0 then _ else 0) < _
          split <;> omega
      intro _
      rw [wz _ _ (fun e _ => ⟨rfl, rfl⟩)]
      -- it goes again
      have back : ∀ o sz, (∀ g9, mch [64, 65] [] M h g9 → hgB S (vtS S tx x) M g9 → MX G mi_X8_hangs (d + 2) 89 [some (rv M), none, some (iv (nwS S tx x)), some (iv (nI m)), some (iv o), some (iv sz), some (iv (nI (t + 1))), none] [] g9 Q E) → MX G mi_X8_add (d + 1) 0 [some (rv M), some (iv (nI t)), some (iv (nI m)), some (iv (nwS S tx x)), some (iv (-1 : Int32)), none, none] [] g4 (Qv fun h9 => ah_ext g4 h9 → MX G mi_X8_hangs (d + 2) 89 [some (rv M), none, some (iv (nwS S tx x)), some (iv (nI m)), some (iv o), some (iv sz), some (iv (nI (t + 1))), none] [] h9 Q E) E := fun o sz K9 => by
        have k4 := kS.mc y4 (by decide) (by decide) (by decide)
        have pl : ∀ e j, j ≤ m → plW S (vtS S tx x) op t e j ≤ faI S (vtS S tx x) (pdf t) e (nF S) := fun e j hj => by
          rw [← pd t ht e]; exact sN_up hj
        refine m_add (a := a) (op := op) (vt := vtS S tx x) (V := fun j e => fa0 S (vtS S tx x) cc e (nF S) + faI S (vtS S tx x) (pdf t) e (nF S) - plW S (vtS S tx x) op t e j) (y4.ly L) k4 W B m20 t20 ha (hop' g4 y4) (hvt' g4 y4) (fun e he => i4 e he) (fun j hj e he => ⟨fun q1 q2 => ?_, fun q => ?_⟩) (fun g9 z9 i9 => ?_)
        · have p1 := pl e (j + 1) (by omega)
          have es : plW S (vtS S tx x) op t e (j + 1) = plW S (vtS S tx x) op t e j + vtS S tx x (op j) := by
            show plW S (vtS S tx x) op t e j + (if t / 2 ^ j % 2 = 1 then (if S.1 4 (op j) = nI e then vtS S tx x (op j) else 0) else 0) = _
            rw [if_pos q1, if_pos q2]
          show lN (_ - plW S (vtS S tx x) op t e j) + _ = lN (_ - plW S (vtS S tx x) op t e (j + 1))
          rw [es] at p1 ⊢
          rw [mone_l (by omega), Nat.sub_sub]
        · have es : plW S (vtS S tx x) op t e (j + 1) = plW S (vtS S tx x) op t e j := by
            show plW S (vtS S tx x) op t e j + (if t / 2 ^ j % 2 = 1 then (if S.1 4 (op j) = nI e then vtS S tx x (op j) else 0) else 0) = _
            by_cases q1 : t / 2 ^ j % 2 = 1
            · rw [if_pos q1, if_neg (fun q2 => q ⟨q1, q2⟩)]; rfl
            · rw [if_neg q1]; rfl
          show _ - plW S (vtS S tx x) op t e (j + 1) = _ - plW S (vtS S tx x) op t e j
          rw [es]
        intro _
        have y9 : mch [64, 65] [] M h g9 := y4.tr (z9.mono aA (fun _ q => q))
        refine K9 g9 y9 (fun e he => ?_)
        have i9 : ah_J g9 (M + a) e = lN (fa0 S (vtS S tx x) cc e (nF S)) := by
          have := i9 e he
          rw [pd t ht e, Nat.add_sub_cancel] at this; exact this
        have o9 : ∀ b, b ≠ a → (b = 64 ∨ b = 65) → ah_J g9 (M + b) e = ah_J g (M + b) e := fun b hb hb2 => (z9.arJ b (by simpa using hb) (by omega) e).trans (o4 b hb hb2 e)
        rcases hs with r | r
        · rw [r.2.1, r.2.2] at i9
          rw [i9, o9 65 (by omega) (Or.inr rfl), (bg e he).2]; exact ⟨rfl, rfl⟩
        · rw [r.2.1, r.2.2] at i9
          rw [i9, o9 64 (by omega) (Or.inl rfl), (bg e he).1]; exact ⟨rfl, rfl⟩
      refine ⟨fun c7 => back _ _ (fun g9 y9 b9 => ?_), fun c7 => back _ _ (fun g9 y9 b9 => ?_)⟩
      · have kk := KK () g9 ⟨y9, b9⟩
        rw [mstep, if_neg (fun q => (of_decide_eq_true q.2) c7)] at kk
        exact kk
      · have kk := KK () g9 ⟨y9, b9⟩
        rw [mstep, if_pos ⟨c, decide_eq_true c7⟩] at kk
        exact kk
    · have kk := KK () g ⟨z, bg⟩
      rw [mstep, if_neg (fun q => c (by have := q.1; omega))] at kk
      exact kk
  · obtain ⟨z, bg⟩ := hI
    refine v_X8_hangs_89 (z.ly L) ⟨fun _ => ?_, fun c => absurd (by rw [sh1 m (by omega), i3_le]; exact Int.le_refl _) c⟩
    cases eo : mbs m (fun t => flS S tx x (pdf t)) (2 ^ m) with
    | none =>
      rw [eo] at K
      exact ⟨fun c => absurd c (by show ¬ (0 : Int32) ≤ -1; decide), fun _ => K g z⟩
    | some t =>
      have tl := mbs_lt _ t eo
      rw [eo] at K
      have K : ∀ g, mch [64, 65] [] M h g → Q (some (iv (nI (pdf t)))) g := K
      refine ⟨fun _ => ?_, fun c => absurd (by show (0 : Int32) ≤ nI t; rw [i3_le, nI_x (by omega)]; show (0 : Int) ≤ _; omega) c⟩
      show MX G mi_X8_hangs (d + 2) 166 [some (rv M), none, none, some (iv (nI m)), some (iv (nI t)), none, some (iv (0 : Int32)), some (iv (0 : Int32))] [] g Q E
      refine mx_up (α := Unit) (fun k _ => [some (rv M), none, none, some (iv (nI m)), some (iv (nI t)), none, some (iv (nI (sN (fun j => t / 2 ^ j % 2 * 2 ^ op j) k))), some (iv (nI k))]) m (fun k _ g' => g' = g) (fun k _ g' hk e KK => ?_) (fun _ g' e => ?_) 0 () g (Nat.zero_le _) rfl
      · subst e
        have o1 := ol k hk
        have lo := olow t k hk
        have p3 : 2 ^ op k ≤ 524288 := Nat.pow_le_pow_right (n := 2) (j := 19) (by decide) (by omega)
        have g62 : ah_I g' (M + 62) k = nI (op k) := by rw [z.ar 62 (by decide) (by decide)]; exact hop k hk
        have b2 : t / 2 ^ k % 2 < 2 := Nat.mod_lt _ (by decide)
        have pb : t / 2 ^ k % 2 * 2 ^ op k ≤ 1 * 2 ^ op k := Nat.mul_le_mul_right _ (by omega)
        refine v_X8_hangs_166 (z.ly L) ⟨fun c => ?_, fun _ => ⟨vp_in_nI (by omega) (by decide), ?_⟩⟩
        · exfalso; rw [i3_le, nI_x (by omega), nI_x (by omega)] at c; omega
        have es : nI (t / 2 ^ k % 2) <<< (nI (op k) &&& 31) = nI (t / 2 ^ k % 2 * 2 ^ op k) := pk_shlN _ (op k) (sh31 (op k) (by omega)) (by omega)
        rw [nI_clamp (n := k) (by omega), g62, bit_n (by omega) (by omega), es, nI_or (by omega) (by omega), or_low lo b2, nI_1]
        exact KK () g' rfl
      · subst e
        refine v_X8_hangs_166 (z.ly L) ⟨fun _ => ?_, fun c => absurd (by rw [i3_le]; exact Int.le_refl _) c⟩
        rw [osl t tl]; exact K g' z
theorem m_hangs38 (L : LY8 h M) (kS : kq S (mv h M)) (W : WF S) (B : WB S) (hvt : ∀ f, f < nF S → ah_J h (M + 66) f = lN (vtS S tx x f)) (b0 : hgB S (vtS S tx x) M h) (K : ∀ g, mch [62, 64, 65] [] M h g → Q (some (iv (haV S tx x))) g) :
    MX G mi_X8_hangs (d + 2) 38 [some (rv M), none, some (iv (nwS S tx x)), some (iv (0 : Int32)), some (iv (0 : Int32)), none, none, none] [] h Q E := by
  have f20 := B.1
  refine mx_up (α := Unit) (fun f _ => [some (rv M), none, some (iv (nwS S tx x)), some (iv (nI (mI (idv S) f))), some (iv (nI f)), none, none, none]) (nF S) (fun f _ g => mch [62] [] M h g ∧ ∀ j, j < mI (idv S) f → ah_I g (M + 62) j = nI (opL (idv S) f j)) (fun f _ g hf hI KK => ?_) (fun _ g hI => ?_) 0 () h (Nat.zero_le _) ⟨mch.rf, fun j hj => by have hj : j < 0 := hj; omega⟩
  · obtain ⟨z, i1⟩ := hI
    have kg := kS.mc z (by decide) (by decide) (by decide)
    have iFm : ah_I g M 5 = nI (nF S) := (kg.z 5 (by decide) (by decide)).trans W.1.1
    have ml := mI_le (v := idv S) f
    have sm : mI (idv S) (f + 1) = if idv S f then mI (idv S) f + 1 else mI (idv S) f := rfl
    have so : opL (idv S) (f + 1) = if idv S f then pwr (opL (idv S) f) (mI (idv S) f) f else opL (idv S) f := rfl
    refine v_X8_hangs_38 (z.ly L) ⟨fun c => ?_, fun _ => ?_⟩
    · exfalso; rw [iFm, i3_le, nI_x (by omega), nI_x (by omega)] at c; omega
    rw [nI_clamp (n := f) (by omega), kg.r 55 _ (by decide), nI_clamp (n := mI (idv S) f) (by omega), nI_1, nI_1]
    refine ⟨vp_in_nI (by omega) (by decide), fun c => ⟨vp_in_nI (by omega) (by decide), fun h5 e5 _ => ?_⟩, fun c => ?_⟩
    · rw [if_pos (idv_i.mpr c)] at sm so
      have kk := KK () h5
      rw [sm, so] at kk
      refine kk ⟨by rw [e5]; exact z.wI (by decide), fun j hj => ?_⟩
      rw [e5, rd_II]
      by_cases q : j = mI (idv S) f
      · rw [if_pos ⟨rfl, q⟩, q, pw_s]
      · rw [if_neg (fun r => q r.2), pw_n q]; exact i1 j (by omega)
    · rw [if_neg (fun q => c (idv_i.mp q))] at sm so
      have kk := KK () g
      rw [sm, so] at kk
      exact kk ⟨z, i1⟩
  · obtain ⟨z, i1⟩ := hI
    have kg := kS.mc z (by decide) (by decide) (by decide)
    have iFm : ah_I g M 5 = nI (nF S) := (kg.z 5 (by decide) (by decide)).trans W.1.1
    refine v_X8_hangs_38 (z.ly L) ⟨fun _ => ?_, fun c => absurd (by rw [iFm, i3_le]; exact Int.le_refl _) c⟩
    exact m_hangs89 (z.ly L) kg W B i1 (fun f hf => by rw [z.arJ 66 (by decide) (by decide)]; exact hvt f hf) (fun e he => by rw [z.arJ 64 (by decide) (by decide), z.arJ 65 (by decide) (by decide)]; exact b0 e he) (fun g2 z2 => K g2 ((z.mono (by decide) (by decide)).tr (z2.mono (by decide) (by decide))))
end

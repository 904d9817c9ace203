/-! ===== hangs: the class ===== -/
def nwS (S : MS) (tx : Nat → List Nat × List PD) (x : Int32) : Int32 := if whI (fun d => fa0 S (vtS S tx x) 1 d (nF S)) (fun d => fa0 S (vtS S tx x) 0 d (nF S)) 6 ≤ 0 then 0 else 1
def wyS (S : MS) (tx : Nat → List Nat × List PD) (x : Int32) : Int32 := if nwS S tx x = 0 then 1 else 0
def wzS (S : MS) (tx : Nat → List Nat × List PD) (x : Int32) (s : Nat) : Int := whI (fun d => faS S (vtS S tx x) s (wyS S tx x) 1 d (nF S)) (fun d => faS S (vtS S tx x) s (wyS S tx x) 0 d (nF S)) 6
def flS (S : MS) (tx : Nat → List Nat × List PD) (x : Int32) (s : Nat) : Bool := decide ((if wzS S tx x s ≤ 0 then (0 : Int32) else 1) ≠ nwS S tx x)
def bO (o : Option Nat) : Int32 := match o with
  | none => -1
  | some b => nI b
def haV (S : MS) (tx : Nat → List Nat × List PD) (x : Int32) : Int32 := bO (cbs (idv S) (nF S) (flS S tx x) (idl (idv S) (nF S) + 1))
section
variable {G : ma_G} {d X M n s : Nat} {h g g2 : ah_T} {S : MS} {tx : Nat → List Nat × List PD} {x : Int32} {vt : Nat → Nat} {w : Int32} {Q : Option ma_V → ah_T → Prop} {E : Nat → ah_T → Prop} {v : Nat → Bool}
theorem nwS_01 : nwS S tx x = 0 ∨ nwS S tx x = 1 := by unfold nwS; split <;> simp
theorem wyS_01 : wyS S tx x = 0 ∨ wyS S tx x = 1 := by unfold wyS; split <;> simp
theorem idv_i {f : Nat} : idv S f = true ↔ S.1 55 f = -1 := by unfold idv; exact decide_eq_true_iff
theorem p20 {n s : Nat} (hn : n ≤ 20) (h : s < 2 ^ n) : s < 1048576 := Nat.lt_of_lt_of_le h (Nat.pow_le_pow_right (by decide) hn)
/-- none outside a set -/
theorem andn {s t n : Nat} (hn : n ≤ 20) (hs : s < 2 ^ n) (ht : t < 2 ^ n) : (nI s &&& (nI t ^^^ (-1 : Int32))) = 0 ↔ ∀ k, k < n → t / 2 ^ k % 2 = 0 → s / 2 ^ k % 2 = 0 := by
  have s0 := p20 hn hs
  have t0 := p20 hn ht
  have e1 : (nI s &&& (nI t ^^^ (-1 : Int32))) = 0 ↔ nI s &&& nI t = nI s := by
    rw [← Int32.toBitVec_inj, ← Int32.toBitVec_inj]
    show (nI s).toBitVec &&& ((nI t).toBitVec ^^^ (-1 : Int32).toBitVec) = (0 : Int32).toBitVec ↔ (nI s).toBitVec &&& (nI t).toBitVec = (nI s).toBitVec
    generalize (nI s).toBitVec = p
    generalize (nI t).toBitVec = q
    have a1 : (-1 : Int32).toBitVec = BitVec.allOnes 32 := by decide
    have a0 : (0 : Int32).toBitVec = 0#32 := by decide
    rw [a1, a0]
    constructor
    · intro w
      apply BitVec.eq_of_getLsbD_eq
      intro i hi
      have w : (p &&& (q ^^^ BitVec.allOnes 32)).getLsbD i = (0#32).getLsbD i := by rw [w]
      rw [BitVec.getLsbD_and, BitVec.getLsbD_xor, BitVec.getLsbD_allOnes, BitVec.getLsbD_zero, decide_eq_true hi] at w
      rw [BitVec.getLsbD_and]
      revert w
      generalize p.getLsbD i = a
      generalize q.getLsbD i = b
      revert a b
      decide
    · intro w
      apply BitVec.eq_of_getLsbD_eq
      intro i hi
      have w : (p &&& q).getLsbD i = p.getLsbD i := by rw [w]
      rw [BitVec.getLsbD_and] at w
      rw [BitVec.getLsbD_and, BitVec.getLsbD_xor, BitVec.getLsbD_allOnes, BitVec.getLsbD_zero, decide_eq_true hi]
      revert w
      generalize p.getLsbD i = a
      generalize q.getLsbD i = b
      revert a b
      decide
  have a := Nat.and_le_left (n := s) (m := t)
  rw [e1, nI_and (by omega) (by omega), nI_eq (by omega) (by omega)]
  have tb : ∀ (y k : Nat), y.testBit k = decide (y / 2 ^ k % 2 = 1) := fun y k => Nat.testBit_eq_decide_div_mod_eq
  constructor
  · intro w k hk z
    have w : (s &&& t).testBit k = s.testBit k := by rw [w]
    rw [Nat.testBit_and, tb, tb] at w
    have b : s / 2 ^ k % 2 = 0 ∨ s / 2 ^ k % 2 = 1 := by omega
    rcases b with b | b
    · exact b
    · rw [b, z] at w; exact absurd w (by decide)
  · intro w
    apply Nat.eq_of_testBit_eq
    intro k
    rw [Nat.testBit_and, tb, tb]
    by_cases hk : k < n
    · have w := w k hk
      have b : s / 2 ^ k % 2 = 0 ∨ s / 2 ^ k % 2 = 1 := by omega
      have c : t / 2 ^ k % 2 = 0 ∨ t / 2 ^ k % 2 = 1 := by omega
      rcases b with b | b <;> rcases c with c | c
      · rw [b, c]; rfl
      · rw [b, c]; rfl
      · rw [w c] at b; exact absurd b (by decide)
      · rw [b, c]; rfl
    · rw [bit_hi hs (by omega)]; rfl
theorem cbs_step {fl : Nat → Bool} : cbs v n fl (s + 1) = if (∀ k, k < n → ¬ v k → s / 2 ^ k % 2 = 0) ∧ pcn s n < szo n (cbs v n fl s) ∧ fl s = true then some s else cbs v n fl s := rfl
theorem bO_n {o : Option Nat} {m : Nat} (hm : m < 2147483648) (h : ∀ b, o = some b → b < m) : bO o = -1 ↔ o = none := by
  cases o with
  | none => exact ⟨fun _ => rfl, fun _ => rfl⟩
  | some b =>
    have := h b rfl
    refine ⟨fun q => ?_, fun q => (op_sn q).elim⟩
    have q : nI b = -1 := q
    rw [i3_eq, nI_x (by omega)] at q
    have q : (b : Int) = -1 := q
    omega
theorem c_hangs84 (L : LY0 h X) (C : CI0 h X S) (wt : ∀ f, f < nF S → ah_I h (X + 1449) f = nI (vtS S tx x f)) (K : ∀ g, ifr [X + 1450] h g → ∀ h2, h2 = ah_wI g X 20 0 → Q (some (iv (haV S tx x))) h2) : MX G mi_X0_hangs (d + 1) 84 [some (rv X), none, some (iv (nwS S tx x)), some (iv (nI (idl (idv S) (nF S)))), some (iv (-1 : Int32)), some (iv (0 : Int32))] [] h Q E := by
  have f20 := C.iF.2
  have hv : ∀ f, vtS S tx x f ≤ 1000 := fun f => vtS_v.2
  have il := idl_lt (v := idv S) (nF S)
  have il20 := p20 f20 il
  have nw := nwS_01 (S := S) (tx := tx) (x := x)
  refine mx_up (α := Unit) (fun s _ => [some (rv X), none, some (iv (nwS S tx x)), some (iv (nI (idl (idv S) (nF S)))), some (iv (bO (cbs (idv S) (nF S) (flS S tx x) s))), some (iv (nI s))]) (idl (idv S) (nF S) + 1) (fun s _ g => ifr [X + 1450] h g) (fun s _ g hs z KK => ?_) (fun _ g z => ?_) 0 () h (Nat.zero_le _) ifr.rf
  · have Lg := z.qv.ly L
    have Cg := C.qf L z.qv
    have wg : ∀ f, f < nF S → ah_I g (X + 1449) f = nI (vtS S tx x f) := fun f hf => by rw [z.2.2 _ _ (by simp)]; exact wt f hf
    have s1 : s < 2 ^ nF S := by omega
    have s20 := p20 f20 s1
    have bl : ∀ b, cbs (idv S) (nF S) (flS S tx x) s = some b → b < s := fun b q => cbs_lt s b q
    have bn := bO_n (m := s) (by omega) bl
    have kk := fun g3 (z3 : ifr [X + 1450] h g3) => KK () g3 z3
    have same : ∀ g3, ifr [X + 1450] h g3 → ¬ ((∀ k, k < nF S → ¬ idv S k → s / 2 ^ k % 2 = 0) ∧ pcn s (nF S) < szo (nF S) (cbs (idv S) (nF S) (flS S tx x) s) ∧ flS S tx x s = true) → MX G mi_X0_hangs (d + 1) 84 [some (rv X), none, some (iv (nwS S tx x)), some (iv (nI (idl (idv S) (nF S)))), some (iv (bO (cbs (idv S) (nF S) (flS S tx x) s))), some (iv (nI (s + 1)))] [] g3 Q E := fun g3 z3 c => by
      have k3 := kk g3 z3
      rw [cbs_step, if_neg c] at k3
      exact k3
    have sub : (nI s &&& (nI (idl (idv S) (nF S)) ^^^ (-1 : Int32))) = 0 ↔ ∀ k, k < nF S → ¬ idv S k → s / 2 ^ k % 2 = 0 := by
      rw [andn f20 s1 il]
      constructor
      · intro w k hk hq
        exact w k hk (by rw [idl_bit _ k hk, if_neg hq])
      · intro w k hk hq
        refine w k hk (fun q => ?_)
        rw [idl_bit _ k hk, if_pos q] at hq
        exact absurd hq (by decide)
    refine v_X0_hangs_84 Lg ⟨fun c => ?_, fun _ => ?_⟩
    · exfalso; rw [i3_lt, nI_x (by omega), nI_x (by omega)] at c; omega
    rw [nI_1]
    refine ⟨fun c => ?_, fun c => ?_⟩
    · exact same g z (fun q => c (sub.mpr q.1))
    · have sb := sub.mp c
      -- the set is tried
      have try_ : pcn s (nF S) < szo (nF S) (cbs (idv S) (nF S) (flS S tx x) s) → ∀ z0, z0 = wyS S tx x → MX G mi_X0_hangs (d + 1) 133 [some (rv X), none, some (iv (nwS S tx x)), some (iv (nI (idl (idv S) (nF S)))), some (iv (bO (cbs (idv S) (nF S) (flS S tx x) s))), some (iv (nI s))] [iv z0, iv (nI s), rv X] g Q E := fun sz z0 hz => by
        subst hz
        refine v_X0_hangs_133 Lg ?_
        refine c_wholeFor (vt := vtS S tx x) Lg Cg hv wg s20 wyS_01 (fun g3 r z3 i3 hr => ?_)
        intro _
        have z4 := z.tr z3
        have hr : r.toInt = wzS S tx x s := hr
        rw [i3_le, hr, nI_1]
        have take : (if wzS S tx x s ≤ 0 then (0 : Int32) else 1) ≠ nwS S tx x → MX G mi_X0_hangs (d + 1) 84 [some (rv X), none, some (iv (nwS S tx x)), some (iv (nI (idl (idv S) (nF S)))), some (iv (nI s)), some (iv (nI (s + 1)))] [] g3 Q E := fun q => by
          have k3 := kk g3 z4
          rw [cbs_step, if_pos ⟨sb, sz, decide_eq_true q⟩] at k3
          exact k3
        have keep : (if wzS S tx x s ≤ 0 then (0 : Int32) else 1) = nwS S tx x → MX G mi_X0_hangs (d + 1) 84 [some (rv X), none, some (iv (nwS S tx x)), some (iv (nI (idl (idv S) (nF S)))), some (iv (bO (cbs (idv S) (nF S) (flS S tx x) s))), some (iv (nI (s + 1)))] [] g3 Q E := fun q => same g3 z4 (fun w => (of_decide_eq_true w.2.2) q)
        refine ⟨fun c => ⟨fun c2 => keep ?_, fun c2 => take ?_⟩, fun c => ⟨fun c2 => keep ?_, fun c2 => take ?_⟩⟩
        · rw [if_pos (show wzS S tx x s ≤ 0 from c)]; exact c2
        · rw [if_pos (show wzS S tx x s ≤ 0 from c)]; exact c2
        · rw [if_neg (show ¬ wzS S tx x s ≤ 0 from c)]; exact c2
        · rw [if_neg (show ¬ wzS S tx x s ≤ 0 from c)]; exact c2
      have w0 : nwS S tx x = 0 → (1 : Int32) = wyS S tx x := fun q => by unfold wyS; rw [if_pos q]
      have w1 : ¬ nwS S tx x = 0 → (0 : Int32) = wyS S tx x := fun q => by unfold wyS; rw [if_neg q]
      refine ⟨fun c4 => ?_, fun c4 => ⟨fun c5 => ?_, fun c5 => ?_⟩⟩
      · have sz : pcn s (nF S) < szo (nF S) (cbs (idv S) (nF S) (flS S tx x) s) := by
          rw [bn.mp c4]; exact Nat.lt_succ_of_le (pcn_le _)
        exact ⟨fun q => try_ sz _ (w0 q), fun q => try_ sz _ (w1 q)⟩
      all_goals
        cases eo : cbs (idv S) (nF S) (flS S tx x) s with
        | none => exact absurd (bn.mpr eo) c4
        | some b =>
          have b1 := bl b eo
          have cc : (iBits (nI s) < iBits (bO (cbs (idv S) (nF S) (flS S tx x) s))) ↔ pcn s (nF S) < szo (nF S) (cbs (idv S) (nF S) (flS S tx x) s) := by
            rw [eo]
            show iBits (nI s) < iBits (nI b) ↔ pcn s (nF S) < pcn b (nF S)
            have p1 := pcn_le (s := s) 20
            have p2 := pcn_le (s := b) 20
            rw [iBits_n s20, iBits_n (by omega), i3_lt, nI_x (by omega), nI_x (by omega), pcn_cut s1 f20, pcn_cut (show b < 2 ^ nF S by omega) f20]
            omega
          rw [← eo]
          first
            | exact ⟨fun q => try_ (cc.mp c5) _ (w0 q), fun q => try_ (cc.mp c5) _ (w1 q)⟩
            | exact same g z (fun q => c5 (cc.mpr q.2.1))
  · refine v_X0_hangs_84 (z.qv.ly L) ⟨fun _ h2 e2 _ => K g z h2 e2, fun c => absurd ?_ c⟩
    rw [i3_lt, nI_x (by omega), nI_x (by omega)]; omega
theorem c_hangs38 (L : LY0 h X) (C : CI0 h X S) (wt : ∀ f, f < nF S → ah_I h (X + 1449) f = nI (vtS S tx x f)) (K : ∀ g, ifr [X + 1450] h g → ∀ h2, h2 = ah_wI g X 20 0 → Q (some (iv (haV S tx x))) h2) : MX G mi_X0_hangs (d + 1) 38 [some (rv X), none, some (iv (nwS S tx x)), some (iv (0 : Int32)), some (iv (0 : Int32)), none] [] h Q E := by
  have f20 := C.iF.2
  refine mx_up (α := Unit) (fun f _ => [some (rv X), none, some (iv (nwS S tx x)), some (iv (nI (idl (idv S) f))), some (iv (nI f)), none]) (nF S) (fun f _ g => g = h) (fun f _ g hf e KK => ?_) (fun _ g e => ?_) 0 () h (Nat.zero_le _) rfl
  · subst e
    have kk := KK () g rfl
    have il := idl_lt (v := idv S) f
    have p2 : 2 ^ f < 1048576 := p20 (n := f + 1) (by omega) (by rw [p2s]; have := p2p f; omega)
    obtain ⟨f1, f2, f3, f4, f5, f6, f7, f8, f9, f10, f11, f12, f13⟩ := (C.2.1.2 f (by omega)).1 hf
    refine v_X0_hangs_38 L ⟨fun c => ?_, fun _ => ?_⟩
    · exfalso; rw [C.iF.1, i3_le, nI_x (by omega), nI_x (by omega)] at c; omega
    rw [nI_clamp (n := f) (by omega), f12, nI_1]
    have st : idl (idv S) (f + 1) = if idv S f then idl (idv S) f + 2 ^ f else idl (idv S) f := rfl
    refine ⟨vp_in_nI (by omega) (by decide), f2, fun c => ?_, fun c => ?_⟩
    · rw [if_neg (fun q => c (idv_i.mp q))] at st
      rw [st] at kk
      rw [Int32.or_zero]; exact kk
    · rw [if_pos (idv_i.mpr c)] at st
      have e : nI (idl (idv S) f) ||| (1 : Int32) <<< (nI f &&& 31) = nI (idl (idv S) f + 2 ^ f) := by
        have q := or_low (b := 1) il (by decide)
        rw [Nat.one_mul] at q
        rw [sh1 f (by omega), nI_or (by omega) (by omega), q]
      rw [e, ← st]; exact kk
  · subst e
    refine v_X0_hangs_38 L ⟨fun _ => ?_, fun c => absurd (by rw [C.iF.1, i3_le]; exact Int.le_refl _) c⟩
    exact c_hangs84 L C wt K
end

/-! ===== acts: what the model asks of a token ===== -/
theorem tnv_lt {t : Nat → Nat} {f : Nat} : ∀ {m : Nat}, (∀ j, j < m → t (f + j) ≤ 57) → tnv t f m < 10 ^ m
  | 0, _ => by show 0 < 1; omega
  | m + 1, h => by
    have a := tnv_lt (t := t) (f := f) (m := m) (fun j hj => h j (by omega))
    have b := h m (by omega)
    show 10 * tnv t f m + (t (f + m) - 48) < 10 ^ (m + 1)
    rw [Nat.pow_succ]
    omega
section
variable {G : ma_G} {d M n p : Nat} {h g g2 : ah_T} {t : Nat → Nat} {nm : List Nat} {Q : Option ma_V → ah_T → Prop} {E : Nat → ah_T → Prop}
theorem tV_lt {a : Nat} (T : tpe h a n t) (h3 : 3 ≤ tS t n p) : tV t n p < 1000000 := by
  have h3' := h3
  unfold tS at h3'
  by_cases c : n ≤ tF t n p
  · rw [if_pos c] at h3'; omega
  · rw [if_neg c] at h3'
    by_cases c1 : tlt t (tF t n p) = true
    · rw [if_pos c1] at h3'; omega
    · rw [if_neg c1] at h3'
      by_cases c2 : tdg t (tF t n p) = true
      · rw [if_pos c2] at h3'
        by_cases c3 : tE t n p - tF t n p ≤ 6
        · unfold tV
          rw [if_pos c2]
          have e : tE t n p = rn (tdg t) n (tF t n p) := by unfold tE; rw [if_neg c, if_neg c1, if_pos c2]
          have := tnv_lt (t := t) (f := tF t n p) (m := tE t n p - tF t n p) (fun j hj => by
            rw [e] at hj
            have z := rn_in (P := tdg t) (n := n) (p := tF t n p) (k := tF t n p + j) (by omega) (by omega)
            have := of_decide_eq_true z.2
            omega)
          have p6 : (10 : Nat) ^ (tE t n p - tF t n p) ≤ 10 ^ 6 := Nat.pow_le_pow_right (by omega) c3
          omega
        · rw [if_neg c3] at h3'; omega
      · unfold tV; rw [if_neg c2]; have := (T.2 (tF t n p) (by omega)).2; omega
theorem ms4_i {a b : Nat} (ha : a ≤ 4) (hb : b ≤ 4) : ms4 a = ms4 b ↔ a = b := by
  unfold ms4
  repeat' split
  all_goals omega
theorem md (D : rdM h M n t p) {s : Nat} (hs : s ≤ 4) {x : Int32} (hx : x = nI (ms4 s)) : ah_I h M 50 = x ↔ tS t n p = s := by
  have a := tS_le (t := t) (n := n) (p := p)
  have b1 : ms4 (tS t n p) < 10 := by unfold ms4; (repeat' split) <;> omega
  have b2 : ms4 s < 10 := by unfold ms4; (repeat' split) <;> omega
  rw [D.2.1, hx, nI_eq (by omega) (by omega), ms4_i a hs]
theorem md1 (D : rdM h M n t p) : ah_I h M 50 = (1 : Int32) ↔ tS t n p = 2 := md D (by decide) rfl
theorem md2 (D : rdM h M n t p) : ah_I h M 50 = (2 : Int32) ↔ tS t n p = 3 := md D (by decide) rfl
theorem md3 (D : rdM h M n t p) : ah_I h M 50 = (3 : Int32) ↔ tS t n p = 4 := md D (by decide) rfl
theorem md4 (D : rdM h M n t p) : ah_I h M 50 = (4 : Int32) ↔ tS t n p = 1 := md D (by decide) rfl
theorem mw (D : rdM h M n t p) (hs : tS t n p = 2) {w : Nat} (hw : w < 1152921504606846976) {x : Int64} (hx : x = lN w) : ah_J h M 55 = x ↔ tW t n p = w := by
  obtain ⟨w1, w2⟩ := tw_let hs
  rw [(D.2.2.2.2.2 hs).1, hx]
  by_cases c : tE t n p - tF t n p ≤ 12
  · rw [if_pos c]
    have a : tW t n p < 32 ^ (tE t n p - tF t n p) := cw_lt (fun j hj => by have := w2 j hj; omega) (by omega)
    have b : (32 : Nat) ^ (tE t n p - tF t n p) ≤ 32 ^ 12 := Nat.pow_le_pow_right (by omega) c
    have p12 : (32 : Nat) ^ 12 = 1152921504606846976 := by decide
    exact pk_lEQ (by omega) (by omega)
  · rw [if_neg c]
    have a : (32 : Nat) ^ (tE t n p - tF t n p - 1) ≤ cw 32 96 t (tF t n p) (tE t n p - tF t n p - 1 + 1) := cw_ge (fun j hj => (w2 j (by omega)).1)
    have b : (32 : Nat) ^ 12 ≤ 32 ^ (tE t n p - tF t n p - 1) := Nat.pow_le_pow_right (by omega) (by omega)
    have p12 : (32 : Nat) ^ 12 = 1152921504606846976 := by decide
    have e : tW t n p = cw 32 96 t (tF t n p) (tE t n p - tF t n p - 1 + 1) := by unfold tW; congr 1; omega
    constructor
    · intro z
      rw [i6_eq, tl_1, pk_lT (by omega)] at z
      omega
    · intro z
      omega
theorem mv53 {a : Nat} (T : tpe h a n t) (D : rdM h M n t p) (hs : 3 ≤ tS t n p) {c : Nat} (hc : c < 1000000) {x : Int32} (hx : x = nI c) : ah_I h M 53 = x ↔ tV t n p = c := by
  have := tV_lt T hs
  rw [D.2.2.2.2.1 hs, hx, nI_eq (by omega) (by omega)]
theorem tK0 (k : Nat) (hk : k < 8) : tK 0 t n p = k ↔ tS t n p = 2 ∧ tW t n p = kwK.getD k 0 := by
  unfold tK
  by_cases c : tS t n p = 2
  · rw [if_pos c]
    have e : kix (tW t n p) (kw 0) 0 = k ↔ tW t n p = kwK.getD k 0 := by
      generalize tW t n p = w
      rw [show kw 0 = [294, 663726, 176741, 1476, 498, 14836, 12748404, 441972] from rfl]
      simp only [kix]
      have : k = 0 ∨ k = 1 ∨ k = 2 ∨ k = 3 ∨ k = 4 ∨ k = 5 ∨ k = 6 ∨ k = 7 := by omega
      rcases this with q | q | q | q | q | q | q | q <;> subst q <;> simp only [kwK, List.getD_cons_zero, List.getD_cons_succ] <;> (repeat' split) <;> omega
    rw [e]
    exact ⟨fun z => ⟨c, z⟩, fun z => z.2⟩
  · rw [if_neg c]
    exact ⟨fun z => by omega, fun z => absurd z.1 c⟩
theorem tK0n : tK 0 t n p = -1 ↔ ¬ (tS t n p = 2 ∧ (tW t n p = 294 ∨ tW t n p = 663726 ∨ tW t n p = 176741 ∨ tW t n p = 1476 ∨ tW t n p = 498 ∨ tW t n p = 14836 ∨ tW t n p = 12748404 ∨ tW t n p = 441972)) := by
  unfold tK
  by_cases c : tS t n p = 2
  · rw [if_pos c]
    generalize tW t n p = w
    rw [show kw 0 = [294, 663726, 176741, 1476, 498, 14836, 12748404, 441972] from rfl]
    simp only [kix]
    (repeat' split) <;> omega
  · rw [if_neg c]
    exact ⟨fun _ z => c z.1, fun _ => rfl⟩

theorem tK1e (c : tS t n p = 2) : tK 1 t n p = kix (tW t n p) [7931013, 253792434, 758955, 824370, 2872317331, 1165491, 136276, 147761734772, 99923, 24159891, 17376357] 0 := by unfold tK; rw [if_pos c]; rfl
theorem m_variable (L : LY8 h M) (D : rdM h M n t p) (K : ∀ x : Int32, x.toInt = tK 1 t n p → Q (some (iv x)) h) : MX G mi_X8_variable (d + 1) 0 [some (rv M)] [] h Q E := by
  have w0 : tS t n p = 2 → (ah_J h M 55 = (7931013 : Int64) ↔ tW t n p = 7931013) := fun z => mw D z (by decide) rfl
  have w1 : tS t n p = 2 → (ah_J h M 55 = (253792434 : Int64) ↔ tW t n p = 253792434) := fun z => mw D z (by decide) rfl
  have w2 : tS t n p = 2 → (ah_J h M 55 = (758955 : Int64) ↔ tW t n p = 758955) := fun z => mw D z (by decide) rfl
  have w3 : tS t n p = 2 → (ah_J h M 55 = (824370 : Int64) ↔ tW t n p = 824370) := fun z => mw D z (by decide) rfl
  have w4 : tS t n p = 2 → (ah_J h M 55 = (2872317331 : Int64) ↔ tW t n p = 2872317331) := fun z => mw D z (by decide) rfl
  have w5 : tS t n p = 2 → (ah_J h M 55 = (1165491 : Int64) ↔ tW t n p = 1165491) := fun z => mw D z (by decide) rfl
  have w6 : tS t n p = 2 → (ah_J h M 55 = (136276 : Int64) ↔ tW t n p = 136276) := fun z => mw D z (by decide) rfl
  have w7 : tS t n p = 2 → (ah_J h M 55 = (147761734772 : Int64) ↔ tW t n p = 147761734772) := fun z => mw D z (by decide) rfl
  have w8 : tS t n p = 2 → (ah_J h M 55 = (99923 : Int64) ↔ tW t n p = 99923) := fun z => mw D z (by decide) rfl
  have w9 : tS t n p = 2 → (ah_J h M 55 = (24159891 : Int64) ↔ tW t n p = 24159891) := fun z => mw D z (by decide) rfl
  have w10 : tS t n p = 2 → (ah_J h M 55 = (17376357 : Int64) ↔ tW t n p = 17376357) := fun z => mw D z (by decide) rfl
  refine v_X8_variable L ?_
  rw [md1 D]
  refine ⟨fun c => K _ (by unfold tK; rw [if_neg c]; decide), fun c => ?_⟩
  have K' : ∀ x : Int32, x.toInt = kix (tW t n p) [7931013, 253792434, 758955, 824370, 2872317331, 1165491, 136276, 147761734772, 99923, 24159891, 17376357] 0 → Q (some (iv x)) h := fun x hx => K x (hx.trans (tK1e c).symm)
  simp only [w0 c, w1 c, w2 c, w3 c, w4 c, w5 c, w6 c, w7 c, w8 c, w9 c, w10 c]
  simp only [kix] at K'
  generalize tW t n p = w at *
  refine ⟨fun c1 => ?_, fun c1 => ?_⟩
  · skip
    refine ⟨fun c2 => ?_, fun c2 => ?_⟩
    · skip
      refine ⟨fun c3 => ?_, fun c3 => ?_⟩
      · skip
        refine ⟨fun c4 => ?_, fun c4 => ?_⟩
        · skip
          refine ⟨fun c5 => ?_, fun c5 => ?_⟩
          · skip
            refine ⟨fun c6 => ?_, fun c6 => ?_⟩
            · skip
              refine ⟨fun c7 => ?_, fun c7 => ?_⟩
              · skip
                refine ⟨fun c8 => ?_, fun c8 => ?_⟩
                · skip
                  refine ⟨fun c9 => ?_, fun c9 => ?_⟩
                  · skip
                    refine ⟨fun c10 => ?_, fun c10 => ?_⟩
                    · skip
                      refine ⟨fun c11 => ?_, fun c11 => ?_⟩
                      · skip
                        refine K' _ ?_
                        rw [show (-1 : Int32).toInt = -1 from by decide]
                        (repeat' split) <;> omega
                      · skip
                        refine K' _ ?_
                        rw [show (10 : Int32).toInt = 10 from by decide]
                        (repeat' split) <;> omega
                    · skip
                      refine K' _ ?_
                      rw [show (9 : Int32).toInt = 9 from by decide]
                      (repeat' split) <;> omega
                  · skip
                    refine K' _ ?_
                    rw [show (8 : Int32).toInt = 8 from by decide]
                    (repeat' split) <;> omega
                · skip
                  refine K' _ ?_
                  rw [show (7 : Int32).toInt = 7 from by decide]
                  (repeat' split) <;> omega
              · skip
                refine K' _ ?_
                rw [show (6 : Int32).toInt = 6 from by decide]
                (repeat' split) <;> omega
            · skip
              refine K' _ ?_
              rw [show (5 : Int32).toInt = 5 from by decide]
              (repeat' split) <;> omega
          · skip
            refine K' _ ?_
            rw [show (4 : Int32).toInt = 4 from by decide]
            (repeat' split) <;> omega
        · skip
          refine K' _ ?_
          rw [show (3 : Int32).toInt = 3 from by decide]
          (repeat' split) <;> omega
      · skip
        refine K' _ ?_
        rw [show (2 : Int32).toInt = 2 from by decide]
        (repeat' split) <;> omega
    · skip
      refine K' _ ?_
      rw [show (1 : Int32).toInt = 1 from by decide]
      (repeat' split) <;> omega
  · skip
    refine K' _ ?_
    rw [show (0 : Int32).toInt = 0 from by decide]
    (repeat' split) <;> omega
theorem m_isKept (L : LY8 h M) (D : rdM h M n t p) (K1 : tS t n p = 2 → tK 0 t n p ≠ -1 → Q (some (iv 1)) h) (K0 : tK 0 t n p = -1 → Q (some (iv 0)) h) : MX G mi_X8_isKept (d + 2) 0 [some (rv M)] [] h Q E := by
  have w0 : tS t n p = 2 → (ah_J h M 55 = (294 : Int64) ↔ tW t n p = 294) := fun z => mw D z (by decide) rfl
  have w1 : tS t n p = 2 → (ah_J h M 55 = (663726 : Int64) ↔ tW t n p = 663726) := fun z => mw D z (by decide) rfl
  have w2 : tS t n p = 2 → (ah_J h M 55 = (176741 : Int64) ↔ tW t n p = 176741) := fun z => mw D z (by decide) rfl
  have w3 : tS t n p = 2 → (ah_J h M 55 = (1476 : Int64) ↔ tW t n p = 1476) := fun z => mw D z (by decide) rfl
  have w4 : tS t n p = 2 → (ah_J h M 55 = (498 : Int64) ↔ tW t n p = 498) := fun z => mw D z (by decide) rfl
  have w5 : tS t n p = 2 → (ah_J h M 55 = (14836 : Int64) ↔ tW t n p = 14836) := fun z => mw D z (by decide) rfl
  have w6 : tS t n p = 2 → (ah_J h M 55 = (12748404 : Int64) ↔ tW t n p = 12748404) := fun z => mw D z (by decide) rfl
  have w7 : tS t n p = 2 → (ah_J h M 55 = (441972 : Int64) ↔ tW t n p = 441972) := fun z => mw D z (by decide) rfl
  refine v_X8_isKept L ?_
  rw [md1 D]
  refine ⟨fun c => K0 (tK0n.2 (fun z => c z.1)), fun c => ?_⟩
  simp only [w0 c, w1 c, w2 c, w3 c, w4 c, w5 c, w6 c, w7 c]
  have k1 : (tW t n p = 294 ∨ tW t n p = 663726 ∨ tW t n p = 176741 ∨ tW t n p = 1476 ∨ tW t n p = 498 ∨ tW t n p = 14836 ∨ tW t n p = 12748404 ∨ tW t n p = 441972) → Q (some (iv 1)) h := fun z => K1 c (fun w => (tK0n.1 w) ⟨c, z⟩)
  have k0 : ¬ (tW t n p = 294 ∨ tW t n p = 663726 ∨ tW t n p = 176741 ∨ tW t n p = 1476 ∨ tW t n p = 498 ∨ tW t n p = 14836 ∨ tW t n p = 12748404 ∨ tW t n p = 441972) → Q (some (iv 0)) h := fun z => K0 (tK0n.2 (fun w => z w.2))
  refine ⟨fun c1 => ?_, fun c1 => ?_⟩
  · skip
    refine ⟨fun c2 => ?_, fun c2 => ?_⟩
    · skip
      refine ⟨fun c3 => ?_, fun c3 => ?_⟩
      · skip
        refine ⟨fun c4 => ?_, fun c4 => ?_⟩
        · skip
          refine ⟨fun c5 => ?_, fun c5 => ?_⟩
          · skip
            refine ⟨fun c6 => ?_, fun c6 => ?_⟩
            · skip
              refine ⟨fun c7 => ?_, fun c7 => ?_⟩
              · skip
                refine ⟨fun c8 => ?_, fun c8 => ?_⟩
                · skip
                  exact k0 (by omega)
                · skip
                  exact k1 (by omega)
              · skip
                exact k1 (by omega)
            · skip
              exact k1 (by omega)
          · skip
            exact k1 (by omega)
        · skip
          exact k1 (by omega)
      · skip
        exact k1 (by omega)
    · skip
      exact k1 (by omega)
  · skip
    exact k1 (by omega)
theorem m_canBeginSum (L : LY8 h M) (T : tpe h (M + 35) n t) (D : rdM h M n t p) (K1 : tB t n p → Q (some (iv 1)) h) (K0 : ¬ tB t n p → Q (some (iv 0)) h) : MX G mi_X8_canBeginSum (d + 3) 0 [some (rv M)] [] h Q E := by
  refine v_X8_canBeginSum (d := d + 1) L ?_
  rw [md2 D, md3 D, md1 D]
  have w6 : tS t n p = 2 → (ah_J h M 55 = (12748404 : Int64) ↔ tK 0 t n p = 6) := fun z => (mw D z (by decide) rfl).trans ⟨fun w => (tK0 6 (by decide)).2 ⟨z, w⟩, fun w => ((tK0 6 (by decide)).1 w).2⟩
  have w7 : tS t n p = 2 → (ah_J h M 55 = (441972 : Int64) ↔ tK 0 t n p = 7) := fun z => (mw D z (by decide) rfl).trans ⟨fun w => (tK0 7 (by decide)).2 ⟨z, w⟩, fun w => ((tK0 7 (by decide)).1 w).2⟩
  have wd : tS t n p = 2 → (¬ ah_J h M 55 = (12748404 : Int64) → (¬ ah_J h M 55 = (441972 : Int64) → MX G mi_X8_isKept (d + 2) 0 [some (rv M)] [] h (Qi fun r7 h6 => ah_ext h h6 → (¬ r7 = 0 → Q (some (iv (0 : Int32))) h6) ∧ (r7 = 0 → Q (some (iv (1 : Int32))) h6)) E) ∧ (ah_J h M 55 = (441972 : Int64) → Q (some (iv (1 : Int32))) h)) ∧ (ah_J h M 55 = (12748404 : Int64) → Q (some (iv (1 : Int32))) h) := fun c => by
    rw [w6 c, w7 c]
    refine ⟨fun c6 => ⟨fun c7 => ?_, fun c7 => K1 (Or.inr (Or.inr (Or.inr (Or.inl c7))))⟩, fun c6 => K1 (Or.inr (Or.inr (Or.inl c6)))⟩
    refine m_isKept L D (fun _ z => ?_) (fun z => ?_)
    · intro _
      refine ⟨fun _ => K0 (fun b => ?_), fun w => absurd w (by decide)⟩
      rcases b with b | b | b | b | b
      · omega
      · omega
      · exact c6 b
      · exact c7 b
      · exact z b.2
    · intro _
      exact ⟨fun w => absurd rfl w, fun _ => K1 (Or.inr (Or.inr (Or.inr (Or.inr ⟨c, z⟩))))⟩
  have no : tS t n p ≠ 3 → ¬ (tS t n p = 4 ∧ tV t n p = 40) → tS t n p ≠ 2 → Q (some (iv 0)) h := fun z3 z4 z2 => K0 (fun b => by
    rcases b with b | b | b | b | b
    · exact z3 b
    · exact z4 b
    · exact z2 (tK_2 (k := 6) b)
    · exact z2 (tK_2 (k := 7) b)
    · exact z2 b.1)
  refine ⟨fun c => K1 (Or.inl c), fun c3 => ⟨fun c4 => ⟨fun c2 => no c3 (fun z => c4 z.1) c2, fun c2 => wd c2⟩, fun c4 => ?_⟩⟩
  rw [mv53 T D (by omega) (c := 40) (by decide) (x := (40 : Int32)) rfl]
  exact ⟨fun c5 => ⟨fun c2 => no c3 (fun z => c5 z.2) c2, fun c2 => by omega⟩, fun c5 => K1 (Or.inr (Or.inl ⟨c4, c5⟩))⟩
theorem m_canBegin (L : LY8 h M) (T : tpe h (M + 35) n t) (D : rdM h M n t p) (K1 : tK 0 t n p = 0 ∨ tB t n p → Q (some (iv 1)) h) (K0 : ¬ (tK 0 t n p = 0 ∨ tB t n p) → Q (some (iv 0)) h) : MX G mi_X8_canBegin (d + 4) 0 [some (rv M)] [] h Q E := by
  refine v_X8_canBegin (d := d + 2) L ?_
  rw [md1 D]
  have go : tK 0 t n p ≠ 0 → MX G mi_X8_canBeginSum (d + 2 + 1) 0 [some (rv M)] [] h (Qi fun r3 h2 => ah_ext h h2 → (r3 = 0 → Q (some (iv (0 : Int32))) h2) ∧ (¬ r3 = 0 → Q (some (iv (1 : Int32))) h2)) E := fun z => by
    refine m_canBeginSum (d := d) L T D (fun b => ?_) (fun b => ?_)
    · intro _
      exact ⟨fun w => absurd w (by decide), fun _ => K1 (Or.inr b)⟩
    · intro _
      refine ⟨fun _ => K0 (fun w => ?_), fun w => absurd rfl w⟩
      rcases w with w | w
      · exact z w
      · exact b w
  refine ⟨fun c => go (fun z => c (tK_2 (k := 0) z)), fun c => ?_⟩
  have w0 : ah_J h M 55 = (294 : Int64) ↔ tK 0 t n p = 0 := (mw D c (by decide) rfl).trans ⟨fun w => (tK0 0 (by decide)).2 ⟨c, w⟩, fun w => ((tK0 0 (by decide)).1 w).2⟩
  rw [w0]
  exact ⟨fun z => go z, fun z => K1 (Or.inl z)⟩
/-- the names of the defs ahead -/
def nmM (h : ah_T) (M : Nat) (nm : List Nat) : Prop := nm.length ≤ 10 ∧ ah_I h M 57 = nI nm.length ∧ ∀ i, i < nm.length → ah_J h (M + 43) i = lN (nm.getD i 0) ∧ nm.getD i 0 < 1099511627776 ∧ nm.getD i 0 ∉ kwK
theorem m_named (L : LY8 h M) (T : tpe h (M + 35) n t) (hp : p ≤ n) (D : rdM h M n t p) (N : nmM h M nm) (K : ∀ x : Int32, x.toInt = nix t n nm p → Q (some (iv x)) h) : MX G mi_X8_named d 0 [some (rv M), none] [] h Q E := by
  obtain ⟨N1, N2, N3⟩ := N
  refine v_X8_named L ?_
  refine mx_ind (α := Nat) (fun k => [some (rv M), some (iv (nI k))]) (fun k g => g = h ∧ k ≤ nm.length ∧ ((tS t n p = 2 ∧ tE t n p - tF t n p ≤ 8) → kix (tW t n p) (nm.drop k) k = nix t n nm p)) (fun k => nm.length - k) (fun k g hI KK => ?_) 0 h ⟨rfl, Nat.zero_le _, fun z => by unfold nix; rw [if_pos z]; rfl⟩
  obtain ⟨eg, q1, q2⟩ := hI
  subst eg
  have no : ¬ (tS t n p = 2 ∧ tE t n p - tF t n p ≤ 8) → Q (some (iv (-1))) g := fun z => K _ (by unfold nix; rw [if_neg z]; decide)
  refine v_X8_named_2 L ?_
  rw [md1 D]
  refine ⟨fun c => no (fun z => c z.1), fun c => ?_⟩
  have bE := tE_bd (t := t) hp
  have n5 := T.1
  rw [(D.2.2.2.2.2 c).2]
  rw [show (8 : Int32) = nI 8 from rfl, nI_ltI (by omega) (by omega)]
  refine ⟨fun c8 => no (fun z => by omega), fun c8 => ?_⟩
  have q2 := q2 ⟨c, by omega⟩
  rw [N2, nI_leI (by omega) (by omega)]
  refine ⟨fun ck => K _ ?_, fun ck => ⟨vp_in_nI (by omega) (by decide), ?_⟩⟩
  · rw [List.drop_eq_nil_of_le ck, kix] at q2
    rw [← q2, tm_1]
  · obtain ⟨e1, e2, -⟩ := N3 k (by omega)
    have dr : nm.drop k = nm.getD k 0 :: nm.drop (k + 1) := by
      rw [List.drop_eq_getElem_cons (by omega), List.getD_eq_getElem?_getD, List.getElem?_eq_getElem (by omega)]; rfl
    rw [dr, kix] at q2
    rw [nI_clamp (n := k) (by omega), e1, nI_1]
    have we : lN (nm.getD k 0) = ah_J g M 55 ↔ tW t n p = nm.getD k 0 := ⟨fun z => (mw D c (by omega) rfl).1 z.symm, fun z => ((mw D c (by omega) rfl).2 z).symm⟩
    rw [we]
    refine ⟨fun z => ?_, fun z => ?_⟩
    · rw [if_neg z] at q2
      exact KK (k + 1) g (by show nm.length - (k + 1) < nm.length - k; omega) ⟨rfl, by omega, fun _ => q2⟩
    · rw [if_pos z] at q2
      exact K _ (by rw [← q2, nI_x (by omega)])
end

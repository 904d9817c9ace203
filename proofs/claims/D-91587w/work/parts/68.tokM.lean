/-! ===== tokens: the model's ===== -/
def ms4 (s : Nat) : Nat := if s = 0 then 0 else if s = 1 then 4 else s - 1
def rdM (h : ah_T) (M n : Nat) (t : Nat → Nat) (p : Nat) : Prop := ah_I h M 45 = nI n ∧ ah_I h M 50 = nI (ms4 (tS t n p)) ∧ ah_I h M 51 = nI (tF t n p) ∧ ah_I h M 52 = nI (tE t n p) ∧ (3 ≤ tS t n p → ah_I h M 53 = nI (tV t n p)) ∧ (tS t n p = 2 → ah_J h M 55 = (if tE t n p - tF t n p ≤ 12 then lN (tW t n p) else -1) ∧ ah_I h M 54 = nI (tE t n p - tF t n p))
theorem pf_lN {a : Nat} (h : a < 256) : (lN a).toInt = (a : Int) := lN_toInt (by omega)
section
variable {G : ma_G} {d M n p : Nat} {h g g2 : ah_T} {t : Nat → Nat} {Q : Option ma_V → ah_T → Prop} {E : Nat → ah_T → Prop}
theorem mch.tp {A Z : List Nat} (x : mch A Z M h g) (hA : 35 ∉ A) (T : tpe h (M + 35) n t) : tpe g (M + 35) n t := ⟨T.1, fun k hk => by rw [x.ar 35 hA (by decide)]; exact T.2 k hk⟩
theorem m_next_210 {f : Nat} (L : LY8 h M) (T : tpe h (M + 35) n t) (hfn : f < n) (e2 : ah_I h M 45 = nI n) (e4 : ah_I h M 51 = nI f) (e5 : ah_I h M 52 = nI f) (e6 : ah_I h M 53 = 0)
    (K : ∀ g, mch [] [50, 51, 52, 53, 54, 55] M h g → ah_I g M 50 = nI (if rn (tdg t) n f - f ≤ 6 then 2 else 4) → ah_I g M 51 = nI f → ah_I g M 52 = nI (rn (tdg t) n f) → (rn (tdg t) n f - f ≤ 6 → ah_I g M 53 = nI (tnv t f (rn (tdg t) n f - f))) → Q none g) :
    MX G mi_X8_next (d + 1) 210 [some (rv M), none] [] h Q E := by
  have n5 := T.1
  refine mx_ind (α := Nat) (fun _ => [some (rv M), none]) (fun q g => mch [] [50, 51, 52, 53, 54, 55] M h g ∧ f ≤ q ∧ q ≤ n ∧ ah_I g M 51 = nI f ∧ ah_I g M 52 = nI q ∧ rn (tdg t) n q = rn (tdg t) n f ∧ (q - f ≤ 6 → ah_I g M 53 = nI (tnv t f (q - f)) ∧ tnv t f (q - f) < 10 ^ (q - f))) (fun q => n - q) (fun q g hI KK => ?_) f h ⟨mch.rf, Nat.le_refl _, by omega, e4, e5, rfl, fun _ => by rw [Nat.sub_self]; exact ⟨e6, by show 0 < 1; omega⟩⟩
  obtain ⟨m, q1, q2, q4, q5, q6, q8⟩ := hI
  have q3 : ah_I g M 45 = nI n := by rw [m.sc 45 (by decide) (by decide)]; exact e2
  have T2 := m.tp (by decide) T
  have fin : ¬ (q < n ∧ tdg t q = true) → (nI q - nI f ≤ (6 : Int32) → ∀ h3 : ah_T, h3 = ah_wI g M 50 (2 : Int32) → ah_ext g h3 → Q none h3) ∧ (¬ nI q - nI f ≤ (6 : Int32) → ∀ h4 : ah_T, h4 = ah_wI g M 50 (4 : Int32) → ah_ext g h4 → Q none h4) := fun z => by
    have rq : rn (tdg t) n f = q := by rw [← q6]; exact rn_0 z
    rw [pk_sub q1, show (6 : Int32) = nI 6 from rfl, nI_leI (by omega) (by omega)]
    refine ⟨fun w h3 e3 _ => ?_, fun w h3 e3 _ => ?_⟩
    · subst e3
      refine K _ (m.zI (by decide)) ?_ ?_ ?_ ?_
      · rw [rd_Ih, rq, if_pos w]; rfl
      · rw [rd_Ik (by decide)]; exact q4
      · rw [rd_Ik (by decide), rq]; exact q5
      · rw [rd_Ik (by decide), rq]; exact fun _ => (q8 w).1
    · subst e3
      refine K _ (m.zI (by decide)) ?_ ?_ ?_ ?_
      · rw [rd_Ih, rq, if_neg w]; rfl
      · rw [rd_Ik (by decide)]; exact q4
      · rw [rd_Ik (by decide), rq]; exact q5
      · rw [rq]; exact fun z => absurd z w
  refine v_X8_next_210 (m.ly L) ?_
  rw [q3, q5, q4, nI_leI (by omega) (by omega)]
  refine ⟨fun c => fin (by omega), fun c => ?_⟩
  obtain ⟨b1, b2⟩ := T2.2 q (by omega)
  rw [nI_clamp (n := q) (by omega), b1, show (48 : Int32) = nI 48 from rfl, show (57 : Int32) = nI 57 from rfl, nI_ltI (by omega) (by omega), nI_ltI (by omega) (by omega)]
  refine ⟨vp_in_nI (by omega) (by decide), fun c2 => fin (fun z => ?_), fun c2 => ⟨fun c3 => fin (fun z => ?_), fun c3 => ?_⟩⟩
  · have := of_decide_eq_true z.2; omega
  · have := of_decide_eq_true z.2; omega
  · have hd : tdg t q = true := decide_eq_true (by omega)
    rw [pk_sub q1, show (6 : Int32) = nI 6 from rfl, nI_leI (by omega) (by omega)]
    refine ⟨fun c4 h15 e15 _ => ?_, fun c4 h16 e16 _ h17 e17 _ => ?_⟩
    · subst e15
      refine KK (q + 1) _ (by show n - (q + 1) < n - q; omega) ⟨m.zI (by decide), by omega, by omega, ?_, ?_, ?_, fun w => by omega⟩
      · rw [rd_Ik (by decide)]; exact q4
      · rw [rd_Ih, nI_1]
      · rw [← q6]; exact (rn_1 (by omega) hd).symm
    · subst e16; subst e17
      refine KK (q + 1) _ (by show n - (q + 1) < n - q; omega) ⟨(m.zI (by decide)).zI (by decide), by omega, by omega, ?_, ?_, ?_, fun w => ?_⟩
      · rw [rd_Ik (by decide), rd_Ik (by decide)]; exact q4
      · rw [rd_Ih, nI_1]
      · rw [← q6]; exact (rn_1 (by omega) hd).symm
      · obtain ⟨r1, r2⟩ := q8 (by omega)
        have r3 : (10 : Nat) ^ (q - f) ≤ 10 ^ 5 := Nat.pow_le_pow_right (by omega) (by omega)
        have e1 : q + 1 - f = (q - f) + 1 := by omega
        have e2 : f + (q - f) = q := by omega
        have e3 : tnv t f (q + 1 - f) = 10 * tnv t f (q - f) + (t q - 48) := by rw [e1, tnv, e2]
        have p1 : (10 : Nat) ^ (q + 1 - f) = 10 ^ (q - f) * 10 := by rw [e1, Nat.pow_succ]
        rw [rd_Ik (by decide), rd_Ih, r1, show (10 : Int32) = nI 10 from rfl, pk_mul, nI_add, pk_sub (by omega), e3]
        refine ⟨?_, by omega⟩
        congr 1
        omega
theorem m_next_109 {f : Nat} (L : LY8 h M) (T : tpe h (M + 35) n t) (hfn : f ≤ n) (e2 : ah_I h M 45 = nI n) (e0 : ah_I h M 50 = 1) (e4 : ah_I h M 51 = nI f) (e5 : ah_I h M 52 = nI f) (e6 : ah_J h M 55 = 0)
    (K : ∀ g, mch [] [50, 51, 52, 53, 54, 55] M h g → ah_I g M 50 = 1 → ah_I g M 51 = nI f → ah_I g M 52 = nI (rn (tlt t) n f) → ah_J g M 55 = (if rn (tlt t) n f - f ≤ 12 then lN (cw 32 96 t f (rn (tlt t) n f - f)) else -1) → ah_I g M 54 = nI (rn (tlt t) n f - f) → Q none g) :
    MX G mi_X8_next (d + 1) 109 [some (rv M), none] [] h Q E := by
  have n5 := T.1
  refine mx_ind (α := Nat) (fun _ => [some (rv M), none]) (fun q g => mch [] [50, 51, 52, 53, 54, 55] M h g ∧ f ≤ q ∧ q ≤ n ∧ ah_I g M 51 = nI f ∧ ah_I g M 52 = nI q ∧ rn (tlt t) n q = rn (tlt t) n f ∧ ah_J g M 55 = (if q - f ≤ 12 then lN (cw 32 96 t f (q - f)) else -1) ∧ ah_I g M 50 = 1) (fun q => n - q) (fun q g hI KK => ?_) f h ⟨mch.rf, Nat.le_refl _, hfn, e4, e5, rfl, by rw [Nat.sub_self]; exact e6, e0⟩
  obtain ⟨m, q1, q2, q4, q5, q6, q8, q0⟩ := hI
  have q3 : ah_I g M 45 = nI n := by rw [m.sc 45 (by decide) (by decide)]; exact e2
  have T2 := m.tp (by decide) T
  have fin : ¬ (q < n ∧ tlt t q = true) → ∀ h3 : ah_T, h3 = ah_wI g M 54 (nI q - nI f) → ah_ext g h3 → Q none h3 := fun z h3 e3 _ => by
    have rq : rn (tlt t) n f = q := by rw [← q6]; exact rn_0 z
    subst e3
    refine K _ (m.zI (by decide)) ?_ ?_ ?_ ?_ ?_
    · rw [rd_Ik (by decide)]; exact q0
    · rw [rd_Ik (by decide)]; exact q4
    · rw [rd_Ik (by decide), rq]; exact q5
    · rw [rd_JI, rq]; exact q8
    · rw [rd_Ih, rq, pk_sub q1]
  refine v_X8_next_109 (m.ly L) ?_
  rw [q3, q5, q4, nI_leI (by omega) (by omega)]
  refine ⟨fun c => fin (by omega), fun c => ?_⟩
  obtain ⟨b1, b2⟩ := T2.2 q (by omega)
  rw [nI_clamp (n := q) (by omega), b1, show (97 : Int32) = nI 97 from rfl, show (122 : Int32) = nI 122 from rfl, nI_ltI (by omega) (by omega), nI_ltI (by omega) (by omega)]
  refine ⟨vp_in_nI (by omega) (by decide), fun c2 => fin (fun z => ?_), fun c2 => ⟨fun c3 => fin (fun z => ?_), fun c3 => ?_⟩⟩
  · have := of_decide_eq_true z.2; omega
  · have := of_decide_eq_true z.2; omega
  · have hd : tlt t q = true := decide_eq_true (by omega)
    rw [pk_sub q1, show (12 : Int32) = nI 12 from rfl, nI_leI (by omega) (by omega)]
    refine ⟨fun c4 h9 e9 _ h10 e10 _ => ?_, fun c4 h9 e9 _ h10 e10 _ => ?_⟩
    · subst e9; subst e10
      refine KK (q + 1) _ (by show n - (q + 1) < n - q; omega) ⟨(m.zJ (by decide)).zI (by decide), by omega, by omega, ?_, ?_, ?_, ?_, ?_⟩
      · rw [rd_Ik (by decide), rd_IJ]; exact q4
      · rw [rd_Ih, nI_1]
      · rw [← q6]; exact (rn_1 (by omega) hd).symm
      · rw [rd_JI, rd_Jh, if_neg (by omega)]
      · rw [rd_Ik (by decide), rd_IJ]; exact q0
    · subst e9; subst e10
      refine KK (q + 1) _ (by show n - (q + 1) < n - q; omega) ⟨(m.zJ (by decide)).zI (by decide), by omega, by omega, ?_, ?_, ?_, ?_, ?_⟩
      · rw [rd_Ik (by decide), rd_IJ]; exact q4
      · rw [rd_Ih, nI_1]
      · rw [← q6]; exact (rn_1 (by omega) hd).symm
      · have e1 : q + 1 - f = (q - f) + 1 := by omega
        have e2 : f + (q - f) = q := by omega
        rw [rd_JI, rd_Jh, if_pos (by omega), q8, if_pos (by omega), e1, cw, e2, nI_l (by omega), show (32 : Int64) = lN 32 from rfl, show (96 : Int64) = lN 96 from rfl, lN_mul, lN_add, lN_sub (by omega)]
        congr 1
        rw [Nat.mul_comm]
        omega
      · rw [rd_Ik (by decide), rd_IJ]; exact q0
theorem m_next (L : LY8 h M) (T : tpe h (M + 35) n t) (hp : p ≤ n) (e2 : ah_I h M 45 = nI n) (e5 : ah_I h M 52 = nI p) (K : ∀ g, mch [] [50, 51, 52, 53, 54, 55] M h g → rdM g M n t p → Q none g) :
    MX G mi_X8_next (d + 1) 0 [some (rv M), none] [] h Q E := by
  have n5 := T.1
  refine v_X8_next L ?_
  intro h1 e1 _
  rw [e5] at e1
  have m1 : mch [] [50, 51, 52, 53, 54, 55] M h h1 := by rw [e1]; exact mch.rf.zI (by decide)
  have y1 : ah_I h1 M 51 = nI p := by rw [e1, rd_Ih]
  clear e1
  refine mx_ind (α := Nat) (fun _ => [some (rv M), none]) (fun q g => mch [] [50, 51, 52, 53, 54, 55] M h g ∧ p ≤ q ∧ q ≤ n ∧ ah_I g M 51 = nI q ∧ rn (tsp t) n q = tF t n p) (fun q => n - q) (fun q g hI KK => ?_) p h1 ⟨m1, Nat.le_refl _, hp, y1, rfl⟩
  obtain ⟨m, q1, q2, q5, q6⟩ := hI
  have q3 : ah_I g M 45 = nI n := by rw [m.sc 45 (by decide) (by decide)]; exact e2
  have T2 := m.tp (by decide) T
  have goon : ¬ (q < n ∧ tsp t q = true) → MX G mi_X8_next (d + 1) 58 [some (rv M), none] [] g Q E := fun z => by
    have rq : tF t n p = q := by rw [← q6]; exact rn_0 z
    clear KK
    refine v_X8_next_58 (m.ly L) ?_
    rw [q3, q5]
    have bb : q < n → ah_I g (M + 35) (nI q).toNatClampNeg &&& (255 : Int32) = nI (t q) ∧ t q < 256 := fun w => by rw [nI_clamp (by omega)]; exact T2.2 q w
    have sgn : ∀ v : Nat, q < n → tlt t q ≠ true → tdg t q ≠ true → ((v = 3 ∧ tsg (t q) = true) ∨ (v = 4 ∧ tsg (t q) ≠ true)) → Q none (ah_wI (ah_wI (ah_wI (ah_wI g M 52 (nI q)) M 52 (nI q + 1)) M 53 (nI (t q))) M 50 (nI v)) := fun v w z1 z2 hv => by
      have hnq : ¬ n ≤ tF t n p := by rw [rq]; omega
      have s1 : tE t n p = q + 1 := by unfold tE; rw [if_neg hnq, rq, if_neg z1, if_neg z2]
      have s2 : tV t n p = t q := by unfold tV; rw [rq, if_neg z2]
      have s0 : ms4 (tS t n p) = v ∧ tS t n p ≠ 2 := by
        unfold tS; rw [if_neg hnq, rq, if_neg z1, if_neg z2]
        rcases hv with ⟨v1, v2⟩ | ⟨v1, v2⟩
        · rw [if_pos v2, v1]; decide
        · rw [if_neg v2, v1]; decide
      refine K _ ((((m.zI (by decide)).zI (by decide)).zI (by decide)).zI (by decide)) ⟨?_, ?_, ?_, ?_, fun _ => ?_, fun w => absurd w s0.2⟩
      · rw [rd_Ik (by decide), rd_Ik (by decide), rd_Ik (by decide), rd_Ik (by decide)]; exact q3
      · rw [rd_Ih, s0.1]
      · rw [rd_Ik (by decide), rd_Ik (by decide), rd_Ik (by decide), rd_Ik (by decide), rq]; exact q5
      · rw [rd_Ik (by decide), rd_Ik (by decide), rd_Ih, s1, nI_1]
      · rw [rd_Ik (by decide), rd_Ih, s2]
    have dgt : q < n → tlt t q ≠ true → tdg t q = true → MX G mi_X8_next (d + 1) 210 [some (rv M), none] [] (ah_wI (ah_wI g M 52 (nI q)) M 53 0) Q E := fun w z1 z2 => by
      have hnq : ¬ n ≤ tF t n p := by rw [rq]; omega
      have s1 : tE t n p = rn (tdg t) n q := by unfold tE; rw [if_neg hnq, rq, if_neg z1, if_pos z2]
      have s0 : tS t n p = if rn (tdg t) n q - q ≤ 6 then 3 else 1 := by unfold tS; rw [if_neg hnq, s1, rq, if_neg z1, if_pos z2]
      have s2 : tV t n p = tnv t q (rn (tdg t) n q - q) := by unfold tV; rw [s1, rq, if_pos z2]
      have m2 : mch [] [50, 51, 52, 53, 54, 55] M h (ah_wI (ah_wI g M 52 (nI q)) M 53 0) := (m.zI (by decide)).zI (by decide)
      refine m_next_210 (m2.ly L) (m2.tp (by decide) T) w ?_ ?_ ?_ rd_Ih (fun g5 m5 y3 y4 y5 y6 => ?_)
      · rw [rd_Ik (by decide), rd_Ik (by decide)]; exact q3
      · rw [rd_Ik (by decide), rd_Ik (by decide)]; exact q5
      · rw [rd_Ik (by decide), rd_Ih]
      refine K g5 (m2.tr m5) ⟨?_, ?_, ?_, ?_, fun z => ?_, fun z => ?_⟩
      · rw [m5.sc 45 (by decide) (by decide), rd_Ik (by decide), rd_Ik (by decide)]; exact q3
      · rw [y3, s0]
        by_cases w : rn (tdg t) n q - q ≤ 6
        · rw [if_pos w, if_pos w]; rfl
        · rw [if_neg w, if_neg w]; rfl
      · rw [rq]; exact y4
      · rw [s1]; exact y5
      · rw [s2]
        refine y6 ?_
        rw [s0] at z
        by_cases w : rn (tdg t) n q - q ≤ 6
        · exact w
        · rw [if_neg w] at z; omega
      · rw [s0] at z
        by_cases w : rn (tdg t) n q - q ≤ 6
        · rw [if_pos w] at z; omega
        · rw [if_neg w] at z; omega
    have wrd : q < n → tlt t q = true → MX G mi_X8_next (d + 1) 109 [some (rv M), none] [] (ah_wJ (ah_wI (ah_wI g M 52 (nI q)) M 50 1) M 55 0) Q E := fun w hl => by
      have hnq : ¬ n ≤ tF t n p := by rw [rq]; omega
      have s1 : tE t n p = rn (tlt t) n q := by unfold tE; rw [if_neg hnq, rq, if_pos hl]
      have s0 : tS t n p = 2 := by unfold tS; rw [if_neg hnq, rq, if_pos hl]
      have m2 : mch [] [50, 51, 52, 53, 54, 55] M h (ah_wJ (ah_wI (ah_wI g M 52 (nI q)) M 50 1) M 55 0) := ((m.zI (by decide)).zI (by decide)).zJ (by decide)
      refine m_next_109 (m2.ly L) (m2.tp (by decide) T) (by omega) ?_ ?_ ?_ ?_ rd_Jh (fun g5 m5 y3 y4 y5 y6 y7 => ?_)
      · rw [rd_IJ, rd_Ik (by decide), rd_Ik (by decide)]; exact q3
      · rw [rd_IJ, rd_Ih]
      · rw [rd_IJ, rd_Ik (by decide), rd_Ik (by decide)]; exact q5
      · rw [rd_IJ, rd_Ik (by decide), rd_Ih]
      refine K g5 (m2.tr m5) ⟨?_, ?_, ?_, ?_, fun z => ?_, fun z => ?_⟩
      · rw [m5.sc 45 (by decide) (by decide), rd_IJ, rd_Ik (by decide), rd_Ik (by decide)]; exact q3
      · rw [y3, s0]; rfl
      · rw [rq]; exact y4
      · rw [s1]; exact y5
      · omega
      · unfold tW
        rw [s1, rq]; exact ⟨y6, y7⟩
    have fin : n ≤ q → Q none (ah_wI (ah_wI g M 52 (nI q)) M 50 0) := fun w => by
      have s0 : tS t n p = 0 := by unfold tS; rw [rq, if_pos w]
      have s1 : tE t n p = q := by unfold tE; rw [rq, if_pos w]
      refine K _ ((m.zI (by decide)).zI (by decide)) ⟨?_, ?_, ?_, ?_, fun z => by omega, fun z => by omega⟩
      · rw [rd_Ik (by decide), rd_Ik (by decide)]; exact q3
      · rw [rd_Ih, s0]; rfl
      · rw [rd_Ik (by decide), rd_Ik (by decide), rq]; exact q5
      · rw [rd_Ik (by decide), rd_Ih, s1]
    rcases Nat.lt_or_ge q n with w | w
    · rw [(bb w).1, nI_l (n := t q) (by have := (bb w).2; omega)]
      have b2 := (bb w).2
      have sgn := fun v => sgn v w
      have dgt := dgt w
      have wrd := wrd w
      simp only [i3_lt, i3_le, i6_lt, i3_eq, nI_x (show t q < 2147483648 by omega), nI_x (show q < 2147483648 by omega), nI_x (show n < 2147483648 by omega), pf_lN (show t q < 256 from b2), Int32.reduceToInt, Int64.reduceToInt]
      clear bb
      intro h1 eh1 Xh1
      refine ⟨fun c1 => ?_, fun c1 => ?_⟩
      · skip
        refine ⟨fun c2 => ?_, fun c2 => ?_⟩
        · skip
          intro h4 eh4 Xh4
          intro h5 eh5 Xh5
          refine ⟨fun c3 => ?_, fun c3 => ?_⟩
          · skip
            refine ⟨fun c4 => ?_, fun c4 => ?_⟩
            · skip
              intro h8 eh8 Xh8
              exfalso; omega
            · skip
              refine ⟨fun c5 => ?_, fun c5 => ?_⟩
              · skip
                intro h10 eh10 Xh10
                exfalso; omega
              · skip
                intro h11 eh11 Xh11
                exfalso; omega
          · skip
            refine ⟨fun c6 => ?_, fun c6 => ?_⟩
            · skip
              refine ⟨fun c7 => ?_, fun c7 => ?_⟩
              · skip
                intro h14 eh14 Xh14
                exfalso; omega
              · skip
                refine ⟨fun c8 => ?_, fun c8 => ?_⟩
                · skip
                  intro h16 eh16 Xh16
                  exfalso; omega
                · skip
                  intro h17 eh17 Xh17
                  exfalso; omega
            · skip
              intro h18 eh18 Xh18
              exfalso; omega
        · skip
          refine ⟨?_, ?_⟩
          · exact vp_in_nI (by omega) (by decide)
          refine ⟨fun c9 => ?_, fun c9 => ?_⟩
          · skip
            refine ⟨fun c10 => ?_, fun c10 => ?_⟩
            · skip
              intro h22 eh22 Xh22
              intro h23 eh23 Xh23
              refine ⟨fun c11 => ?_, fun c11 => ?_⟩
              · skip
                refine ⟨fun c12 => ?_, fun c12 => ?_⟩
                · skip
                  refine ⟨fun c13 => ?_, fun c13 => ?_⟩
                  · skip
                    intro h27 eh27 Xh27
                    subst eh1
                    subst eh22
                    subst eh23
                    subst eh27
                    first | (exfalso; omega) | exact sgn 3 (fun z => by have := of_decide_eq_true z; omega) (fun z => by have := of_decide_eq_true z; omega) (Or.inl ⟨rfl, decide_eq_true (by omega)⟩)
                  · skip
                    refine ⟨fun c14 => ?_, fun c14 => ?_⟩
                    · skip
                      intro h29 eh29 Xh29
                      subst eh1
                      subst eh22
                      subst eh23
                      subst eh29
                      first | (exfalso; omega) | exact sgn 4 (fun z => by have := of_decide_eq_true z; omega) (fun z => by have := of_decide_eq_true z; omega) (Or.inr ⟨rfl, fun z => by have := of_decide_eq_true z; omega⟩)
                    · skip
                      intro h30 eh30 Xh30
                      subst eh1
                      subst eh22
                      subst eh23
                      subst eh30
                      first | (exfalso; omega) | exact sgn 3 (fun z => by have := of_decide_eq_true z; omega) (fun z => by have := of_decide_eq_true z; omega) (Or.inl ⟨rfl, decide_eq_true (by omega)⟩)
                · skip
                  refine ⟨fun c15 => ?_, fun c15 => ?_⟩
                  · skip
                    refine ⟨fun c16 => ?_, fun c16 => ?_⟩
                    · skip
                      intro h33 eh33 Xh33
                      subst eh1
                      subst eh22
                      subst eh23
                      subst eh33
                      first | (exfalso; omega) | exact sgn 3 (fun z => by have := of_decide_eq_true z; omega) (fun z => by have := of_decide_eq_true z; omega) (Or.inl ⟨rfl, decide_eq_true (by omega)⟩)
                    · skip
                      refine ⟨fun c17 => ?_, fun c17 => ?_⟩
                      · skip
                        intro h35 eh35 Xh35
                        subst eh1
                        subst eh22
                        subst eh23
                        subst eh35
                        first | (exfalso; omega) | exact sgn 4 (fun z => by have := of_decide_eq_true z; omega) (fun z => by have := of_decide_eq_true z; omega) (Or.inr ⟨rfl, fun z => by have := of_decide_eq_true z; omega⟩)
                      · skip
                        intro h36 eh36 Xh36
                        subst eh1
                        subst eh22
                        subst eh23
                        subst eh36
                        first | (exfalso; omega) | exact sgn 3 (fun z => by have := of_decide_eq_true z; omega) (fun z => by have := of_decide_eq_true z; omega) (Or.inl ⟨rfl, decide_eq_true (by omega)⟩)
                  · skip
                    intro h37 eh37 Xh37
                    subst eh1
                    subst eh22
                    subst eh23
                    subst eh37
                    first | (exfalso; omega) | exact sgn 3 (fun z => by have := of_decide_eq_true z; omega) (fun z => by have := of_decide_eq_true z; omega) (Or.inl ⟨rfl, decide_eq_true (by omega)⟩)
              · skip
                refine ⟨fun c18 => ?_, fun c18 => ?_⟩
                · skip
                  refine ⟨fun c19 => ?_, fun c19 => ?_⟩
                  · skip
                    refine ⟨fun c20 => ?_, fun c20 => ?_⟩
                    · skip
                      intro h41 eh41 Xh41
                      subst eh1
                      subst eh22
                      subst eh23
                      subst eh41
                      first | (exfalso; omega) | exact sgn 3 (fun z => by have := of_decide_eq_true z; omega) (fun z => by have := of_decide_eq_true z; omega) (Or.inl ⟨rfl, decide_eq_true (by omega)⟩)
                    · skip
                      refine ⟨fun c21 => ?_, fun c21 => ?_⟩
                      · skip
                        intro h43 eh43 Xh43
                        subst eh1
                        subst eh22
                        subst eh23
                        subst eh43
                        first | (exfalso; omega) | exact sgn 4 (fun z => by have := of_decide_eq_true z; omega) (fun z => by have := of_decide_eq_true z; omega) (Or.inr ⟨rfl, fun z => by have := of_decide_eq_true z; omega⟩)
                      · skip
                        intro h44 eh44 Xh44
                        subst eh1
                        subst eh22
                        subst eh23
                        subst eh44
                        first | (exfalso; omega) | exact sgn 3 (fun z => by have := of_decide_eq_true z; omega) (fun z => by have := of_decide_eq_true z; omega) (Or.inl ⟨rfl, decide_eq_true (by omega)⟩)
                  · skip
                    refine ⟨fun c22 => ?_, fun c22 => ?_⟩
                    · skip
                      refine ⟨fun c23 => ?_, fun c23 => ?_⟩
                      · skip
                        intro h47 eh47 Xh47
                        subst eh1
                        subst eh22
                        subst eh23
                        subst eh47
                        first | (exfalso; omega) | exact sgn 3 (fun z => by have := of_decide_eq_true z; omega) (fun z => by have := of_decide_eq_true z; omega) (Or.inl ⟨rfl, decide_eq_true (by omega)⟩)
                      · skip
                        refine ⟨fun c24 => ?_, fun c24 => ?_⟩
                        · skip
                          intro h49 eh49 Xh49
                          subst eh1
                          subst eh22
                          subst eh23
                          subst eh49
                          first | (exfalso; omega) | exact sgn 4 (fun z => by have := of_decide_eq_true z; omega) (fun z => by have := of_decide_eq_true z; omega) (Or.inr ⟨rfl, fun z => by have := of_decide_eq_true z; omega⟩)
                        · skip
                          intro h50 eh50 Xh50
                          subst eh1
                          subst eh22
                          subst eh23
                          subst eh50
                          first | (exfalso; omega) | exact sgn 3 (fun z => by have := of_decide_eq_true z; omega) (fun z => by have := of_decide_eq_true z; omega) (Or.inl ⟨rfl, decide_eq_true (by omega)⟩)
                    · skip
                      intro h51 eh51 Xh51
                      subst eh1
                      subst eh22
                      subst eh23
                      subst eh51
                      first | (exfalso; omega) | exact sgn 3 (fun z => by have := of_decide_eq_true z; omega) (fun z => by have := of_decide_eq_true z; omega) (Or.inl ⟨rfl, decide_eq_true (by omega)⟩)
                · skip
                  intro h52 eh52 Xh52
                  subst eh1
                  subst eh22
                  subst eh23
                  subst eh52
                  first | (exfalso; omega) | exact sgn 3 (fun z => by have := of_decide_eq_true z; omega) (fun z => by have := of_decide_eq_true z; omega) (Or.inl ⟨rfl, decide_eq_true (by omega)⟩)
            · skip
              refine ⟨fun c25 => ?_, fun c25 => ?_⟩
              · skip
                intro h54 eh54 Xh54
                intro h55 eh55 Xh55
                refine ⟨fun c26 => ?_, fun c26 => ?_⟩
                · skip
                  refine ⟨fun c27 => ?_, fun c27 => ?_⟩
                  · skip
                    refine ⟨fun c28 => ?_, fun c28 => ?_⟩
                    · skip
                      intro h59 eh59 Xh59
                      subst eh1
                      subst eh54
                      subst eh55
                      subst eh59
                      first | (exfalso; omega) | exact sgn 3 (fun z => by have := of_decide_eq_true z; omega) (fun z => by have := of_decide_eq_true z; omega) (Or.inl ⟨rfl, decide_eq_true (by omega)⟩)
                    · skip
                      refine ⟨fun c29 => ?_, fun c29 => ?_⟩
                      · skip
                        intro h61 eh61 Xh61
                        subst eh1
                        subst eh54
                        subst eh55
                        subst eh61
                        first | (exfalso; omega) | exact sgn 4 (fun z => by have := of_decide_eq_true z; omega) (fun z => by have := of_decide_eq_true z; omega) (Or.inr ⟨rfl, fun z => by have := of_decide_eq_true z; omega⟩)
                      · skip
                        intro h62 eh62 Xh62
                        subst eh1
                        subst eh54
                        subst eh55
                        subst eh62
                        first | (exfalso; omega) | exact sgn 3 (fun z => by have := of_decide_eq_true z; omega) (fun z => by have := of_decide_eq_true z; omega) (Or.inl ⟨rfl, decide_eq_true (by omega)⟩)
                  · skip
                    refine ⟨fun c30 => ?_, fun c30 => ?_⟩
                    · skip
                      refine ⟨fun c31 => ?_, fun c31 => ?_⟩
                      · skip
                        intro h65 eh65 Xh65
                        subst eh1
                        subst eh54
                        subst eh55
                        subst eh65
                        first | (exfalso; omega) | exact sgn 3 (fun z => by have := of_decide_eq_true z; omega) (fun z => by have := of_decide_eq_true z; omega) (Or.inl ⟨rfl, decide_eq_true (by omega)⟩)
                      · skip
                        refine ⟨fun c32 => ?_, fun c32 => ?_⟩
                        · skip
                          intro h67 eh67 Xh67
                          subst eh1
                          subst eh54
                          subst eh55
                          subst eh67
                          first | (exfalso; omega) | exact sgn 4 (fun z => by have := of_decide_eq_true z; omega) (fun z => by have := of_decide_eq_true z; omega) (Or.inr ⟨rfl, fun z => by have := of_decide_eq_true z; omega⟩)
                        · skip
                          intro h68 eh68 Xh68
                          subst eh1
                          subst eh54
                          subst eh55
                          subst eh68
                          first | (exfalso; omega) | exact sgn 3 (fun z => by have := of_decide_eq_true z; omega) (fun z => by have := of_decide_eq_true z; omega) (Or.inl ⟨rfl, decide_eq_true (by omega)⟩)
                    · skip
                      intro h69 eh69 Xh69
                      subst eh1
                      subst eh54
                      subst eh55
                      subst eh69
                      first | (exfalso; omega) | exact sgn 3 (fun z => by have := of_decide_eq_true z; omega) (fun z => by have := of_decide_eq_true z; omega) (Or.inl ⟨rfl, decide_eq_true (by omega)⟩)
                · skip
                  refine ⟨fun c33 => ?_, fun c33 => ?_⟩
                  · skip
                    refine ⟨fun c34 => ?_, fun c34 => ?_⟩
                    · skip
                      refine ⟨fun c35 => ?_, fun c35 => ?_⟩
                      · skip
                        intro h73 eh73 Xh73
                        subst eh1
                        subst eh54
                        subst eh55
                        subst eh73
                        first | (exfalso; omega) | exact sgn 3 (fun z => by have := of_decide_eq_true z; omega) (fun z => by have := of_decide_eq_true z; omega) (Or.inl ⟨rfl, decide_eq_true (by omega)⟩)
                      · skip
                        refine ⟨fun c36 => ?_, fun c36 => ?_⟩
                        · skip
                          intro h75 eh75 Xh75
                          subst eh1
                          subst eh54
                          subst eh55
                          subst eh75
                          first | (exfalso; omega) | exact sgn 4 (fun z => by have := of_decide_eq_true z; omega) (fun z => by have := of_decide_eq_true z; omega) (Or.inr ⟨rfl, fun z => by have := of_decide_eq_true z; omega⟩)
                        · skip
                          intro h76 eh76 Xh76
                          subst eh1
                          subst eh54
                          subst eh55
                          subst eh76
                          first | (exfalso; omega) | exact sgn 3 (fun z => by have := of_decide_eq_true z; omega) (fun z => by have := of_decide_eq_true z; omega) (Or.inl ⟨rfl, decide_eq_true (by omega)⟩)
                    · skip
                      refine ⟨fun c37 => ?_, fun c37 => ?_⟩
                      · skip
                        refine ⟨fun c38 => ?_, fun c38 => ?_⟩
                        · skip
                          intro h79 eh79 Xh79
                          subst eh1
                          subst eh54
                          subst eh55
                          subst eh79
                          first | (exfalso; omega) | exact sgn 3 (fun z => by have := of_decide_eq_true z; omega) (fun z => by have := of_decide_eq_true z; omega) (Or.inl ⟨rfl, decide_eq_true (by omega)⟩)
                        · skip
                          refine ⟨fun c39 => ?_, fun c39 => ?_⟩
                          · skip
                            intro h81 eh81 Xh81
                            subst eh1
                            subst eh54
                            subst eh55
                            subst eh81
                            first | (exfalso; omega) | exact sgn 4 (fun z => by have := of_decide_eq_true z; omega) (fun z => by have := of_decide_eq_true z; omega) (Or.inr ⟨rfl, fun z => by have := of_decide_eq_true z; omega⟩)
                          · skip
                            intro h82 eh82 Xh82
                            subst eh1
                            subst eh54
                            subst eh55
                            subst eh82
                            first | (exfalso; omega) | exact sgn 3 (fun z => by have := of_decide_eq_true z; omega) (fun z => by have := of_decide_eq_true z; omega) (Or.inl ⟨rfl, decide_eq_true (by omega)⟩)
                      · skip
                        intro h83 eh83 Xh83
                        subst eh1
                        subst eh54
                        subst eh55
                        subst eh83
                        first | (exfalso; omega) | exact sgn 3 (fun z => by have := of_decide_eq_true z; omega) (fun z => by have := of_decide_eq_true z; omega) (Or.inl ⟨rfl, decide_eq_true (by omega)⟩)
                  · skip
                    intro h84 eh84 Xh84
                    subst eh1
                    subst eh54
                    subst eh55
                    subst eh84
                    first | (exfalso; omega) | exact sgn 3 (fun z => by have := of_decide_eq_true z; omega) (fun z => by have := of_decide_eq_true z; omega) (Or.inl ⟨rfl, decide_eq_true (by omega)⟩)
              · skip
                intro h85 eh85 Xh85
                subst eh1
                subst eh85
                exact dgt (fun z => by have := of_decide_eq_true z; omega) (decide_eq_true (by omega))
          · skip
            refine ⟨fun c40 => ?_, fun c40 => ?_⟩
            · skip
              refine ⟨fun c41 => ?_, fun c41 => ?_⟩
              · skip
                intro h88 eh88 Xh88
                intro h89 eh89 Xh89
                refine ⟨fun c42 => ?_, fun c42 => ?_⟩
                · skip
                  refine ⟨fun c43 => ?_, fun c43 => ?_⟩
                  · skip
                    refine ⟨fun c44 => ?_, fun c44 => ?_⟩
                    · skip
                      intro h93 eh93 Xh93
                      subst eh1
                      subst eh88
                      subst eh89
                      subst eh93
                      first | (exfalso; omega) | exact sgn 3 (fun z => by have := of_decide_eq_true z; omega) (fun z => by have := of_decide_eq_true z; omega) (Or.inl ⟨rfl, decide_eq_true (by omega)⟩)
                    · skip
                      refine ⟨fun c45 => ?_, fun c45 => ?_⟩
                      · skip
                        intro h95 eh95 Xh95
                        subst eh1
                        subst eh88
                        subst eh89
                        subst eh95
                        first | (exfalso; omega) | exact sgn 4 (fun z => by have := of_decide_eq_true z; omega) (fun z => by have := of_decide_eq_true z; omega) (Or.inr ⟨rfl, fun z => by have := of_decide_eq_true z; omega⟩)
                      · skip
                        intro h96 eh96 Xh96
                        subst eh1
                        subst eh88
                        subst eh89
                        subst eh96
                        first | (exfalso; omega) | exact sgn 3 (fun z => by have := of_decide_eq_true z; omega) (fun z => by have := of_decide_eq_true z; omega) (Or.inl ⟨rfl, decide_eq_true (by omega)⟩)
                  · skip
                    refine ⟨fun c46 => ?_, fun c46 => ?_⟩
                    · skip
                      refine ⟨fun c47 => ?_, fun c47 => ?_⟩
                      · skip
                        intro h99 eh99 Xh99
                        subst eh1
                        subst eh88
                        subst eh89
                        subst eh99
                        first | (exfalso; omega) | exact sgn 3 (fun z => by have := of_decide_eq_true z; omega) (fun z => by have := of_decide_eq_true z; omega) (Or.inl ⟨rfl, decide_eq_true (by omega)⟩)
                      · skip
                        refine ⟨fun c48 => ?_, fun c48 => ?_⟩
                        · skip
                          intro h101 eh101 Xh101
                          subst eh1
                          subst eh88
                          subst eh89
                          subst eh101
                          first | (exfalso; omega) | exact sgn 4 (fun z => by have := of_decide_eq_true z; omega) (fun z => by have := of_decide_eq_true z; omega) (Or.inr ⟨rfl, fun z => by have := of_decide_eq_true z; omega⟩)
                        · skip
                          intro h102 eh102 Xh102
                          subst eh1
                          subst eh88
                          subst eh89
                          subst eh102
                          first | (exfalso; omega) | exact sgn 3 (fun z => by have := of_decide_eq_true z; omega) (fun z => by have := of_decide_eq_true z; omega) (Or.inl ⟨rfl, decide_eq_true (by omega)⟩)
                    · skip
                      intro h103 eh103 Xh103
                      subst eh1
                      subst eh88
                      subst eh89
                      subst eh103
                      first | (exfalso; omega) | exact sgn 3 (fun z => by have := of_decide_eq_true z; omega) (fun z => by have := of_decide_eq_true z; omega) (Or.inl ⟨rfl, decide_eq_true (by omega)⟩)
                · skip
                  refine ⟨fun c49 => ?_, fun c49 => ?_⟩
                  · skip
                    refine ⟨fun c50 => ?_, fun c50 => ?_⟩
                    · skip
                      refine ⟨fun c51 => ?_, fun c51 => ?_⟩
                      · skip
                        intro h107 eh107 Xh107
                        subst eh1
                        subst eh88
                        subst eh89
                        subst eh107
                        first | (exfalso; omega) | exact sgn 3 (fun z => by have := of_decide_eq_true z; omega) (fun z => by have := of_decide_eq_true z; omega) (Or.inl ⟨rfl, decide_eq_true (by omega)⟩)
                      · skip
                        refine ⟨fun c52 => ?_, fun c52 => ?_⟩
                        · skip
                          intro h109 eh109 Xh109
                          subst eh1
                          subst eh88
                          subst eh89
                          subst eh109
                          first | (exfalso; omega) | exact sgn 4 (fun z => by have := of_decide_eq_true z; omega) (fun z => by have := of_decide_eq_true z; omega) (Or.inr ⟨rfl, fun z => by have := of_decide_eq_true z; omega⟩)
                        · skip
                          intro h110 eh110 Xh110
                          subst eh1
                          subst eh88
                          subst eh89
                          subst eh110
                          first | (exfalso; omega) | exact sgn 3 (fun z => by have := of_decide_eq_true z; omega) (fun z => by have := of_decide_eq_true z; omega) (Or.inl ⟨rfl, decide_eq_true (by omega)⟩)
                    · skip
                      refine ⟨fun c53 => ?_, fun c53 => ?_⟩
                      · skip
                        refine ⟨fun c54 => ?_, fun c54 => ?_⟩
                        · skip
                          intro h113 eh113 Xh113
                          subst eh1
                          subst eh88
                          subst eh89
                          subst eh113
                          first | (exfalso; omega) | exact sgn 3 (fun z => by have := of_decide_eq_true z; omega) (fun z => by have := of_decide_eq_true z; omega) (Or.inl ⟨rfl, decide_eq_true (by omega)⟩)
                        · skip
                          refine ⟨fun c55 => ?_, fun c55 => ?_⟩
                          · skip
                            intro h115 eh115 Xh115
                            subst eh1
                            subst eh88
                            subst eh89
                            subst eh115
                            first | (exfalso; omega) | exact sgn 4 (fun z => by have := of_decide_eq_true z; omega) (fun z => by have := of_decide_eq_true z; omega) (Or.inr ⟨rfl, fun z => by have := of_decide_eq_true z; omega⟩)
                          · skip
                            intro h116 eh116 Xh116
                            subst eh1
                            subst eh88
                            subst eh89
                            subst eh116
                            first | (exfalso; omega) | exact sgn 3 (fun z => by have := of_decide_eq_true z; omega) (fun z => by have := of_decide_eq_true z; omega) (Or.inl ⟨rfl, decide_eq_true (by omega)⟩)
                      · skip
                        intro h117 eh117 Xh117
                        subst eh1
                        subst eh88
                        subst eh89
                        subst eh117
                        first | (exfalso; omega) | exact sgn 3 (fun z => by have := of_decide_eq_true z; omega) (fun z => by have := of_decide_eq_true z; omega) (Or.inl ⟨rfl, decide_eq_true (by omega)⟩)
                  · skip
                    intro h118 eh118 Xh118
                    subst eh1
                    subst eh88
                    subst eh89
                    subst eh118
                    first | (exfalso; omega) | exact sgn 3 (fun z => by have := of_decide_eq_true z; omega) (fun z => by have := of_decide_eq_true z; omega) (Or.inl ⟨rfl, decide_eq_true (by omega)⟩)
              · skip
                refine ⟨fun c56 => ?_, fun c56 => ?_⟩
                · skip
                  intro h120 eh120 Xh120
                  intro h121 eh121 Xh121
                  refine ⟨fun c57 => ?_, fun c57 => ?_⟩
                  · skip
                    refine ⟨fun c58 => ?_, fun c58 => ?_⟩
                    · skip
                      refine ⟨fun c59 => ?_, fun c59 => ?_⟩
                      · skip
                        intro h125 eh125 Xh125
                        subst eh1
                        subst eh120
                        subst eh121
                        subst eh125
                        first | (exfalso; omega) | exact sgn 3 (fun z => by have := of_decide_eq_true z; omega) (fun z => by have := of_decide_eq_true z; omega) (Or.inl ⟨rfl, decide_eq_true (by omega)⟩)
                      · skip
                        refine ⟨fun c60 => ?_, fun c60 => ?_⟩
                        · skip
                          intro h127 eh127 Xh127
                          subst eh1
                          subst eh120
                          subst eh121
                          subst eh127
                          first | (exfalso; omega) | exact sgn 4 (fun z => by have := of_decide_eq_true z; omega) (fun z => by have := of_decide_eq_true z; omega) (Or.inr ⟨rfl, fun z => by have := of_decide_eq_true z; omega⟩)
                        · skip
                          intro h128 eh128 Xh128
                          subst eh1
                          subst eh120
                          subst eh121
                          subst eh128
                          first | (exfalso; omega) | exact sgn 3 (fun z => by have := of_decide_eq_true z; omega) (fun z => by have := of_decide_eq_true z; omega) (Or.inl ⟨rfl, decide_eq_true (by omega)⟩)
                    · skip
                      refine ⟨fun c61 => ?_, fun c61 => ?_⟩
                      · skip
                        refine ⟨fun c62 => ?_, fun c62 => ?_⟩
                        · skip
                          intro h131 eh131 Xh131
                          subst eh1
                          subst eh120
                          subst eh121
                          subst eh131
                          first | (exfalso; omega) | exact sgn 3 (fun z => by have := of_decide_eq_true z; omega) (fun z => by have := of_decide_eq_true z; omega) (Or.inl ⟨rfl, decide_eq_true (by omega)⟩)
                        · skip
                          refine ⟨fun c63 => ?_, fun c63 => ?_⟩
                          · skip
                            intro h133 eh133 Xh133
                            subst eh1
                            subst eh120
                            subst eh121
                            subst eh133
                            first | (exfalso; omega) | exact sgn 4 (fun z => by have := of_decide_eq_true z; omega) (fun z => by have := of_decide_eq_true z; omega) (Or.inr ⟨rfl, fun z => by have := of_decide_eq_true z; omega⟩)
                          · skip
                            intro h134 eh134 Xh134
                            subst eh1
                            subst eh120
                            subst eh121
                            subst eh134
                            first | (exfalso; omega) | exact sgn 3 (fun z => by have := of_decide_eq_true z; omega) (fun z => by have := of_decide_eq_true z; omega) (Or.inl ⟨rfl, decide_eq_true (by omega)⟩)
                      · skip
                        intro h135 eh135 Xh135
                        subst eh1
                        subst eh120
                        subst eh121
                        subst eh135
                        first | (exfalso; omega) | exact sgn 3 (fun z => by have := of_decide_eq_true z; omega) (fun z => by have := of_decide_eq_true z; omega) (Or.inl ⟨rfl, decide_eq_true (by omega)⟩)
                  · skip
                    refine ⟨fun c64 => ?_, fun c64 => ?_⟩
                    · skip
                      refine ⟨fun c65 => ?_, fun c65 => ?_⟩
                      · skip
                        refine ⟨fun c66 => ?_, fun c66 => ?_⟩
                        · skip
                          intro h139 eh139 Xh139
                          subst eh1
                          subst eh120
                          subst eh121
                          subst eh139
                          first | (exfalso; omega) | exact sgn 3 (fun z => by have := of_decide_eq_true z; omega) (fun z => by have := of_decide_eq_true z; omega) (Or.inl ⟨rfl, decide_eq_true (by omega)⟩)
                        · skip
                          refine ⟨fun c67 => ?_, fun c67 => ?_⟩
                          · skip
                            intro h141 eh141 Xh141
                            subst eh1
                            subst eh120
                            subst eh121
                            subst eh141
                            first | (exfalso; omega) | exact sgn 4 (fun z => by have := of_decide_eq_true z; omega) (fun z => by have := of_decide_eq_true z; omega) (Or.inr ⟨rfl, fun z => by have := of_decide_eq_true z; omega⟩)
                          · skip
                            intro h142 eh142 Xh142
                            subst eh1
                            subst eh120
                            subst eh121
                            subst eh142
                            first | (exfalso; omega) | exact sgn 3 (fun z => by have := of_decide_eq_true z; omega) (fun z => by have := of_decide_eq_true z; omega) (Or.inl ⟨rfl, decide_eq_true (by omega)⟩)
                      · skip
                        refine ⟨fun c68 => ?_, fun c68 => ?_⟩
                        · skip
                          refine ⟨fun c69 => ?_, fun c69 => ?_⟩
                          · skip
                            intro h145 eh145 Xh145
                            subst eh1
                            subst eh120
                            subst eh121
                            subst eh145
                            first | (exfalso; omega) | exact sgn 3 (fun z => by have := of_decide_eq_true z; omega) (fun z => by have := of_decide_eq_true z; omega) (Or.inl ⟨rfl, decide_eq_true (by omega)⟩)
                          · skip
                            refine ⟨fun c70 => ?_, fun c70 => ?_⟩
                            · skip
                              intro h147 eh147 Xh147
                              subst eh1
                              subst eh120
                              subst eh121
                              subst eh147
                              first | (exfalso; omega) | exact sgn 4 (fun z => by have := of_decide_eq_true z; omega) (fun z => by have := of_decide_eq_true z; omega) (Or.inr ⟨rfl, fun z => by have := of_decide_eq_true z; omega⟩)
                            · skip
                              intro h148 eh148 Xh148
                              subst eh1
                              subst eh120
                              subst eh121
                              subst eh148
                              first | (exfalso; omega) | exact sgn 3 (fun z => by have := of_decide_eq_true z; omega) (fun z => by have := of_decide_eq_true z; omega) (Or.inl ⟨rfl, decide_eq_true (by omega)⟩)
                        · skip
                          intro h149 eh149 Xh149
                          subst eh1
                          subst eh120
                          subst eh121
                          subst eh149
                          first | (exfalso; omega) | exact sgn 3 (fun z => by have := of_decide_eq_true z; omega) (fun z => by have := of_decide_eq_true z; omega) (Or.inl ⟨rfl, decide_eq_true (by omega)⟩)
                    · skip
                      intro h150 eh150 Xh150
                      subst eh1
                      subst eh120
                      subst eh121
                      subst eh150
                      first | (exfalso; omega) | exact sgn 3 (fun z => by have := of_decide_eq_true z; omega) (fun z => by have := of_decide_eq_true z; omega) (Or.inl ⟨rfl, decide_eq_true (by omega)⟩)
                · skip
                  intro h151 eh151 Xh151
                  exfalso; omega
            · skip
              intro h152 eh152 Xh152
              intro h153 eh153 Xh153
              subst eh1
              subst eh152
              subst eh153
              exact wrd (decide_eq_true (by omega))
      · skip
        intro h154 eh154 Xh154
        exfalso; omega
    · have := fin w
      intro h1 e1 _
      subst e1
      refine ⟨fun z => absurd z (nI_nlt w (by omega)), fun _ h154 e154 _ => ?_⟩
      subst e154
      exact this
  refine v_X8_next_8 (m.ly L) ?_
  rw [q3, q5, nI_leI (by omega) (by omega)]
  refine ⟨fun c => goon (by omega), fun c => ?_⟩
  obtain ⟨b1, b2⟩ := T2.2 q (by omega)
  have sp : (t q = 32 ∨ t q = 10) → ∀ h7 : ah_T, h7 = ah_wI g M 51 (nI q + (1 : Int32)) → ah_ext g h7 → MX G mi_X8_next (d + 1) 8 [some (rv M), none] [] h7 Q E := fun z h7 e7 _ => by
    have hs : tsp t q = true := by unfold tsp; rcases z with z | z <;> rw [z] <;> rfl
    subst e7
    refine KK (q + 1) _ (by show n - (q + 1) < n - q; omega) ⟨m.zI (by decide), by omega, by omega, ?_, ?_⟩
    · rw [rd_Ih, nI_1]
    · rw [← q6]; exact (rn_1 (by omega) hs).symm
  rw [nI_clamp (n := q) (by omega), b1, show (32 : Int32) = nI 32 from rfl, show (10 : Int32) = nI 10 from rfl, nI_eq (by omega) (by omega), nI_eq (by omega) (by omega)]
  refine ⟨vp_in_nI (by omega) (by decide), fun c2 => sp (Or.inr c2), fun c2 => ⟨fun c3 => goon (fun z => ?_), fun c3 => sp (Or.inl c3)⟩⟩
  have z2 : (t q == 32 || t q == 10) = true := z.2
  rcases Bool.or_eq_true_iff.1 z2 with w | w
  · exact c3 (eq_of_beq w)
  · exact c2 (eq_of_beq w)
end

/-! ===== tokens: the class's reader ===== -/
theorem ly0_5 {h : ah_T} {X : Nat} (L : LY0 h X) : LY5 h (X + 1431) := by
  refine ⟨ly0_K_1431 L, fun p hp => ?_⟩
  rw [show lyT5 = [(0, 6, 0, 1, 42, 500)] from rfl] at hp
  rw [List.mem_singleton.1 hp]
  exact ⟨ly0_K_1431 L, ly0_R_1431_0 L, ly0_K_1432 L, ly0_N_1432 L⟩
/-- the reader's own numbers alone were written -/
def rch (R : Nat) (h g : ah_T) : Prop := (g.1 = h.1 ∧ ah_kd g = ah_kd h ∧ ah_ln g = ah_ln h ∧ ah_R g = ah_R h) ∧ ∀ b k, (b ≠ R ∨ k < 3 ∨ 7 ≤ k) → ah_I g b k = ah_I h b k ∧ ah_J g b k = ah_J h b k
/-- the token that begins at p is at hand -/
def rdC (h : ah_T) (R n : Nat) (t : Nat → Nat) (p : Nat) : Prop := ah_I h R 2 = nI n ∧ ah_I h R 3 = nI (tS t n p) ∧ ah_I h R 4 = nI (tF t n p) ∧ ah_I h R 5 = nI (tE t n p) ∧ (3 ≤ tS t n p → ah_J h R 6 = lN (tV t n p))
def tpe (h : ah_T) (a n : Nat) (t : Nat → Nat) : Prop := n ≤ 500 ∧ ∀ k, k < n → ah_I h a k &&& (255 : Int32) = nI (t k) ∧ t k < 256
section
variable {G : ma_G} {d R n p : Nat} {h g g2 : ah_T} {t : Nat → Nat} {Q : Option ma_V → ah_T → Prop} {E : Nat → ah_T → Prop}
theorem rch.rf : rch R h h := ⟨⟨rfl, rfl, rfl, rfl⟩, fun _ _ _ => ⟨rfl, rfl⟩⟩
theorem rch.tr (x : rch R h g) (z : rch R g g2) : rch R h g2 := by
  obtain ⟨⟨x1, x2, x3, x4⟩, x5⟩ := x
  obtain ⟨⟨z1, z2, z3, z4⟩, z5⟩ := z
  exact ⟨⟨z1.trans x1, z2.trans x2, z3.trans x3, z4.trans x4⟩, fun b k p => ⟨(z5 b k p).1.trans (x5 b k p).1, (z5 b k p).2.trans (x5 b k p).2⟩⟩
theorem rch.wI (x : rch R h g) {k : Nat} {v : Int32} (h1 : 3 ≤ k) (h2 : k < 7) : rch R h (ah_wI g R k v) := x.tr ⟨⟨rfl, rfl, rfl, rfl⟩, fun b j q => ⟨by rw [rd_II, if_neg (by omega)], rfl⟩⟩
theorem rch.wJ (x : rch R h g) {k : Nat} {v : Int64} (h1 : 3 ≤ k) (h2 : k < 7) : rch R h (ah_wJ g R k v) := x.tr ⟨⟨rfl, rfl, rfl, rfl⟩, fun b j q => ⟨rfl, by rw [rd_JJ, if_neg (by omega)]⟩⟩
theorem rch.ext (x : rch R h g) : ah_ext h g := by
  obtain ⟨⟨x1, x2, x3, x4⟩, -⟩ := x
  exact ⟨Nat.le_of_eq (by show h.1.1 = g.1.1; rw [x1]), fun a _ => ⟨by rw [x2], by rw [x3], fun k _ _ => by rw [x4]⟩⟩
theorem rch.tp (x : rch R h g) (T : tpe h (R + 1) n t) : tpe g (R + 1) n t := ⟨T.1, fun k hk => by rw [(x.2 (R + 1) k (Or.inl (by omega))).1]; exact T.2 k hk⟩
theorem c_isSign {c : Nat} (hc : c < 256) (K : Q (some (iv (if tsg c = true then 1 else 0))) h) : MX G mi_X5_isSign d 0 [some (iv (nI c))] [] h Q E := by
  have k1 : tsg c = true → Q (some (iv 1)) h := fun q => by rw [if_pos q] at K; exact K
  have k0 : tsg c ≠ true → Q (some (iv 0)) h := fun q => by rw [if_neg q] at K; exact K
  refine v_X5_isSign ?_
  simp only [i3_eq, nI_x (show c < 2147483648 by omega), Int32.reduceToInt]
  refine ⟨fun c1 => ?_, fun c1 => ?_⟩
  · skip
    exact k1 (by unfold tsg; exact decide_eq_true (by omega))
  · skip
    refine ⟨fun c2 => ?_, fun c2 => ?_⟩
    · skip
      exact k1 (by unfold tsg; exact decide_eq_true (by omega))
    · skip
      refine ⟨fun c3 => ?_, fun c3 => ?_⟩
      · skip
        exact k1 (by unfold tsg; exact decide_eq_true (by omega))
      · skip
        refine ⟨fun c4 => ?_, fun c4 => ?_⟩
        · skip
          exact k1 (by unfold tsg; exact decide_eq_true (by omega))
        · skip
          refine ⟨fun c5 => ?_, fun c5 => ?_⟩
          · skip
            exact k1 (by unfold tsg; exact decide_eq_true (by omega))
          · skip
            refine ⟨fun c6 => ?_, fun c6 => ?_⟩
            · skip
              exact k1 (by unfold tsg; exact decide_eq_true (by omega))
            · skip
              refine ⟨fun c7 => ?_, fun c7 => ?_⟩
              · skip
                exact k1 (by unfold tsg; exact decide_eq_true (by omega))
              · skip
                refine ⟨fun c8 => ?_, fun c8 => ?_⟩
                · skip
                  exact k1 (by unfold tsg; exact decide_eq_true (by omega))
                · skip
                  refine ⟨fun c9 => ?_, fun c9 => ?_⟩
                  · skip
                    exact k1 (by unfold tsg; exact decide_eq_true (by omega))
                  · skip
                    refine ⟨fun c10 => ?_, fun c10 => ?_⟩
                    · skip
                      exact k1 (by unfold tsg; exact decide_eq_true (by omega))
                    · skip
                      refine ⟨fun c11 => ?_, fun c11 => ?_⟩
                      · skip
                        exact k1 (by unfold tsg; exact decide_eq_true (by omega))
                      · skip
                        refine ⟨fun c12 => ?_, fun c12 => ?_⟩
                        · skip
                          exact k1 (by unfold tsg; exact decide_eq_true (by omega))
                        · skip
                          refine ⟨fun c13 => ?_, fun c13 => ?_⟩
                          · skip
                            exact k0 (by unfold tsg; exact fun z => by have := of_decide_eq_true z; omega)
                          · skip
                            exact k1 (by unfold tsg; exact decide_eq_true (by omega))
theorem c_next_129 {f : Nat} (hf : tdg t f = true) (L : LY5 h R) (T : tpe h (R + 1) n t) (hfn : f < n) (e2 : ah_I h R 2 = nI n) (e4 : ah_I h R 4 = nI f) (e5 : ah_I h R 5 = nI f) (e6 : ah_J h R 6 = 0)
    (K : ∀ g, rch R h g → ah_I g R 3 = nI (if rn (tdg t) n f - f ≤ 6 then 3 else 1) → ah_I g R 4 = nI f → ah_I g R 5 = nI (rn (tdg t) n f) → (rn (tdg t) n f - f ≤ 6 → ah_J g R 6 = lN (tnv t f (rn (tdg t) n f - f))) → Q none g) :
    MX G mi_X5_next (d + 1) 129 [some (rv R), none] [] h Q E := by
  have n5 := T.1
  refine mx_ind (α := Nat) (fun _ => [some (rv R), none]) (fun q g => rch R h g ∧ f ≤ q ∧ q ≤ n ∧ ah_I g R 4 = nI f ∧ ah_I g R 5 = nI q ∧ rn (tdg t) n q = rn (tdg t) n f ∧ (∀ k, f ≤ k → k < q → tdg t k = true) ∧ (q - f ≤ 6 → ah_J g R 6 = lN (tnv t f (q - f)) ∧ tnv t f (q - f) < 10 ^ (q - f))) (fun q => n - q) (fun q g hI KK => ?_) f h ⟨rch.rf, Nat.le_refl _, by omega, e4, e5, rfl, fun k a b => by omega, fun _ => by rw [Nat.sub_self]; exact ⟨e6, by show 0 < 1; omega⟩⟩
  obtain ⟨m, q1, q2, q4, q5, q6, q7, q8⟩ := hI
  have q3 : ah_I g R 2 = nI n := by rw [(m.2 R 2 (by omega)).1]; exact e2
  have T2 := m.tp T
  have fin : ¬ (q < n ∧ tdg t q = true) → (nI q - nI f ≤ (6 : Int32) → ∀ h3 : ah_T, h3 = ah_wI g R 3 (3 : Int32) → ah_ext g h3 → Q none h3) ∧ (¬ nI q - nI f ≤ (6 : Int32) → ∀ h4 : ah_T, h4 = ah_wI g R 3 (1 : Int32) → ah_ext g h4 → Q none h4) := fun z => by
    have rq : rn (tdg t) n f = q := by rw [← q6]; exact rn_0 z
    rw [pk_sub q1, show (6 : Int32) = nI 6 from rfl, nI_leI (by omega) (by omega)]
    refine ⟨fun w h3 e3 _ => ?_, fun w h3 e3 _ => ?_⟩
    · subst e3
      refine K _ (m.wI (by decide) (by decide)) ?_ ?_ ?_ ?_
      · rw [rd_Ih, rq, if_pos w]; rfl
      · rw [rd_Ik (by decide)]; exact q4
      · rw [rd_Ik (by decide), rq]; exact q5
      · rw [rq]; exact fun _ => (q8 w).1
    · subst e3
      refine K _ (m.wI (by decide) (by decide)) ?_ ?_ ?_ ?_
      · rw [rd_Ih, rq, if_neg w]; rfl
      · rw [rd_Ik (by decide)]; exact q4
      · rw [rd_Ik (by decide), rq]; exact q5
      · rw [rq]; exact fun z => absurd z w
  refine v_X5_next_129 (L.ext m.ext) ?_
  rw [q3, q5, q4, nI_leI (by omega) (by omega)]
  refine ⟨fun c => fin (by omega), fun c => ?_⟩
  obtain ⟨b1, b2⟩ := T2.2 q (by omega)
  rw [nI_clamp (n := q) (by omega), b1, show (48 : Int32) = nI 48 from rfl, show (57 : Int32) = nI 57 from rfl, nI_ltI (by omega) (by omega), nI_ltI (by omega) (by omega)]
  refine ⟨vp_in_nI (by omega) (by decide), fun c2 => fin (fun z => ?_), fun c2 => ⟨fun c3 => fin (fun z => ?_), fun c3 => ?_⟩⟩
  · have := of_decide_eq_true z.2; omega
  · have := of_decide_eq_true z.2; omega
  · intro h14 e14 _ h15 e15 _
    have hd : tdg t q = true := decide_eq_true (by omega)
    subst e14; subst e15
    refine KK (q + 1) _ (by show n - (q + 1) < n - q; omega) ⟨(m.wJ (by decide) (by decide)).wI (by decide) (by decide), by omega, by omega, ?_, ?_, ?_, fun k k1 k2 => ?_, fun w => ?_⟩
    · rw [rd_Ik (by decide), rd_IJ]; exact q4
    · rw [rd_Ih, nI_1]
    · rw [← q6]; exact (rn_1 (by omega) hd).symm
    · by_cases e : k = q
      · subst e; exact hd
      · exact q7 k k1 (by omega)
    · obtain ⟨r1, r2⟩ := q8 (by omega)
      have r3 : (10 : Nat) ^ (q - f) ≤ 10 ^ 5 := Nat.pow_le_pow_right (by omega) (by omega)
      have e1 : q + 1 - f = (q - f) + 1 := by omega
      have e2 : f + (q - f) = q := by omega
      have e3 : tnv t f (q + 1 - f) = 10 * tnv t f (q - f) + (t q - 48) := by rw [e1, tnv, e2]
      have p1 : (10 : Nat) ^ (q + 1 - f) = 10 ^ (q - f) * 10 := by rw [e1, Nat.pow_succ]
      rw [rd_JI, rd_Jh, r1, nI_l (by omega), show (10 : Int64) = lN 10 from rfl, show (48 : Int64) = lN 48 from rfl, lN_mul, lN_add, lN_sub (by omega), e3]
      refine ⟨?_, by omega⟩
      unfold jMin
      rw [show (10000000 : Int64) = lN 10000000 from rfl, if_pos ((lN_lt (by omega) (by omega)).2 (by omega))]
      congr 1
      omega
theorem c_next_82 {f : Nat} (L : LY5 h R) (T : tpe h (R + 1) n t) (hfn : f ≤ n) (e2 : ah_I h R 2 = nI n) (e4 : ah_I h R 4 = nI f) (e5 : ah_I h R 5 = nI f)
    (K : ∀ g, rch R h g → ah_I g R 3 = 2 → ah_I g R 4 = nI f → ah_I g R 5 = nI (rn (tlt t) n f) → Q none g) :
    MX G mi_X5_next (d + 1) 82 [some (rv R), none] [] h Q E := by
  have n5 := T.1
  refine mx_ind (α := Nat) (fun _ => [some (rv R), none]) (fun q g => rch R h g ∧ f ≤ q ∧ q ≤ n ∧ ah_I g R 4 = nI f ∧ ah_I g R 5 = nI q ∧ rn (tlt t) n q = rn (tlt t) n f) (fun q => n - q) (fun q g hI KK => ?_) f h ⟨rch.rf, Nat.le_refl _, by omega, e4, e5, rfl⟩
  obtain ⟨m, q1, q2, q4, q5, q6⟩ := hI
  have q3 : ah_I g R 2 = nI n := by rw [(m.2 R 2 (by omega)).1]; exact e2
  have T2 := m.tp T
  have fin : ¬ (q < n ∧ tlt t q = true) → ∀ h3 : ah_T, h3 = ah_wI g R 3 (2 : Int32) → ah_ext g h3 → Q none h3 := fun z h3 e3 _ => by
    have rq : rn (tlt t) n f = q := by rw [← q6]; exact rn_0 z
    subst e3
    refine K _ (m.wI (by decide) (by decide)) rd_Ih ?_ ?_
    · rw [rd_Ik (by decide)]; exact q4
    · rw [rd_Ik (by decide), rq]; exact q5
  refine v_X5_next_82 (L.ext m.ext) ?_
  rw [q3, q5, nI_leI (by omega) (by omega)]
  refine ⟨fun c => fin (by omega), fun c => ?_⟩
  obtain ⟨b1, b2⟩ := T2.2 q (by omega)
  rw [nI_clamp (n := q) (by omega), b1, show (97 : Int32) = nI 97 from rfl, show (122 : Int32) = nI 122 from rfl, nI_ltI (by omega) (by omega), nI_ltI (by omega) (by omega)]
  refine ⟨vp_in_nI (by omega) (by decide), fun c2 => fin (fun z => ?_), fun c2 => ⟨fun c3 => fin (fun z => ?_), fun c3 => ?_⟩⟩
  · have := of_decide_eq_true z.2; omega
  · have := of_decide_eq_true z.2; omega
  · intro h8 e8 _
    have hd : tlt t q = true := decide_eq_true (by omega)
    subst e8
    refine KK (q + 1) _ (by show n - (q + 1) < n - q; omega) ⟨m.wI (by decide) (by decide), by omega, by omega, ?_, ?_, ?_⟩
    · rw [rd_Ik (by decide)]; exact q4
    · rw [rd_Ih, nI_1]
    · rw [← q6]; exact (rn_1 (by omega) hd).symm
theorem c_next (L : LY5 h R) (T : tpe h (R + 1) n t) (hp : p ≤ n) (e2 : ah_I h R 2 = nI n) (e5 : ah_I h R 5 = nI p) (K : ∀ g, rch R h g → rdC g R n t p → Q none g) :
    MX G mi_X5_next (d + 1) 0 [some (rv R), none] [] h Q E := by
  have n5 := T.1
  refine mx_ind (α := Nat) (fun _ => [some (rv R), none]) (fun q g => rch R h g ∧ p ≤ q ∧ q ≤ n ∧ ah_I g R 5 = nI q ∧ rn (tsp t) n q = tF t n p) (fun q => n - q) (fun q g hI KK => ?_) p h ⟨rch.rf, Nat.le_refl _, hp, e5, rfl⟩
  obtain ⟨m, q1, q2, q5, q6⟩ := hI
  have q3 : ah_I g R 2 = nI n := by rw [(m.2 R 2 (by omega)).1]; exact e2
  have T2 := m.tp T
  refine v_X5_next (L.ext m.ext) ?_
  rw [q3, q5, nI_leI (by omega) (by omega)]
  refine ⟨fun c => ?_, fun c => ?_⟩
  · intro h2 e2' _ h3 e3 _ h4 e4 _
    have rq : tF t n p = q := by rw [← q6]; exact rn_0 (by omega)
    subst e2'; subst e3; subst e4
    have s0 : tS t n p = 0 := by unfold tS; rw [rq, if_pos c]
    have s1 : tE t n p = q := by unfold tE; rw [rq, if_pos c]
    refine K _ (((m.wI (by decide) (by decide)).wJ (by decide) (by decide)).wI (by decide) (by decide)) ⟨?_, ?_, ?_, ?_, fun z => absurd z (by rw [s0]; decide)⟩
    · rw [rd_Ik (by decide), rd_IJ, rd_Ik (by decide)]; exact q3
    · rw [rd_Ih, s0]; rfl
    · rw [rd_Ik (by decide), rd_IJ, rd_Ih, rq]
    · rw [rd_Ik (by decide), rd_IJ, rd_Ik (by decide), s1]; exact q5
  · obtain ⟨b1, b2⟩ := T2.2 q (by omega)
    have sp : (t q = 32 ∨ t q = 10) → ∀ h7 : ah_T, h7 = ah_wI g R 5 (nI q + (1 : Int32)) → ah_ext g h7 → MX G mi_X5_next (d + 1) 0 [some (rv R), none] [] h7 Q E := fun z h7 e7 _ => by
      have hs : tsp t q = true := by unfold tsp; rcases z with z | z <;> rw [z] <;> rfl
      subst e7
      refine KK (q + 1) _ (by show n - (q + 1) < n - q; omega) ⟨m.wI (by decide) (by decide), by omega, by omega, ?_, ?_⟩
      · rw [rd_Ih, nI_1]
      · rw [← q6]; exact (rn_1 (by omega) hs).symm
    rw [nI_clamp (n := q) (by omega), b1, show (32 : Int32) = nI 32 from rfl, show (10 : Int32) = nI 10 from rfl, show (97 : Int32) = nI 97 from rfl, show (122 : Int32) = nI 122 from rfl, show (48 : Int32) = nI 48 from rfl, show (57 : Int32) = nI 57 from rfl, nI_ltI (by omega) (by omega), nI_ltI (by omega) (by omega), nI_ltI (by omega) (by omega), nI_ltI (by omega) (by omega), nI_eq (by omega) (by omega), nI_eq (by omega) (by omega)]
    refine ⟨vp_in_nI (by omega) (by decide), fun c2 => sp (Or.inl c2), fun c2 => ⟨fun c3 => ?_, fun c3 => sp (Or.inr c3)⟩⟩
    intro h9 e9 _ h10 e10 _
    have rq : tF t n p = q := by
      rw [← q6]
      refine rn_0 (fun z => ?_)
      have z2 : (t q == 32 || t q == 10) = true := z.2
      rcases Bool.or_eq_true_iff.1 z2 with w | w
      · exact c2 (eq_of_beq w)
      · exact c3 (eq_of_beq w)
    have hnq : ¬ n ≤ tF t n p := by rw [rq]; omega
    have m10 : rch R h h10 := by rw [e10, e9]; exact (m.wI (by decide) (by decide)).wJ (by decide) (by decide)
    have x2 : ah_I h10 R 2 = nI n := by rw [e10, e9, rd_IJ, rd_Ik (by decide)]; exact q3
    have x4 : ah_I h10 R 4 = nI q := by rw [e10, e9, rd_IJ, rd_Ih]
    have x5 : ah_I h10 R 5 = nI q := by rw [e10, e9, rd_IJ, rd_Ik (by decide)]; exact q5
    have x6 : ah_J h10 R 6 = lN (t q) := by rw [e10, rd_Jh, nI_l (by omega)]
    have L10 := L.ext m10.ext
    have T10 := m10.tp T
    clear e9 e10
    have sg : tlt t q ≠ true → tdg t q ≠ true → ∀ h14 : ah_T, h14 = ah_wI h10 R 5 (nI q + (1 : Int32)) → ah_ext h10 h14 → MX G mi_X5_isSign d 0 [some (iv (nI (t q)))] [] h14 (Qi fun r16 h15 => ah_ext h14 h15 → (r16 = 0 → ∀ h18 : ah_T, h18 = ah_wI h15 R 3 (1 : Int32) → ah_ext h15 h18 → Q none h18) ∧ (¬ r16 = 0 → ∀ h19 : ah_T, h19 = ah_wI h15 R 3 (4 : Int32) → ah_ext h15 h19 → Q none h19)) E := fun z1 z2 h14 e14 _ => by
      subst e14
      have s1 : tE t n p = q + 1 := by unfold tE; rw [if_neg hnq, rq, if_neg z1, if_neg z2]
      have s2 : tV t n p = t q := by unfold tV; rw [rq, if_neg z2]
      refine c_isSign b2 ?_
      intro _
      by_cases w : tsg (t q) = true
      · rw [if_pos w]
        have s0 : tS t n p = 4 := by unfold tS; rw [if_neg hnq, rq, if_neg z1, if_neg z2, if_pos w]
        refine ⟨fun z => absurd z (by decide), fun _ h19 e19 _ => ?_⟩
        subst e19
        refine K _ ((m10.wI (by decide) (by decide)).wI (by decide) (by decide)) ⟨?_, ?_, ?_, ?_, fun _ => ?_⟩
        · rw [rd_Ik (by decide), rd_Ik (by decide)]; exact x2
        · rw [rd_Ih, s0]; rfl
        · rw [rd_Ik (by decide), rd_Ik (by decide), rq]; exact x4
        · rw [rd_Ik (by decide), rd_Ih, s1, nI_1]
        · rw [rd_JI, rd_JI, s2]; exact x6
      · rw [if_neg w]
        have s0 : tS t n p = 1 := by unfold tS; rw [if_neg hnq, rq, if_neg z1, if_neg z2, if_neg w]
        refine ⟨fun _ h19 e19 _ => ?_, fun z => absurd rfl z⟩
        subst e19
        refine K _ ((m10.wI (by decide) (by decide)).wI (by decide) (by decide)) ⟨?_, ?_, ?_, ?_, fun z => absurd z (by rw [s0]; decide)⟩
        · rw [rd_Ik (by decide), rd_Ik (by decide)]; exact x2
        · rw [rd_Ih, s0]; rfl
        · rw [rd_Ik (by decide), rd_Ik (by decide), rq]; exact x4
        · rw [rd_Ik (by decide), rd_Ih, s1, nI_1]
    have dg : tlt t q ≠ true → tdg t q = true → ∀ h27 : ah_T, h27 = ah_wJ h10 R 6 (0 : Int64) → ah_ext h10 h27 → MX G mi_X5_next (d + 1) 129 [some (rv R), none] [] h27 Q E := fun z1 z2 h27 e27 _ => by
      subst e27
      have m27 : rch R h (ah_wJ h10 R 6 0) := m10.wJ (by decide) (by decide)
      have s1 : tE t n p = rn (tdg t) n q := by unfold tE; rw [if_neg hnq, rq, if_neg z1, if_pos z2]
      have s0 : tS t n p = if rn (tdg t) n q - q ≤ 6 then 3 else 1 := by unfold tS; rw [if_neg hnq, s1, rq, if_neg z1, if_pos z2]
      have s2 : tV t n p = tnv t q (rn (tdg t) n q - q) := by unfold tV; rw [s1, rq, if_pos z2]
      refine c_next_129 z2 (L.ext m27.ext) (m27.tp T) (by omega) (by rw [rd_IJ]; exact x2) (by rw [rd_IJ]; exact x4) (by rw [rd_IJ]; exact x5) rd_Jh (fun g5 m5 y3 y4 y5 y6 => ?_)
      refine K g5 (m27.tr m5) ⟨?_, ?_, ?_, ?_, fun z => ?_⟩
      · rw [(m5.2 R 2 (by omega)).1, rd_IJ]; exact x2
      · rw [s0]; exact y3
      · rw [rq]; exact y4
      · rw [s1]; exact y5
      · rw [s2]
        refine y6 ?_
        rw [s0] at z
        by_cases w : rn (tdg t) n q - q ≤ 6
        · exact w
        · rw [if_neg w] at z; omega
    refine ⟨fun _ => ⟨fun d1 => ⟨fun d2 => sg (fun z => by have := of_decide_eq_true z; omega) (fun z => by have := of_decide_eq_true z; omega), fun d2 => ⟨fun d3 => sg (fun z => by have := of_decide_eq_true z; omega) (fun z => by have := of_decide_eq_true z; omega), fun d3 => dg (fun z => by have := of_decide_eq_true z; omega) (decide_eq_true (by omega))⟩⟩, fun d1 => ⟨fun d2 => ⟨fun d3 => sg (fun z => by have := of_decide_eq_true z; omega) (fun z => by have := of_decide_eq_true z; omega), fun d3 => ⟨fun d4 => sg (fun z => by have := of_decide_eq_true z; omega) (fun z => by have := of_decide_eq_true z; omega), fun d4 => by omega⟩⟩, fun d2 => ?_⟩⟩, fun z => absurd z (by rw [i3_eq, nI_x (by omega), tm_1]; omega)⟩
    have hl : tlt t q = true := decide_eq_true (by omega)
    have s1 : tE t n p = rn (tlt t) n q := by unfold tE; rw [if_neg hnq, rq, if_pos hl]
    have s0 : tS t n p = 2 := by unfold tS; rw [if_neg hnq, rq, if_pos hl]
    refine c_next_82 L10 T10 (by omega) x2 x4 x5 (fun g5 m5 y3 y4 y5 => ?_)
    refine K g5 (m10.tr m5) ⟨?_, ?_, ?_, ?_, fun z => absurd z (by rw [s0]; decide)⟩
    · rw [(m5.2 R 2 (by omega)).1]; exact x2
    · rw [s0]; exact y3
    · rw [rq]; exact y4
    · rw [s1]; exact y5
end

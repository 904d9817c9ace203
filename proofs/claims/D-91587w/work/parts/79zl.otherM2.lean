/-! ===== events that take, all: the model ===== -/
section
variable {o : Nat → Int32} {b m f j : Nat} {w q : Nat → Nat}
theorem sd3_v (hm : m ≤ 20) (ho : o (b + f) = nI (w f)) (hq : q f ≤ w f) (hz : m ≤ f → q f = 0) : sd3 o b m q (b + f) = nI (w f - q f) := by
  unfold sd3
  by_cases c : f < m
  · rw [if_pos (by omega), ho, show b + f - b = f by omega, pk_sub hq]
  · rw [if_neg (by omega), ho, hz (by omega)]; rfl
theorem ad3_v (hm : m ≤ 20) (ho : o (b + f) = nI (w f)) (hz : m ≤ f → q f = 0) : ad3 o b m q (b + f) = nI (w f + q f) := by
  unfold ad3
  by_cases c : f < m
  · rw [if_pos (by omega), ho, show b + f - b = f by omega, nI_add]
  · rw [if_neg (by omega), ho, hz (by omega)]; rfl
theorem sd3_o (hm : m ≤ 20) (h : ¬ (b ≤ j ∧ j < b + 20)) : sd3 o b m q j = o j := if_neg (by omega)
theorem ad3_o (hm : m ≤ 20) (h : ¬ (b ≤ j ∧ j < b + 20)) : ad3 o b m q j = o j := if_neg (by omega)
end
section
variable {G : ma_G} {d M k n m e y b : Nat} {P P' : PS} {h g g2 : ah_T} {S : MS} {tx : Nat → List Nat × List PD} {kn : Int32} {Q : Option ma_V → ah_T → Prop} {E : Nat → ah_T → Prop}
theorem m_playOther (L : LY8 h M) (kS : kq S (mv h M)) (W : WF S) (B : WB S) (hk : k < nV S) (h0 : S.1 9 k ≠ 0) (C : MPl h M P) (pz : ∀ e j f, e < 15 → nF S ≤ f → f < 20 → P e j f = 0) (bs : sN (P (tkS (evS S tx kn) k) (evS S tx kn 4 k)) 20 < 2147483648)
    (K : ∀ g, mch [23, 24, 26, 30, 31, 32, 33, 34] [39] M h g → MPl g M (tkP (evS S tx kn) k P) → ah_I g (M + 26) k = nI (tkN (evS S tx kn) k P) → (∀ j, j ≠ k → ah_I g (M + 26) j = ah_I h (M + 26) j) → Q none g) :
    MX G mi_X8_playOther (d + 2) 0 [some (rv M), some (iv (nI k)), none, none, none, none] [] h Q E := by
  have v120 := B.2.2
  have e8 := B.2.1
  have f20 := B.1
  obtain ⟨x0, x2, x5, x5', xg, xg', yy, yy', x4, oo⟩ := ev_tk (tx := tx) (kn := kn) W B hk h0
  generalize hEV : evS S tx kn = EV at *
  have w4 : EV 4 k < 60 := by omega
  have hS : tkS EV k < 10 := by unfold tkS; split <;> omega
  have b3 : EV 0 k = 1 → EV 3 k < 2 := fun q => by omega
  have s20 : sN (P (tkS EV k) (EV 4 k)) 20 = sN (P (tkS EV k) (EV 4 k)) (nF S) := sN_cut f20 (fun i h1 h2 => pz _ _ _ (by omega) h1 h2)
  have eN : min (EV 5 k) (sN (P (tkS EV k) (EV 4 k)) (nF S)) = tkN EV k P := by unfold tkN; rw [s20]
  have eR : spl (nF S) (P (tkS EV k) (EV 4 k)) (tkN EV k P) = tkR EV k P := (spl_cut f20 (fun f h1 h2 => pz _ _ _ (by omega) h1 h2)).symm
  have rl : ∀ f, f < 20 → tkR EV k P f ≤ P (tkS EV k) (EV 4 k) f := fun f hf => tkR_le hf
  have rz : ∀ f, f < 20 → nF S ≤ f → tkR EV k P f = 0 := fun f hf hm => by
    have := rl f hf
    have := pz (tkS EV k) (EV 4 k) f (by omega) hm hf
    omega
  have ix : (20 : Int32) * (((6 : Int32) * S.1 11 k + S.1 13 k) * (10 : Int32) + S.1 14 k) = nI (20 * (60 * EV 2 k + EV 4 k)) := by
    rw [x2, xg, yy, binAt_n, ← x4]
  have l5 : ah_I h M 5 = nI (nF S) := (kS.z 5 (by decide) (by decide)).trans W.1.1
  -- the bin is taken from; then by the kind
  have key : ∀ x3 a, ((x3 = 0 ∧ a = 23 ∧ EV 0 k ≠ 2) ∨ (x3 = 1 ∧ a = 24 ∧ EV 0 k = 2)) → (∀ g, mch [26, 32, 33, 34] [39] M h g → ah_I g M 39 = nI (P 15 0 0 + (EV 5 k - tkN EV k P)) → (∀ f, f < nF S → ah_J g (M + 33) f = lN (tkR EV k P f)) → ah_I g (M + 26) k = nI (tkN EV k P) → (∀ j, j ≠ k → ah_I g (M + 26) j = ah_I h (M + 26) j) → MX G mi_X8_playOther (d + 1 + 1) 59 [some (rv M), some (iv (nI k)), some (iv (nI x3)), some (iv (nI (20 * (60 * EV 2 k + EV 4 k)))), some (iv (0 : Int32)), none] [] g Q E) → MX G mi_X8_playOther (d + 1 + 1) 15 [some (rv M), some (iv (nI k)), none, none, none, none] [iv (nI x3)] h Q E := fun x3 a ha KK => by
    refine v_X8_playOther_15 (d := d + 1) L ?_
    rw [nI_clamp (n := k) (by omega), kS.r 11 _ (by decide), kS.r 13 _ (by decide), kS.r 14 _ (by decide), kS.r 15 _ (by decide), ix, x5]
    refine ⟨vp_in_nI (by omega) (by decide), ?_⟩
    refine m_takeBin (d := d) (a := a) (w := P (tkS EV k) (EV 4 k)) (l := P 15 0 0) L l5 f20 ?_ (fun f hf => ?_) (by omega) (by omega) C.2.2.2 (fun g z z39 hT => ?_)
    · rcases ha with ⟨q1, q2, q3⟩ | ⟨q1, q2, q3⟩
      · exact Or.inl ⟨q1, q2, by omega⟩
      · exact Or.inr ⟨q1, q2, by omega⟩
    · rcases ha with ⟨q1, q2, q3⟩ | ⟨q1, q2, q3⟩
      · have : tkS EV k = EV 2 k := by unfold tkS; rw [if_neg q3]
        rw [q2, this]; exact C.1 _ _ _ (by omega) w4 (by omega)
      · have : tkS EV k = 8 + EV 2 k := by unfold tkS; rw [if_pos q3]
        rw [q2, this]; exact C.2.1 _ _ _ (by omega) w4 (by omega)
    · intro _ h4 e4 _
      rw [eN] at z39 e4
      rw [eN, eR] at hT
      refine KK h4 (by rw [e4]; exact (z.mono (by decide) (by decide)).wI (by decide)) (by rw [e4, rd_Ia (by omega)]; exact z39) (fun f hf => by rw [e4]; exact hT f hf) (by rw [e4, rd_II, if_pos ⟨rfl, rfl⟩]) (fun j hj => ?_)
      rw [e4, rd_II, if_neg (fun q => hj q.2)]
      exact z.ar 26 (by decide) (by decide) j
  -- what each kind leaves
  have so : ah_I h (M + 9) k = S.1 9 k := kS.r 9 _ (by decide)
  have fin : ∀ g gg, mch [26, 32, 33, 34] [39] M h g → ah_I g M 39 = nI (P 15 0 0 + (EV 5 k - tkN EV k P)) → ah_I g (M + 26) k = nI (tkN EV k P) → (∀ j, j ≠ k → ah_I g (M + 26) j = ah_I h (M + 26) j) → mch [23, 24, 30, 31] [] M g gg → (∀ e y f, e < 8 → y < 60 → f < 20 → ah_I gg (M + 23) (20 * (60 * e + y) + f) = nI (tkP EV k P e y f)) → (∀ e y f, e < 2 → y < 60 → f < 20 → ah_I gg (M + 24) (20 * (60 * e + y) + f) = nI (tkP EV k P (8 + e) y f)) → (∀ f, f < 20 → ah_I gg (M + 30) f = nI (tkP EV k P 13 0 f)) → (∀ f, f < 20 → ah_I gg (M + 31) f = nI (tkP EV k P 14 0 f)) → Q none gg := fun g gg z z39 t26 u26 zz m1 m2 m3 m4 => by
    refine K gg ((z.mono (by decide) (by decide)).tr (zz.mono (by decide) (by decide))) ⟨m1, m2, fun i f hi hf => ?_, ?_⟩ ?_ (fun j hj => ?_)
    · have : i = 0 ∨ i = 1 ∨ i = 2 ∨ i = 3 := by omega
      rcases this with q | q | q | q <;> subst q
      · show ah_I gg (M + 28) f = nI (tkP EV k P 11 0 f)
        rw [tkP_o hS b3 (by omega), zz.ar 28 (by decide) (by decide), z.ar 28 (by decide) (by decide)]; exact C.2.2.1 0 f hi hf
      · show ah_I gg (M + 29) f = nI (tkP EV k P 12 0 f)
        rw [tkP_o hS b3 (by omega), zz.ar 29 (by decide) (by decide), z.ar 29 (by decide) (by decide)]; exact C.2.2.1 1 f hi hf
      · exact m3 f hf
      · exact m4 f hf
    · rw [tkP_15, rad_s, zz.sc 39 (by decide) (by decide)]; exact z39
    · rw [zz.ar 26 (by decide) (by decide)]; exact t26
    · rw [zz.ar 26 (by decide) (by decide)]; exact u26 j hj
  have B23 : ∀ g, mch [26, 32, 33, 34] [39] M h g → ∀ e y f, e < 8 → y < 60 → f < 20 → ah_I g (M + 23) (20 * (60 * e + y) + f) = nI (P e y f) := fun g z e y f he hy hf => by rw [z.ar 23 (by decide) (by decide)]; exact C.1 e y f he hy hf
  have B24 : ∀ g, mch [26, 32, 33, 34] [39] M h g → ∀ e y f, e < 2 → y < 60 → f < 20 → ah_I g (M + 24) (20 * (60 * e + y) + f) = nI (P (8 + e) y f) := fun g z e y f he hy hf => by rw [z.ar 24 (by decide) (by decide)]; exact C.2.1 e y f he hy hf
  have B30 : ∀ g, mch [26, 32, 33, 34] [39] M h g → ∀ f, f < 20 → ah_I g (M + 30) f = nI (P 13 0 f) := fun g z f hf => by rw [z.ar 30 (by decide) (by decide)]; exact C.2.2.1 2 f (by decide) hf
  have B31 : ∀ g, mch [26, 32, 33, 34] [39] M h g → ∀ f, f < 20 → ah_I g (M + 31) f = nI (P 14 0 f) := fun g z f hf => by rw [z.ar 31 (by decide) (by decide)]; exact C.2.2.1 3 f (by decide) hf
  have k4 : ∀ g, mch [26, 32, 33, 34] [39] M h g → kq S (mv g M) := fun g z => kS.mc z (by decide) (by decide) (by decide)
  refine v_X8_playOther (d := d + 1) L ?_
  rw [nI_clamp (n := k) (by omega), so]
  refine ⟨vp_in_nI (by omega) (by decide), fun c => ?_, fun c => ?_⟩
  · rcases oo with ⟨o0, o1, o2, o3, o4⟩ | ⟨o0, -⟩ | ⟨o0, o1, o2⟩
    · -- a car
      have eS : tkS EV k = EV 2 k := by unfold tkS; rw [if_neg (by omega)]
      refine key 0 23 (Or.inl ⟨rfl, rfl, by omega⟩) (fun g z z39 hT t26 u26 => ?_)
      have kg := k4 g z
      refine m_oth_car (b2 := 20 * (60 * EV 3 k + EV 4 k)) (q := tkR EV k P) (z.ly L) ((kg.z 5 (by decide) (by decide)).trans W.1.1) f20 (by omega) ((kg.r 9 _ (by decide)).trans o0) ?_ (by omega) (by omega) hT (fun gg zz mm => ?_)
      · rw [kg.r 12 _ (by decide), kg.r 13 _ (by decide), kg.r 14 _ (by decide), o3, xg, yy, binAt_n, ← x4]
      · obtain ⟨m1, m2, m3, m4⟩ := mm
        refine fin g gg z z39 t26 u26 zz (fun e y f he hy hf => ?_) (fun e y f he hy hf => ?_) (fun f hf => ?_) (fun f hf => ?_)
        · rw [m1, tkP_h hS (by omega), if_pos o1, pr_n (by omega)]
          unfold tk1
          rw [eS]
          by_cases c2 : e = EV 2 k ∧ y = EV 4 k
          · rw [c2.1, c2.2, pr_s]
            have rl' := rl f hf
            rw [eS] at rl'
            exact sd3_v f20 (B23 g z _ _ _ (by omega) w4 hf) rl' (rz f hf)
          · rw [pr_n c2, sd3_o f20 (by omega)]; exact B23 g z e y f he hy hf
        · rw [m2, tkP_h hS (by omega), if_pos o1]
          by_cases c2 : e = EV 3 k ∧ y = EV 4 k
          · rw [c2.1, c2.2, pr_s]
            exact ad3_v f20 (B24 g z _ _ _ o4 w4 hf) (rz f hf)
          · unfold tk1
            rw [pr_n (by omega), pr_n (by omega), ad3_o f20 (by omega)]; exact B24 g z e y f he hy hf
        · rw [m3, tkP_13 hS b3, if_neg (by omega)]; exact B30 g z f hf
        · rw [m4, tkP_14 hS b3 (by omega), if_neg (by omega)]; exact B31 g z f hf
    · exact absurd o0 c
    · -- a spoil
      have eS : tkS EV k = EV 2 k := by unfold tkS; rw [if_neg (by omega)]
      refine key 0 23 (Or.inl ⟨rfl, rfl, by omega⟩) (fun g z z39 hT t26 u26 => ?_)
      have kg := k4 g z
      refine m_oth_spl (q := tkR EV k P) (z.ly L) ((kg.z 5 (by decide) (by decide)).trans W.1.1) f20 (by omega) ((kg.r 9 _ (by decide)).trans o0) (by omega) hT (fun gg zz mm => ?_)
      obtain ⟨m1, m2, m3, m4⟩ := mm
      refine fin g gg z z39 t26 u26 zz (fun e y f he hy hf => ?_) (fun e y f he hy hf => ?_) (fun f hf => ?_) (fun f hf => ?_)
      · rw [m1, tkP_h hS (by omega), if_neg (by omega)]
        unfold tk1
        rw [eS]
        by_cases c2 : e = EV 2 k ∧ y = EV 4 k
        · rw [c2.1, c2.2, pr_s]
          have rl' := rl f hf
          rw [eS] at rl'
          exact sd3_v f20 (B23 g z _ _ _ (by omega) w4 hf) rl' (rz f hf)
        · rw [pr_n c2, sd3_o f20 (by omega)]; exact B23 g z e y f he hy hf
      · rw [m2, tkP_h hS (by omega), if_neg (by omega)]
        unfold tk1
        rw [pr_n (by omega)]; exact B24 g z e y f he hy hf
      · rw [m3, tkP_13 hS b3, if_neg (by omega)]; exact B30 g z f hf
      · rw [m4, tkP_14 hS b3 (by omega), if_pos o1]
        have := ad3_v (o := ah_I g (M + 31)) (b := 0) (w := P 14 0) (q := tkR EV k P) f20 (by rw [Nat.zero_add]; exact B31 g z f hf) (rz f hf)
        rw [Nat.zero_add] at this
        exact this
  · rcases oo with ⟨o0, -⟩ | ⟨o0, o1, o2, o3, o4⟩ | ⟨o0, -⟩
    · rw [o0] at c; exact absurd c (by decide)
    · -- a sale
      have eS : tkS EV k = 8 + EV 2 k := by unfold tkS; rw [if_pos o1]
      refine key 1 24 (Or.inr ⟨rfl, rfl, o1⟩) (fun g z z39 hT t26 u26 => ?_)
      have kg := k4 g z
      refine m_oth_sal (q := tkR EV k P) (z.ly L) ((kg.z 5 (by decide) (by decide)).trans W.1.1) f20 (by omega) ((kg.r 9 _ (by decide)).trans o0) (by omega) hT (fun gg zz mm => ?_)
      obtain ⟨m1, m2, m3, m4⟩ := mm
      refine fin g gg z z39 t26 u26 zz (fun e y f he hy hf => ?_) (fun e y f he hy hf => ?_) (fun f hf => ?_) (fun f hf => ?_)
      · rw [m1, tkP_h hS (by omega), if_neg (by omega)]
        unfold tk1
        rw [pr_n (by omega)]; exact B23 g z e y f he hy hf
      · rw [m2, tkP_h hS (by omega), if_neg (by omega)]
        unfold tk1
        rw [eS]
        by_cases c2 : e = EV 2 k ∧ y = EV 4 k
        · rw [c2.1, c2.2, pr_s]
          have rl' := rl f hf
          rw [eS] at rl'
          exact sd3_v f20 (B24 g z _ _ _ (by omega) w4 hf) rl' (rz f hf)
        · rw [pr_n (by omega), sd3_o f20 (by omega)]; exact B24 g z e y f he hy hf
      · rw [m3, tkP_13 hS b3, if_pos o1]
        have := ad3_v (o := ah_I g (M + 30)) (b := 0) (w := P 13 0) (q := tkR EV k P) f20 (by rw [Nat.zero_add]; exact B30 g z f hf) (rz f hf)
        rw [Nat.zero_add] at this
        exact this
      · rw [m4, tkP_14 hS b3 (by omega), if_neg (by omega)]; exact B31 g z f hf
    · rw [o0] at c; exact absurd c (by decide)
end
/-! ===== all events played: the model ===== -/
def mplA : List Nat := [23, 24, 25, 26, 27, 28, 29, 30, 31, 32, 33, 34, 44, 45, 46, 47, 48]
/-- what a play of the model has left, k events being played -/
def mpI (S : MS) (tx : Nat → List Nat × List PD) (kn : Int32) (M : Nat) (h : ah_T) (k : Nat) (g : ah_T) : Prop := mch mplA [39, 72, 108] M h g ∧ MPl g M (PLS S tx kn k) ∧ (∀ j, j < k → S.1 18 j ≤ kn → S.1 9 j = 0 → ah_I g (M + 25) j = nI (ldT (roS S) (evS S tx kn) j (PLS S tx kn j)) ∧ ah_I g (M + 27) j = grS S tx j kn) ∧ ∀ j, j < k → S.1 18 j ≤ kn → S.1 9 j ≠ 0 → ah_I g (M + 26) j = nI (tkN (evS S tx kn) j (PLS S tx kn j))
section
variable {G : ma_G} {d M k n m e y b : Nat} {P P' : PS} {h g g2 : ah_T} {S : MS} {tx : Nat → List Nat × List PD} {kn : Int32} {Q : Option ma_V → ah_T → Prop} {E : Nat → ah_T → Prop}
theorem m_play (L : LY8 h M) (kS : kq S (mv h M)) (W : WF S) (B : WB S) (T : TXm S tx) (K : ∀ g, mpI S tx kn M h (nV S) g → Q none g) : MX G mi_X8_play (d + 7) 0 [some (rv M), some (iv kn), none] [] h Q E := by
  have v120 := B.2.2
  refine v_X8_play (d := d + 6) L ?_
  refine mx_up (α := Unit) (fun i _ => [some (rv M), some (iv kn), some (iv (nI i))]) 9600 (fun i _ g => mch mplA [39, 72, 108] M h g ∧ ∀ j, j < i → ah_I g (M + 23) j = 0) (fun i _ g hi hI KK => ?_) (fun _ g hI => ?_) 0 () h (Nat.zero_le _) ⟨mch.rf, fun j hj => by omega⟩
  · obtain ⟨z, i1⟩ := hI
    refine v_X8_play_2 (d := d + 6) (z.ly L) ⟨fun c => ?_, fun _ => ⟨vp_in_nI hi (by decide), fun h3 e3 _ => ?_⟩⟩
    · exfalso; rw [i3_le, nI_x (by omega)] at c; have : (9600 : Int) ≤ (i : Int) := c; omega
    · rw [nI_clamp (by omega)] at e3
      rw [nI_1]
      refine KK () h3 ⟨by rw [e3]; exact z.wI (by decide), fun j hj => ?_⟩
      rw [e3, rd_II]
      by_cases c : j = i
      · rw [if_pos ⟨rfl, c⟩]
      · rw [if_neg (fun q => c q.2)]; exact i1 j (by omega)
  obtain ⟨z1, a1⟩ := hI
  refine v_X8_play_2 (d := d + 6) (z1.ly L) ⟨fun _ => ?_, fun c => absurd (by decide) c⟩
  refine mx_up (α := Unit) (fun i _ => [some (rv M), some (iv kn), some (iv (nI i))]) 2400 (fun i _ g => mch mplA [39, 72, 108] M h g ∧ (∀ j, j < 9600 → ah_I g (M + 23) j = 0) ∧ ∀ j, j < i → ah_I g (M + 24) j = 0) (fun i _ g hi hI KK => ?_) (fun _ g hI => ?_) 0 () g (Nat.zero_le _) ⟨z1, a1, fun j hj => by omega⟩
  · obtain ⟨z, i0, i1⟩ := hI
    refine v_X8_play_24 (d := d + 6) (z.ly L) ⟨fun c => ?_, fun _ => ⟨vp_in_nI hi (by decide), fun h3 e3 _ => ?_⟩⟩
    · exfalso; rw [i3_le, nI_x (by omega)] at c; have : (2400 : Int) ≤ (i : Int) := c; omega
    · rw [nI_clamp (by omega)] at e3
      rw [nI_1]
      refine KK () h3 ⟨by rw [e3]; exact z.wI (by decide), fun j hj => by rw [e3, rd_Ia (by omega)]; exact i0 j hj, fun j hj => ?_⟩
      rw [e3, rd_II]
      by_cases c : j = i
      · rw [if_pos ⟨rfl, c⟩]
      · rw [if_neg (fun q => c q.2)]; exact i1 j (by omega)
  obtain ⟨z2, a2, a3⟩ := hI
  refine v_X8_play_24 (d := d + 6) (z2.ly L) ⟨fun _ => ?_, fun c => absurd (by decide) c⟩
  refine mx_up (α := Unit) (fun i _ => [some (rv M), some (iv kn), some (iv (nI i))]) 20 (fun i _ g => mch mplA [39, 72, 108] M h g ∧ (∀ j, j < 9600 → ah_I g (M + 23) j = 0) ∧ (∀ j, j < 2400 → ah_I g (M + 24) j = 0) ∧ ∀ l j, l < 4 → j < i → ah_I g (M + (28 + l)) j = 0) (fun i _ g hi hI KK => ?_) (fun _ g hI => ?_) 0 () g (Nat.zero_le _) ⟨z2, a2, a3, fun l j _ hj => by omega⟩
  · obtain ⟨z, i0, i1, i2⟩ := hI
    refine v_X8_play_46 (d := d + 6) (z.ly L) ⟨fun c => ?_, fun _ => ⟨vp_in_nI hi (by decide), fun h4 e4 _ h5 e5 _ h6 e6 _ h7 e7 _ => ?_⟩⟩
    · exfalso; rw [i3_le, nI_x (by omega)] at c; have : (20 : Int) ≤ (i : Int) := c; omega
    · rw [nI_clamp (by omega)] at e4 e5 e6 e7
      rw [nI_1]
      refine KK () h7 ⟨by rw [e7, e6, e5, e4]; exact (((z.wI (by decide)).wI (by decide)).wI (by decide)).wI (by decide), fun j hj => by rw [e7, rd_Ia (by omega), e6, rd_Ia (by omega), e5, rd_Ia (by omega), e4, rd_Ia (by omega)]; exact i0 j hj, fun j hj => by rw [e7, rd_Ia (by omega), e6, rd_Ia (by omega), e5, rd_Ia (by omega), e4, rd_Ia (by omega)]; exact i1 j hj, fun l j hl hj => ?_⟩
      rw [e7, rd_II, e6, rd_II, e5, rd_II, e4, rd_II]
      by_cases c : j = i
      · split
        · rfl
        · split
          · rfl
          · split
            · rfl
            · rw [if_pos (by omega)]
      · rw [if_neg (fun q => c q.2), if_neg (fun q => c q.2), if_neg (fun q => c q.2), if_neg (fun q => c q.2)]; exact i2 l j hl (by omega)
  obtain ⟨z3, b1, b2, b3⟩ := hI
  refine v_X8_play_46 (d := d + 6) (z3.ly L) ⟨fun _ h2 e2 _ => ?_, fun c => absurd (by decide) c⟩
  have z4 : mch mplA [39, 72, 108] M h h2 := by rw [e2]; exact z3.zI (by decide)
  have C0 : MPl h2 M (PLS S tx kn 0) := by
    refine ⟨fun e y f he hy hf => ?_, fun e y f he hy hf => ?_, fun i f hi hf => ?_, ?_⟩
    · rw [e2, rd_Ia (by omega)]; exact b1 _ (by omega)
    · rw [e2, rd_Ia (by omega)]; exact b2 _ (by omega)
    · rw [e2, rd_Ia (by omega)]; exact b3 i f hi hf
    · rw [e2, rd_II, if_pos ⟨rfl, rfl⟩]; rfl
  clear z1 a1 z2 a2 a3 z3 b1 b2 b3 e2
  refine mx_up (α := Unit) (fun k _ => [some (rv M), some (iv kn), some (iv (nI k))]) (nV S) (fun k _ g => mpI S tx kn M h k g) (fun k _ g hk hI KK => ?_) (fun _ g hI => ?_) 0 () h2 (Nat.zero_le _) ⟨z4, C0, fun j hj => by omega, fun j hj => by omega⟩
  · obtain ⟨z, C, ld, tk⟩ := hI
    have kg := kS.mc z (by decide) (by decide) (by decide)
    have iVm : ah_I g M 7 = nI (nV S) := (kg.z 7 (by decide) (by decide)).trans W.1.2.2.1
    have I := PLS_i (tx := tx) (kn := kn) W B (Nat.le_of_lt hk)
    refine v_X8_play_93 (d := d + 6) (z.ly L) ⟨fun c => ?_, fun _ => ?_⟩
    · exfalso; rw [iVm, i3_le, nI_x (by omega), nI_x (by omega)] at c; omega
    rw [nI_clamp (by omega)]
    refine ⟨vp_in_nI (by omega) (by decide), fun h3 e3 _ h4 e4 _ => ?_⟩
    have z5 : mch mplA [39, 72, 108] M h h4 := by rw [e4, e3]; exact (z.wI (by decide)).wI (by decide)
    have k5 := kS.mc z5 (by decide) (by decide) (by decide)
    have o5 : ∀ a, a ≠ 25 → a ≠ 26 → ∀ j, ah_I h4 (M + a) j = ah_I g (M + a) j := fun a h1 h2 j => by rw [e4, rd_Ia (by omega), e3, rd_Ia (by omega)]
    have C5 : MPl h4 M (PLS S tx kn k) := C.cg (fun a ha j => o5 a (by rintro rfl; exact absurd ha (by decide)) (by rintro rfl; exact absurd ha (by decide)) j) (by rw [e4, rd_Ia (by omega), e3, rd_Ia (by omega)])
    have p25 : ∀ j, j ≠ k → ah_I h4 (M + 25) j = ah_I g (M + 25) j := fun j hj => by rw [e4, rd_Ia (by omega), e3, rd_II, if_neg (fun q => hj q.2)]
    have p26 : ∀ j, j ≠ k → ah_I h4 (M + 26) j = ah_I g (M + 26) j := fun j hj => by rw [e4, rd_II, if_neg (fun q => hj q.2), e3, rd_Ia (by omega)]
    rw [kg.r 18 _ (by decide), kg.r 9 _ (by decide), nI_1]
    refine ⟨fun k8 => ⟨fun c => ?_, fun c => ?_⟩, fun k8 => ?_⟩
    · have w := ev_tk (tx := tx) (kn := kn) W B hk c
      have w4 : evS S tx kn 4 k < 60 := by omega
      have bs : sN (PLS S tx kn k (tkS (evS S tx kn) k) (evS S tx kn 4 k)) 20 < 2147483648 := by
        have := PLS_s (tx := tx) (kn := kn) W B (Nat.le_of_lt hk) (e := tkS (evS S tx kn) k) (y := evS S tx kn 4 k) (by unfold tkS; split <;> omega) w4
        omega
      refine m_playOther (d := d + 4) (tx := tx) (kn := kn) (z5.ly L) k5 W B hk c C5 I.2.1 bs (fun g2 zz C2 t26 u26 => ?_)
      intro _
      refine KK () g2 ⟨z5.tr (zz.mono (by decide) (by decide)), by rw [PLS_1 W B hk k8, if_neg c]; exact C2, fun j hj j8 j0 => ?_, fun j hj j8 j0 => ?_⟩
      · have hjk : j ≠ k := fun q => c (by rw [← q]; exact j0)
        rw [zz.ar 25 (by decide) (by decide), zz.ar 27 (by decide) (by decide), p25 j hjk, o5 27 (by decide) (by decide)]
        exact ld j (by omega) j8 j0
      · by_cases q : j = k
        · rw [q]; exact t26
        · rw [u26 j q, p26 j q]; exact tk j (by omega) j8 j0
    · have c' : S.1 9 k = 0 := c
      have w := ev_ld (tx := tx) (kn := kn) W B hk c'
      refine m_playLoad (d := d) (z5.ly L) k5 W B T hk c' C5 (I.1 _ (by have := B.2.1; omega)) (fun g2 zz C2 t25 t27 u => ?_)
      intro _
      refine KK () g2 ⟨z5.tr (zz.mono (by decide) (by decide)), by rw [PLS_1 W B hk k8, if_pos c']; exact C2, fun j hj j8 j0 => ?_, fun j hj j8 j0 => ?_⟩
      · by_cases q : j = k
        · rw [q]; exact ⟨t25, t27⟩
        · rw [(u j q).1, (u j q).2, p25 j q, o5 27 (by decide) (by decide)]
          exact ld j (by omega) j8 j0
      · have hjk : j ≠ k := fun q => j0 (by rw [q]; exact c')
        rw [zz.ar 26 (by decide) (by decide), p26 j hjk]; exact tk j (by omega) j8 j0
    · refine KK () h4 ⟨z5, by rw [PLS_0 k8]; exact C5, fun j hj j8 j0 => ?_, fun j hj j8 j0 => ?_⟩
      all_goals
        have hjk : j ≠ k := fun q => k8 (by rw [← q]; exact j8)
      · rw [p25 j hjk, o5 27 (by decide) (by decide)]; exact ld j (by omega) j8 j0
      · rw [p26 j hjk]; exact tk j (by omega) j8 j0
  · obtain ⟨z, hI⟩ := hI
    have kg := kS.mc z (by decide) (by decide) (by decide)
    have iVm : ah_I g M 7 = nI (nV S) := (kg.z 7 (by decide) (by decide)).trans W.1.2.2.1
    exact v_X8_play_93 (d := d + 6) (z.ly L) ⟨fun _ => K g ⟨z, hI⟩, fun c => absurd (by rw [iVm, i3_le]; exact Int.le_refl _) c⟩
end

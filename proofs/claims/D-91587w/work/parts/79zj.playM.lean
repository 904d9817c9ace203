/-! ===== events played: the model ===== -/
/-- bins, ports, the farms' sums, what was lacking -/
def MPl (g : ah_T) (M : Nat) (P : PS) : Prop := (∀ e y f, e < 8 → y < 60 → f < 20 → ah_I g (M + 23) (20 * (60 * e + y) + f) = nI (P e y f)) ∧ (∀ e y f, e < 2 → y < 60 → f < 20 → ah_I g (M + 24) (20 * (60 * e + y) + f) = nI (P (8 + e) y f)) ∧ (∀ i f, i < 4 → f < 20 → ah_I g (M + (28 + i)) f = nI (P (11 + i) 0 f)) ∧ ah_I g M 39 = nI (P 15 0 0)
section
variable {G : ma_G} {d M k n m e y b : Nat} {P P' : PS} {h g g2 : ah_T} {Q : Option ma_V → ah_T → Prop} {E : Nat → ah_T → Prop}
theorem MPl.cg (x : MPl g M P) (hI : ∀ a, a ∈ [23, 24, 28, 29, 30, 31] → ∀ j, ah_I g2 (M + a) j = ah_I g (M + a) j) (hz : ah_I g2 M 39 = ah_I g M 39) : MPl g2 M P := by
  obtain ⟨c1, c2, c3, c4⟩ := x
  refine ⟨fun e y f he hy hf => by rw [hI 23 (by decide)]; exact c1 e y f he hy hf, fun e y f he hy hf => by rw [hI 24 (by decide)]; exact c2 e y f he hy hf, fun i f hi hf => ?_, hz.trans c4⟩
  rw [hI (28 + i) (by have : i = 0 ∨ i = 1 ∨ i = 2 ∨ i = 3 := by omega
                      rcases this with q | q | q | q <;> subst q <;> decide)]
  exact c3 i f hi hf
theorem binAt_n {e g y : Nat} : (20 : Int32) * (((6 : Int32) * nI e + nI g) * (10 : Int32) + nI y) = nI (20 * (60 * e + (10 * g + y))) := by
  rw [show (6 : Int32) = nI 6 from rfl, show (10 : Int32) = nI 10 from rfl, show (20 : Int32) = nI 20 from rfl, pk_mul, nI_add, pk_mul, nI_add, pk_mul]
  congr 1
  omega
theorem sN_app {f : Nat → Nat} {a : Nat} : ∀ b, sN f (a + b) = sN f a + sN (fun i => f (a + i)) b
  | 0 => rfl
  | b + 1 => by
    show sN f (a + b) + f (a + b) = sN f a + (sN (fun i => f (a + i)) b + f (a + b))
    rw [sN_app b]; omega
theorem sN_20 {F : Nat → Nat → Nat} : ∀ n, sN (fun k => F (k / 20) (k % 20)) (20 * n) = sN (fun y => sN (F y) 20) n
  | 0 => rfl
  | n + 1 => by
    rw [show 20 * (n + 1) = 20 * n + 20 by omega, sN_app, sN_20 n]
    show _ = sN (fun y => sN (F y) 20) n + sN (F n) 20
    congr 1
    refine sN_ext (fun i hi => ?_)
    show F ((20 * n + i) / 20) ((20 * n + i) % 20) = F n i
    rw [show (20 * n + i) / 20 = n by omega, show (20 * n + i) % 20 = i by omega]
theorem m_inElevator (L : LY8 h M) (C : MPl h M P) (he : e < 8) (K : Q (some (iv (nI (inA P e)))) h) : MX G mi_X8_inElevator (d + 1) 0 [some (rv M), some (iv (nI e)), none, none] [] h Q E := by
  have ix : ∀ k, (20 : Int32) * (((6 : Int32) * nI e + (0 : Int32)) * (10 : Int32) + (0 : Int32)) + nI k = nI (1200 * e + k) := fun k => by
    have := binAt_n (e := e) (g := 0) (y := 0)
    rw [show (0 : Int32) = nI 0 from rfl, this, nI_add]
    congr 1; omega
  refine v_X8_inElevator L ?_
  refine mx_up (α := Unit) (fun k _ => [some (rv M), some (iv (nI e)), some (iv (nI (sN (fun k => P e (k / 20) (k % 20)) k))), some (iv (nI k))]) 1200 (fun k _ g => g = h) (fun k _ g hk q KK => ?_) (fun _ g q => ?_) 0 () h (Nat.zero_le _) rfl
  · subst q
    refine v_X8_inElevator_4 L ⟨fun c => ?_, fun _ => ?_⟩
    · exfalso; rw [i3_le, nI_x (by omega)] at c; have : (1200 : Int) ≤ (k : Int) := c; omega
    · rw [ix, nI_clamp (by omega)]
      have := C.1 e (k / 20) (k % 20) he (by omega) (by omega)
      rw [show 20 * (60 * e + k / 20) + k % 20 = 1200 * e + k by omega] at this
      rw [this, nI_add, nI_1]
      exact ⟨vp_in_nI (by omega) (by decide), KK () g rfl⟩
  · subst q
    refine v_X8_inElevator_4 L ⟨fun _ => ?_, fun c => absurd (by decide) c⟩
    have e1 : sN (fun k => P e (k / 20) (k % 20)) 1200 = inA P e := sN_20 (F := P e) 60
    rw [e1]; exact K
end
section
variable {G : ma_G} {d M k n m e y b : Nat} {P P' : PS} {h g g2 : ah_T} {S : MS} {tx : Nat → List Nat × List PD} {kn : Int32} {Q : Option ma_V → ah_T → Prop} {E : Nat → ah_T → Prop}
theorem m_playLoad (L : LY8 h M) (kS : kq S (mv h M)) (W : WF S) (B : WB S) (T : TXm S tx) (hk : k < nV S) (h0 : S.1 9 k = 0) (C : MPl h M P) (bi : inA P (evS S tx kn 2 k) ≤ roS S (evS S tx kn 2 k))
    (K : ∀ g, mch [23, 25, 27, 28, 29, 44, 45, 46, 47, 48] [72, 108] M h g → MPl g M (ldP (roS S) (evS S tx kn) k P) → ah_I g (M + 25) k = nI (ldT (roS S) (evS S tx kn) k P) → ah_I g (M + 27) k = grS S tx k kn → (∀ j, j ≠ k → ah_I g (M + 25) j = ah_I h (M + 25) j ∧ ah_I g (M + 27) j = ah_I h (M + 27) j) → Q none g) :
    MX G mi_X8_playLoad (d + 6) 0 [some (rv M), some (iv (nI k)), some (iv kn), none] [] h Q E := by
  have v120 := B.2.2
  have e8 := B.2.1
  have f20 := B.1
  obtain ⟨x0, x1, x1', x2, x2', x5, x5', x6, x6', yy, yy', ey, x4, xg, xg', xe, xe'⟩ := ev_ld (tx := tx) (kn := kn) W B hk h0
  have ro := roS_b W x2'
  generalize hEV : evS S tx kn = EV at *
  generalize hT : ldT (roS S) EV k P = t at *
  have tl : t ≤ EV 6 k := by rw [← hT]; unfold ldT; omega
  refine v_X8_playLoad (d := d + 5) L ?_
  rw [nI_clamp (by omega), kS.r 10 _ (by decide), x1, nI_clamp (n := EV 1 k) (by omega)]
  refine ⟨vp_in_nI (by omega) (by decide), ?_⟩
  refine m_gradeOf (d := d) L kS W B T hk (by rw [h0]; rfl) (fun g2 z2 => ?_)
  intro _ h4 e4 _
  have z4 : mch [27, 44, 45, 46, 47, 48] [72, 108] M h h4 := by rw [e4]; exact (z2.mono (by decide) (by decide)).wI (by decide)
  have k4 := kS.mc z4 (by decide) (by decide) (by decide)
  have k2 := kS.mc z2 (by decide) (by decide) (by decide)
  have C4 : MPl h4 M P := C.cg (fun a ha j => by
    simp only [List.mem_cons, List.not_mem_nil, or_false] at ha
    rcases ha with q | q | q | q | q | q <;> subst q <;> exact z4.ar _ (by decide) (by decide) j) (z4.sc 39 (by decide) (by decide))
  rw [k2.r 11 _ (by decide), x2]
  refine m_inElevator (d := d + 4) (z4.ly L) C4 (by omega) ?_
  intro _
  rw [k4.r 11 _ (by decide), k4.r 15 _ (by decide), k4.r 16 _ (by decide), x2, nI_clamp (n := EV 2 k) (by omega), k4.r 8 _ (by decide), ro.1]
  have net : S.1 15 k - S.1 15 k * S.1 16 k / (1000 : Int32) = nI (EV 6 k) := x6
  rw [net, x5, nI_add]
  have et : iMax (0 : Int32) (nI (inA P (EV 2 k) + EV 6 k) - nI (roS S (EV 2 k))) = nI t := by
    have q0 := ro.2
    have q1 : inA P (EV 2 k) + EV 6 k < 1073741824 := by omega
    unfold iMax
    unfold ldT at hT
    split
    · rename_i c
      rw [i3_lt, pk_sub_toInt q1 (by omega)] at c
      have c : (0 : Int) < ((inA P (EV 2 k) + EV 6 k : Nat) : Int) - ((roS S (EV 2 k) : Nat) : Int) := c
      rw [pk_sub (by omega), hT]
    · rename_i c
      rw [i3_lt, pk_sub_toInt q1 (by omega)] at c
      have c : ¬ (0 : Int) < ((inA P (EV 2 k) + EV 6 k : Nat) : Int) - ((roS S (EV 2 k) : Nat) : Int) := c
      rw [← hT]
      rw [show inA P (EV 2 k) + EV 6 k - roS S (EV 2 k) = 0 by omega]; rfl
  rw [et, pk_sub x6', pk_sub tl]
  have h27 : ah_I h4 (M + 27) k = grS S tx k kn := by rw [e4, rd_II, if_pos ⟨rfl, rfl⟩]
  rw [h27, k4.r 14 _ (by decide), xg, yy, binAt_n, nI_add, ← x4, nI_clamp (n := 20 * (60 * EV 2 k + EV 4 k) + EV 1 k) (by omega)]
  have w4 : EV 4 k < 60 := by omega
  rw [show M + 28 = M + (28 + 0) from rfl, C4.2.2.1 0 _ (by decide) (by omega), show M + 29 = M + (28 + 1) from rfl, C4.2.2.1 1 _ (by decide) (by omega), C4.1 _ _ _ (by omega : EV 2 k < 8) w4 (by omega : EV 1 k < 20), nI_add, nI_add, nI_add]
  refine ⟨vp_in_nI (by omega) (by decide), fun h8 e8' _ => ⟨vp_in_nI (by omega) (by decide), fun h10 e10 _ h11 e11 _ => ⟨vp_in_nI (by omega) (by decide), fun h13 e13 _ => ?_⟩⟩⟩
  have zz : mch [23, 25, 27, 28, 29, 44, 45, 46, 47, 48] [72, 108] M h h13 := by
    rw [e13, e11, e10, e8']
    exact ((((z4.mono (by decide) (by decide)).wI (by decide)).wI (by decide)).wI (by decide)).wI (by decide)
  refine K h13 zz ⟨fun e y f he hy hf => ?_, fun e y f he hy hf => ?_, fun i f hi hf => ?_, ?_⟩ ?_ ?_ (fun j hj => ⟨?_, ?_⟩)
  · rw [e13, rd_II, ldP_h (by omega) (by omega), pr_n (by omega)]
    by_cases c : e = EV 2 k ∧ y = EV 4 k
    · obtain ⟨c1, c2⟩ := c
      rw [c1, c2, pr_s]
      by_cases c3 : f = EV 1 k
      · rw [if_pos ⟨rfl, by rw [c3]⟩, c3, rad_s, hT]
      · rw [if_neg (fun q => c3 (by have := q.2; omega)), rad_n c3, e11, rd_Ia (by omega), e10, rd_Ia (by omega), e8', rd_Ia (by omega)]; exact C4.1 _ _ _ (by omega) w4 hf
    · rw [if_neg (fun q => c (by have := q.2; omega)), pr_n c, e11, rd_Ia (by omega), e10, rd_Ia (by omega), e8', rd_Ia (by omega)]; exact C4.1 e y f he hy hf
  · rw [ldP_o (by omega) (by omega), e13, rd_Ia (by omega), e11, rd_Ia (by omega), e10, rd_Ia (by omega), e8', rd_Ia (by omega)]; exact C4.2.1 e y f he hy hf
  · have : i = 0 ∨ i = 1 ∨ i = 2 ∨ i = 3 := by omega
    rcases this with q | q | q | q <;> subst q
    · show _ = nI (ldP (roS S) EV k P 11 0 f)
      rw [ldP_11 (by omega), e13, rd_Ia (by omega), e11, rd_Ia (by omega), e10, rd_II]
      by_cases c : f = EV 1 k
      · rw [if_pos ⟨rfl, c⟩, c, rad_s]
      · rw [if_neg (fun q => c q.2), rad_n c, e8', rd_Ia (by omega)]; exact C4.2.2.1 0 f hi hf
    · show _ = nI (ldP (roS S) EV k P 12 0 f)
      rw [ldP_12 (by omega), e13, rd_Ia (by omega), e11, rd_II]
      by_cases c : f = EV 1 k
      · rw [if_pos ⟨rfl, c⟩, c, rad_s, hT]
      · rw [if_neg (fun q => c q.2), rad_n c, e10, rd_Ia (by omega), e8', rd_Ia (by omega)]; exact C4.2.2.1 1 f hi hf
    · show _ = nI (ldP (roS S) EV k P 13 0 f)
      rw [ldP_o (by omega) (by omega), e13, rd_Ia (by omega), e11, rd_Ia (by omega), e10, rd_Ia (by omega), e8', rd_Ia (by omega)]; exact C4.2.2.1 2 f hi hf
    · show _ = nI (ldP (roS S) EV k P 14 0 f)
      rw [ldP_o (by omega) (by omega), e13, rd_Ia (by omega), e11, rd_Ia (by omega), e10, rd_Ia (by omega), e8', rd_Ia (by omega)]; exact C4.2.2.1 3 f hi hf
  · rw [ldP_o (by omega) (by omega), e13, rd_Ia (by omega), e11, rd_Ia (by omega), e10, rd_Ia (by omega), e8', rd_Ia (by omega)]; exact C4.2.2.2
  · rw [e13, rd_Ia (by omega), e11, rd_Ia (by omega), e10, rd_Ia (by omega), e8', rd_II, if_pos ⟨rfl, rfl⟩]
  · rw [e13, rd_Ia (by omega), e11, rd_Ia (by omega), e10, rd_Ia (by omega), e8', rd_Ia (by omega)]; exact h27
  · rw [e13, rd_Ia (by omega), e11, rd_Ia (by omega), e10, rd_Ia (by omega), e8', rd_II, if_neg (fun q => hj q.2), e4, rd_Ia (by omega)]
    exact z2.ar 25 (by decide) (by decide) j
  · rw [e13, rd_Ia (by omega), e11, rd_Ia (by omega), e10, rd_Ia (by omega), e8', rd_Ia (by omega), e4, rd_II, if_neg (fun q => hj q.2)]
    exact z2.ar 27 (by decide) (by decide) j
end

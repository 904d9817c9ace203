/-! ===== events played: the class ===== -/
def CPl (g : ah_T) (p : Nat) (P : PS) : Prop := Hp g p P ∧ (∀ e, e < 8 → ah_I g (p + 88) e = nI (inA P e)) ∧ (∀ i f, i < 4 → f < 20 → ah_I g (p + (89 + i)) f = nI (P (11 + i) 0 f)) ∧ (∀ y, y < 60 → ah_J g (p + (81 + y / 10)) (y % 10) = lN (P 16 y 0)) ∧ ah_J g p 11 = lN (P 15 0 0)
section
variable {G : ma_G} {d p k m V F A b n l : Nat} {P P' : PS} {h g g2 : ah_T} {ro : Nat → Nat} {EV : Nat → Nat → Nat} {Q : Option ma_V → ah_T → Prop} {E : Nat → ah_T → Prop}
theorem iMin_n {a b : Nat} (ha : a < 2147483648) (hb : b < 2147483648) : iMin (nI a) (nI b) = nI (min a b) := by
  unfold iMin
  split
  · rename_i c
    rw [i3_lt, nI_x ha, nI_x hb] at c
    congr 1; omega
  · rename_i c
    rw [i3_lt, nI_x ha, nI_x hb] at c
    congr 1; omega
theorem iMax_0 {a : Nat} (ha : a < 2147483648) : iMax 0 (nI a) = nI a := by
  unfold iMax
  split
  · rfl
  · rename_i c
    rw [i3_lt, nI_x ha] at c
    have c : ¬ (0 : Int) < (a : Int) := c
    have : a = 0 := by omega
    rw [this]; rfl
theorem Hp.cg (x : Hp g p P) (e : ∀ e y, e < 11 → P' e y = P e y) : Hp g p P' := fun a y ha hy => by rw [e a y ha]; exact x a y ha hy
theorem c_some (L : LY1 h p) (kV : ma_ks h V [12, 13, 14]) (kA : ah_kd h A = 4) (i2 : ah_I h V 2 = nI b) (iA : ah_I h A 1 = nI n) (hb : b < 2147483648) (hn : n < 2147483648) (jl : ah_J h p 11 = lN l) (K : ∀ g, g = ah_wJ h p 11 (lN (l + (b - min b n))) → Q (some (iv (nI (min b n)))) g) :
    MX G mi_X13_some (d + 1) 0 [some (rv V), some (rv p), some (rv A), none] [] h Q E := by
  have kV4 : ma_ks h V [11, 12, 13, 14] := by
    obtain ⟨c, hc, q⟩ := kV
    exact ⟨c, List.mem_cons_of_mem _ hc, q⟩
  refine v_X13_some L ⟨kV, v_X11_bushels ⟨kV4, ?_⟩⟩
  intro _
  refine ⟨kA, v_X11_bushels ⟨kV4, ?_⟩⟩
  intro _ h10 e10 _
  rw [i2, iA, iMin_n hb hn] at e10 ⊢
  rw [pk_sub (by omega), nI_l (by omega), jl, lN_add] at e10
  exact K h10 e10
/-- the four arrays' layouts -/
theorem ly1_rows (L : LY1 h p) {i : Nat} (hi : i < 4) : ah_kd h (p + (89 + i)) = 40 ∧ ah_ln h (p + (89 + i)) = 20 := by
  have : i = 0 ∨ i = 1 ∨ i = 2 ∨ i = 3 := by omega
  rcases this with q | q | q | q <;> subst q
  · exact ⟨ly1_K_89 L, ly1_N_89 L⟩
  · exact ⟨ly1_K_90 L, ly1_N_90 L⟩
  · exact ⟨ly1_K_91 L, ly1_N_91 L⟩
  · exact ⟨ly1_K_92 L, ly1_N_92 L⟩
theorem c_pload {gr yr : Nat} (L : LY1 h p) (C : CPl h p P) (hV : p + 1417 ≤ V) (kV : ah_kd h V = 12) (hF : ah_R h V 3 = F) (hF2 : p + 1417 ≤ F) (kF : ah_kd h F = 10) (f0 : ah_I h F 0 = nI (EV 1 k)) (v4 : ah_I h V 4 = nI (EV 2 k)) (v2 : ah_I h V 2 = nI (EV 5 k)) (vn : ah_I h V 2 - ah_I h V 2 * ah_I h V 5 / (1000 : Int32) = nI (EV 6 k)) (v6 : ah_I h V 6 = nI gr) (v0 : ah_I h V 0 / (52 : Int32) = nI yr) (hgr : gr < 6) (hyr : yr < 10) (e4 : EV 4 k = 10 * gr + yr) (hro : ah_I h (p + 87) (EV 2 k) = nI (ro (EV 2 k)))
    (b1 : EV 1 k < 20) (b2 : EV 2 k < 8) (b3 : EV 6 k ≤ EV 5 k) (b4 : EV 5 k ≤ 10000) (bi : inA P (EV 2 k) ≤ ro (EV 2 k)) (br : ro (EV 2 k) ≤ 1000000) (K : ∀ g, plf p h g → CPl g p (ldP ro EV k P) → Q none g) :
    MX G mi_X12_plays (d + 2) 0 [some (rv V), some (rv p), none, none] [] h Q E := by
  obtain ⟨c1, c2, c3, c4, c5⟩ := C
  have w4 : EV 4 k < 60 := by omega
  have en : iMax (0 : Int32) (iMin (nI (EV 6 k)) (nI (ro (EV 2 k)) - nI (inA P (EV 2 k)))) = nI (EV 6 k - ldT ro EV k P) := by
    rw [pk_sub bi, iMin_n (by omega) (by omega), iMax_0 (by omega)]
    unfold ldT
    congr 1; omega
  have tl : ldT ro EV k P ≤ EV 6 k := by unfold ldT; omega
  refine v_X12_plays L ?_
  rw [hF, f0, v4, nI_clamp (n := EV 1 k) (by omega), nI_clamp (n := EV 2 k) (by omega), vn, hro, c2 _ b2, en]
  have a0 := c3 0 (EV 1 k) (by decide) b1
  have a1 := c3 1 (EV 1 k) (by decide) b1
  rw [show p + 89 = p + (89 + 0) from rfl, a0, show p + 90 = p + (89 + 1) from rfl, a1, v2, pk_sub b3, nI_add]
  refine ⟨kV, kF, vp_in_nI (by omega) (by decide), vp_in_nI (by omega) (by decide), fun h5 e5 _ => ?_⟩
  have x5 : ∀ a k, p + 1417 ≤ a → ah_I h5 a k = ah_I h a k := fun a k ha => by rw [e5]; exact rd_Ia (by omega)
  rw [x5 V 2 hV, x5 V 5 hV, vn, pk_sub (by omega), show EV 6 k - (EV 6 k - ldT ro EV k P) = ldT ro EV k P by omega, nI_add]
  intro h6 e6 _
  have x6 : ∀ a k, p + 1417 ≤ a → ah_I h6 a k = ah_I h a k := fun a k ha => by rw [e6, rd_Ia (by omega)]; exact x5 a k ha
  rw [x6 V 4 hV, x6 V 6 hV, x6 V 0 hV, v4, v6, v0, nI_clamp (n := gr) (by omega), nI_clamp (n := yr) (by omega), nI_clamp (n := EV 2 k) (by omega), ← e4]
  have y6 : ∀ a k, p + 97 ≤ a → ah_I h6 a k = ah_I h a k := fun a k ha => by rw [e6, rd_Ia (by omega), e5, rd_Ia (by omega)]
  obtain ⟨H1, H2⟩ := c1 (EV 2 k) (EV 4 k) (by omega) w4
  rw [y6 _ _ (by omega), H1 _ b1, nI_add]
  refine ⟨vp_in_nI (by omega) (by decide), vp_in_nI (by omega) (by decide), vp_in_nI (by omega) (by decide), fun h10 e10 _ => ?_⟩
  have q10 : ah_I h10 (p + (97 + 22 * EV 4 k + 2 * EV 2 k)) 1 = nI (sN (P (EV 2 k) (EV 4 k)) 20) := by rw [e10, rd_Ia (by omega), y6 _ _ (by omega)]; exact H2
  rw [q10, nI_add]
  intro h11 e11 _
  have x11 : ∀ a j, a ≠ p + (97 + 22 * EV 4 k + 2 * EV 2 k) → a ≠ p + (97 + 22 * EV 4 k + 2 * EV 2 k) + 1 → ah_I h11 a j = ah_I h6 a j := fun a j ha hb => by rw [e11, rd_Ia ha, e10, rd_Ia hb]
  have q11 : ah_I h10 V 4 = nI (EV 2 k) := by rw [e10, rd_Ia (by omega), x6 V 4 hV]; exact v4
  have r11 : ah_I h11 (p + 88) (EV 2 k) = nI (inA P (EV 2 k)) := by rw [x11 _ _ (by omega) (by omega), e6, rd_Ia (by omega), e5, rd_Ia (by omega)]; exact c2 _ b2
  rw [q11, nI_clamp (n := EV 2 k) (by omega), r11, nI_add]
  refine ⟨vp_in_nI (by omega) (by decide), fun h13 e13 _ => ?_⟩
  have x13 : ∀ a k, p + 1417 ≤ a → ah_I h13 a k = ah_I h a k := fun a k ha => by rw [e13, rd_Ia (by omega), x11 _ _ (by omega) (by omega)]; exact x6 a k ha
  rw [x13 V 6 hV, x13 V 0 hV, v6, v0, nI_clamp (n := gr) (by omega), nI_clamp (n := yr) (by omega), ← e4, show 117 + 22 * EV 4 k = 97 + 22 * EV 4 k + 2 * 10 by omega]
  obtain ⟨B1, B2⟩ := c1 10 (EV 4 k) (by omega) w4
  have q13 : ∀ j, ah_I h13 (p + (97 + 22 * EV 4 k + 2 * 10) + 1) j = ah_I h (p + (97 + 22 * EV 4 k + 2 * 10) + 1) j := fun j => by rw [e13, rd_Ia (by omega), x11 _ _ (by omega) (by omega)]; exact y6 _ _ (by omega)
  rw [q13, B1 _ b1, nI_add]
  refine ⟨vp_in_nI (by omega) (by decide), vp_in_nI (by omega) (by decide), fun h16 e16 _ => ?_⟩
  have q16 : ah_I h16 (p + (97 + 22 * EV 4 k + 2 * 10)) 1 = nI (sN (P 10 (EV 4 k)) 20) := by rw [e16, rd_Ia (by omega), e13, rd_Ia (by omega), x11 _ _ (by omega) (by omega), y6 _ _ (by omega)]; exact B2
  rw [q16, nI_add]
  intro h17 e17 _
  have pf : plf p h h17 := by
    rw [e17, e16, e13, e11, e10, e6, e5]
    exact ((((((plf.rf.wI (by omega)).wI (by omega)).wI (by omega)).wI (by omega)).wI (by omega)).wI (by omega)).wI (by omega)
  have J : ∀ a j, ah_J h17 a j = ah_J h a j := fun a j => by rw [e17, e16, e13, e11, e10, e6, e5]; rfl
  have R : ∀ a j, a < p + 97 → a ≠ p + 88 → a ≠ p + 89 → a ≠ p + 90 → ah_I h17 a j = ah_I h a j := fun a j h1 h2 h3 h4 => by
    rw [e17, rd_Ia (by omega), e16, rd_Ia (by omega), e13, rd_Ia h2, x11 _ _ (by omega) (by omega), e6, rd_Ia h4, e5, rd_Ia h3]
  refine K h17 pf ⟨?_, fun e he => ?_, fun i f hi hf => ?_, fun y hy => ?_, ?_⟩
  · have U1 : Hp h13 p (pr P (EV 2 k) (EV 4 k) (rad (P (EV 2 k) (EV 4 k)) (EV 1 k) (EV 6 k - ldT ro EV k P))) := by
      refine Hp.up c1 (by omega) w4 (fun f hf => ?_) ?_ (fun a j h1 h2 h3 => ?_)
      · rw [e13, rd_Ia (by omega), e11, rd_Ia (by omega), e10, rd_II]
        by_cases c : f = EV 1 k
        · rw [if_pos ⟨rfl, c⟩, c, rad_s]
        · rw [if_neg (fun z => c z.2), rad_n c, y6 _ _ (by omega)]; exact H1 f hf
      · rw [e13, rd_Ia (by omega), e11, rd_II, if_pos ⟨rfl, rfl⟩, sN_rad b1]
      · rw [e13, rd_Ia (by omega), x11 _ _ h2 h3, y6 _ _ h1]
    refine (Hp.up (e := 10) (y := EV 4 k) (r := rad (P 10 (EV 4 k)) (EV 1 k) (EV 6 k - ldT ro EV k P)) U1 (by omega) w4 (fun f hf => ?_) ?_ (fun a j h1 h2 h3 => ?_)).cg (fun e y he => ldP_h b2 he)
    · rw [e17, rd_Ia (by omega), e16, rd_II]
      by_cases c : f = EV 1 k
      · rw [if_pos ⟨rfl, c⟩, c, rad_s]
      · rw [if_neg (fun z => c z.2), rad_n c, q13]; exact B1 f hf
    · rw [e17, rd_II, if_pos ⟨rfl, rfl⟩, sN_rad b1]
    · rw [e17, rd_Ia h2, e16, rd_Ia h3]
  · rw [ldP_in b2 w4 b1 he, e17, rd_Ia (by omega), e16, rd_Ia (by omega), e13, rd_II]
    by_cases c : e = EV 2 k
    · rw [if_pos ⟨rfl, c⟩, if_pos c, c]
    · rw [if_neg (fun z => c z.2), if_neg c, x11 _ _ (by omega) (by omega), e6, rd_Ia (by omega), e5, rd_Ia (by omega)]; exact c2 e he
  · have z6 : ∀ a j, a < p + 97 → a ≠ p + 88 → ah_I h17 a j = ah_I h6 a j := fun a j h1 h2 => by
      rw [e17, rd_Ia (by omega), e16, rd_Ia (by omega), e13, rd_Ia h2, x11 _ _ (by omega) (by omega)]
    have : i = 0 ∨ i = 1 ∨ i = 2 ∨ i = 3 := by omega
    rcases this with q | q | q | q <;> subst q
    · show _ = nI (ldP ro EV k P 11 0 f)
      rw [ldP_11 b2, z6 _ _ (by omega) (by omega), e6, rd_Ia (by omega), e5, rd_II]
      by_cases c : f = EV 1 k
      · rw [if_pos ⟨rfl, c⟩, c, rad_s]
      · rw [if_neg (fun z => c z.2), rad_n c]; exact c3 0 f hi hf
    · show _ = nI (ldP ro EV k P 12 0 f)
      rw [ldP_12 b2, z6 _ _ (by omega) (by omega), e6, rd_II]
      by_cases c : f = EV 1 k
      · rw [if_pos ⟨rfl, c⟩, c, rad_s]
      · rw [if_neg (fun z => c z.2), rad_n c, e5, rd_Ia (by omega)]; exact c3 1 f hi hf
    · show _ = nI (ldP ro EV k P 13 0 f)
      rw [ldP_o b2 (by omega), R _ _ (by omega) (by omega) (by omega) (by omega)]; exact c3 2 f hi hf
    · show _ = nI (ldP ro EV k P 14 0 f)
      rw [ldP_o b2 (by omega), R _ _ (by omega) (by omega) (by omega) (by omega)]; exact c3 3 f hi hf
  · rw [J, ldP_o b2 (by omega)]; exact c4 y hy
  · rw [J, ldP_o b2 (by omega)]; exact c5
/-- a car -/
theorem c_pcar {gr yr : Nat} (L : LY1 h p) (C : CPl h p P) (hV : p + 1417 ≤ V) (kV : ah_kd h V = 14) (h0 : EV 0 k = 1) (v3 : ah_I h V 3 = nI (EV 2 k)) (v6 : ah_I h V 6 = nI (EV 3 k)) (v2 : ah_I h V 2 = nI (EV 5 k)) (v4 : ah_I h V 4 = nI gr) (v5 : ah_I h V 5 = nI yr) (hgr : gr < 6) (hyr : yr < 10) (e4 : EV 4 k = 10 * gr + yr)
    (b2 : EV 2 k < 8) (b3 : EV 3 k < 2) (b5 : EV 5 k ≤ 100000) (bs : sN (P (EV 2 k) (EV 4 k)) 20 < 2147483648) (bi : sN (P (EV 2 k) (EV 4 k)) 20 ≤ inA P (EV 2 k)) (K : ∀ g, plf p h g → CPl g p (tkP EV k P) → Q none g) :
    MX G mi_X14_plays (d + 3) 0 [some (rv V), some (rv p), none, none] [] h Q E := by
  obtain ⟨c1, c2, c3, c4, c5⟩ := C
  have w4 : EV 4 k < 60 := by omega
  have eS : tkS EV k = EV 2 k := by unfold tkS; rw [if_neg (by omega)]
  have hS : tkS EV k < 10 := by omega
  have kk : ma_ks h V [12, 13] := ⟨13, by decide, kV⟩
  have LA := ly1_H (e := EV 2 k) L (by omega) w4
  obtain ⟨H1, H2⟩ := c1 (EV 2 k) (EV 4 k) (by omega) w4
  refine v_X14_plays (d := d + 2) L ?_
  rw [v3, v4, v5, nI_clamp (n := gr) (by omega), nI_clamp (n := yr) (by omega), nI_clamp (n := EV 2 k) (by omega), ← e4]
  refine ⟨kk, vp_in_nI b2 (by decide), vp_in_nI hgr (by decide), vp_in_nI hyr (by decide), ?_⟩
  refine c_some L ⟨13, by decide, kV⟩ (ly3_k LA) v2 H2 (by omega) bs c5 (fun g1 e1 => ?_)
  intro _
  have z1 : plf p h g1 := by rw [e1]; exact plf.rf.wJ (by omega)
  have I1 : ah_I g1 = ah_I h := by rw [e1]; rfl
  have L1 := z1.ly L
  have k1 : ah_kd g1 V = 14 := by rw [z1.1.2.1]; exact kV
  rw [k1]
  show MX G mi_X15_goal _ 0 [some (rv V), some (rv p)] [] g1 _ E
  refine v_X15_goal L1 ⟨k1, ?_⟩
  rw [I1, v6, v4, v5, nI_clamp (n := gr) (by omega), nI_clamp (n := yr) (by omega), nI_clamp (n := EV 3 k) (by omega), ← e4, show 113 + 22 * EV 4 k + 2 * EV 3 k = 97 + 22 * EV 4 k + 2 * (8 + EV 3 k) by omega]
  refine ⟨vp_in_nI b3 (by decide), vp_in_nI hgr (by decide), vp_in_nI hyr (by decide), ?_⟩
  intro _
  rw [k1]
  show MX G mi_X15_row _ 0 [some (rv V), some (rv p)] [] g1 _ E
  refine v_X15_row L1 ?_
  intro _
  have N : min (EV 5 k) (sN (P (EV 2 k) (EV 4 k)) 20) = tkN EV k P := by unfold tkN; rw [eS]
  have T : spl 20 (P (EV 2 k) (EV 4 k)) (tkN EV k P) = tkR EV k P := by unfold tkR; rw [eS]
  have H' : Hp g1 p P := fun e y he hy => by rw [I1]; exact c1 e y he hy
  rw [N] at e1 ⊢
  have tn := (tkN_le (EV := EV) (k := k) (P := P))
  rw [eS] at tn
  refine c_takesT L1 H' (by omega) (by omega) (by omega) w4 tn.2 bs (fun g z U i1 j1 => ?_)
  rw [T] at U
  intro _
  rw [i1 _ _ (by omega : p + 88 ≤ p + 96)]
  have gV : ah_I g V 3 = nI (EV 2 k) := by rw [z.2.1 _ _ (by omega), I1]; exact v3
  rw [gV, nI_clamp (n := EV 2 k) (by omega), I1, c2 _ b2, pk_sub (by omega)]
  refine ⟨vp_in_nI b2 (by decide), fun h18 e18 _ => ?_⟩
  refine K h18 (by rw [e18]; exact (z1.tr z).wI (by omega)) ⟨?_, fun e he => ?_, fun i f hi hf => ?_, fun y hy => ?_, ?_⟩
  · intro e y he hy
    rw [tkP_h hS he, if_pos h0]
    unfold tk1
    rw [eS]
    have u := U e y he hy
    rw [e18, rd_Ia (by omega)]
    exact ⟨fun f hf => by rw [rd_Ia (by omega)]; exact u.1 f hf, u.2⟩
  · rw [tkP_in hS w4 he, eS, e18, rd_II]
    by_cases c : e = EV 2 k
    · rw [if_pos ⟨rfl, c⟩, if_pos c, c]
    · rw [if_neg (fun z => c z.2), if_neg c, i1 _ _ (by omega), I1]; exact c2 e he
  · have q : ah_I h18 (p + (89 + i)) f = nI (P (11 + i) 0 f) := by rw [e18, rd_Ia (by omega), i1 _ _ (by omega), I1]; exact c3 i f hi hf
    rw [q]
    have : i = 0 ∨ i = 1 ∨ i = 2 ∨ i = 3 := by omega
    rcases this with q | q | q | q <;> subst q
    · show nI (P 11 0 f) = nI (tkP EV k P 11 0 f); rw [tkP_o hS (fun _ => b3) (by omega)]
    · show nI (P 12 0 f) = nI (tkP EV k P 12 0 f); rw [tkP_o hS (fun _ => b3) (by omega)]
    · show nI (P 13 0 f) = nI (tkP EV k P 13 0 f); rw [tkP_13 hS (fun _ => b3), if_neg (by omega)]
    · show nI (P 14 0 f) = nI (tkP EV k P 14 0 f); rw [tkP_14 hS (fun _ => b3) (by omega), if_neg (by omega)]
  · rw [tkP_16 hS (fun _ => b3), if_neg (by omega), e18]
    show ah_J g _ _ = _
    rw [j1 _ _ (by omega), e1, rd_Ja (by omega)]; exact c4 y hy
  · rw [tkP_15, rad_s, e18]
    show ah_J g p 11 = _
    rw [j1 _ _ (by omega), e1, rd_JJ, if_pos ⟨rfl, rfl⟩]
/-- a spoil -/
theorem c_spl {gr yr : Nat} (L : LY1 h p) (C : CPl h p P) (hV : p + 1417 ≤ V) (kV : ah_kd h V = 13) (h0 : EV 0 k = 3) (v3 : ah_I h V 3 = nI (EV 2 k)) (v2 : ah_I h V 2 = nI (EV 5 k)) (v4 : ah_I h V 4 = nI gr) (v5 : ah_I h V 5 = nI yr) (hgr : gr < 6) (hyr : yr < 10) (e4 : EV 4 k = 10 * gr + yr)
    (b2 : EV 2 k < 8) (b5 : EV 5 k ≤ 100000) (bs : sN (P (EV 2 k) (EV 4 k)) 20 < 2147483648) (bi : sN (P (EV 2 k) (EV 4 k)) 20 ≤ inA P (EV 2 k)) (K : ∀ g, plf p h g → CPl g p (tkP EV k P) → Q none g) :
    MX G mi_X14_plays (d + 3) 0 [some (rv V), some (rv p), none, none] [] h Q E := by
  obtain ⟨c1, c2, c3, c4, c5⟩ := C
  have w4 : EV 4 k < 60 := by omega
  have eS : tkS EV k = EV 2 k := by unfold tkS; rw [if_neg (by omega)]
  have hS : tkS EV k < 10 := by omega
  have b3 : EV 0 k = 1 → EV 3 k < 2 := fun q => by omega
  have LA := ly1_H (e := EV 2 k) L (by omega) w4
  obtain ⟨H1, H2⟩ := c1 (EV 2 k) (EV 4 k) (by omega) w4
  refine v_X14_plays (d := d + 2) L ?_
  rw [v3, v4, v5, nI_clamp (n := gr) (by omega), nI_clamp (n := yr) (by omega), nI_clamp (n := EV 2 k) (by omega), ← e4]
  refine ⟨⟨12, by decide, kV⟩, vp_in_nI b2 (by decide), vp_in_nI hgr (by decide), vp_in_nI hyr (by decide), ?_⟩
  refine c_some L ⟨12, by decide, kV⟩ (ly3_k LA) v2 H2 (by omega) bs c5 (fun g1 e1 => ?_)
  intro _
  have z1 : plf p h g1 := by rw [e1]; exact plf.rf.wJ (by omega)
  have I1 : ah_I g1 = ah_I h := by rw [e1]; rfl
  have L1 := z1.ly L
  have k1 : ah_kd g1 V = 13 := by rw [z1.1.2.1]; exact kV
  rw [k1]
  show MX G mi_X14_goal _ 0 [some (rv V), some (rv p)] [] g1 _ E
  refine v_X14_goal L1 ?_
  intro _
  rw [k1]
  show MX G mi_X14_row _ 0 [some (rv V), some (rv p)] [] g1 _ E
  refine v_X14_row L1 ?_
  intro _
  have N : min (EV 5 k) (sN (P (EV 2 k) (EV 4 k)) 20) = tkN EV k P := by unfold tkN; rw [eS]
  have T : spl 20 (P (EV 2 k) (EV 4 k)) (tkN EV k P) = tkR EV k P := by unfold tkR; rw [eS]
  have H' : Hp g1 p P := fun e y he hy => by rw [I1]; exact c1 e y he hy
  rw [N] at e1 ⊢
  have tn := (tkN_le (EV := EV) (k := k) (P := P))
  rw [eS] at tn
  refine c_takesR (i := 92) (r := P 14 0) L1 H' (by omega) w4 (by omega) (ly1_K_92 L1) (ly1_N_92 L1) (fun f hf => by rw [I1]; exact c3 3 f (by omega) hf) tn.2 bs (fun g z U r1 i1 j1 => ?_)
  rw [T] at U r1
  intro _
  rw [i1 _ _ (by omega : p + 88 ≤ p + 96) (by omega)]
  have gV : ah_I g V 3 = nI (EV 2 k) := by rw [z.2.1 _ _ (by omega), I1]; exact v3
  rw [gV, nI_clamp (n := EV 2 k) (by omega), I1, c2 _ b2, pk_sub (by omega)]
  refine ⟨vp_in_nI b2 (by decide), fun h18 e18 _ => ?_⟩
  refine K h18 (by rw [e18]; exact (z1.tr z).wI (by omega)) ⟨?_, fun e he => ?_, fun i f hi hf => ?_, fun y hy => ?_, ?_⟩
  · intro e y he hy
    rw [tkP_h hS he, if_neg (by omega)]
    unfold tk1
    rw [eS]
    have u := U e y he hy
    rw [e18, rd_Ia (by omega)]
    exact ⟨fun f hf => by rw [rd_Ia (by omega)]; exact u.1 f hf, u.2⟩
  · rw [tkP_in hS w4 he, eS, e18, rd_II]
    by_cases c : e = EV 2 k
    · rw [if_pos ⟨rfl, c⟩, if_pos c, c]
    · rw [if_neg (fun z => c z.2), if_neg c, i1 _ _ (by omega) (by omega), I1]; exact c2 e he
  · by_cases c : i = 3
    · subst c
      show _ = nI (tkP EV k P 14 0 f)
      rw [tkP_14 hS b3 (by omega), if_pos h0, e18, rd_Ia (by omega)]
      exact r1 f hf
    · have q : ah_I h18 (p + (89 + i)) f = nI (P (11 + i) 0 f) := by rw [e18, rd_Ia (by omega), i1 _ _ (by omega) (by omega), I1]; exact c3 i f hi hf
      rw [q]
      have : i = 0 ∨ i = 1 ∨ i = 2 := by omega
      rcases this with q | q | q <;> subst q
      · show nI (P 11 0 f) = nI (tkP EV k P 11 0 f); rw [tkP_o hS b3 (by omega)]
      · show nI (P 12 0 f) = nI (tkP EV k P 12 0 f); rw [tkP_o hS b3 (by omega)]
      · show nI (P 13 0 f) = nI (tkP EV k P 13 0 f); rw [tkP_13 hS b3, if_neg (by omega)]
  · rw [tkP_16 hS b3, if_neg (by omega), e18]
    show ah_J g _ _ = _
    rw [j1 _ _ (by omega), e1, rd_Ja (by omega)]; exact c4 y hy
  · rw [tkP_15, rad_s, e18]
    show ah_J g p 11 = _
    rw [j1 _ _ (by omega), e1, rd_JJ, if_pos ⟨rfl, rfl⟩]
/-- a sale -/
theorem c_sal {gr yr : Nat} (L : LY1 h p) (C : CPl h p P) (hV : p + 1417 ≤ V) (kV : ah_kd h V = 15) (h0 : EV 0 k = 2) (v3 : ah_I h V 3 = nI (EV 2 k)) (v6 : ah_I h V 6 = nI (EV 7 k)) (v2 : ah_I h V 2 = nI (EV 5 k)) (v4 : ah_I h V 4 = nI gr) (v5 : ah_I h V 5 = nI yr) (hgr : gr < 6) (hyr : yr < 10) (e4 : EV 4 k = 10 * gr + yr)
    (b2 : EV 2 k < 2) (b5 : EV 5 k ≤ 100000) (b7 : EV 7 k ≤ 1000) (bs : sN (P (8 + EV 2 k) (EV 4 k)) 20 < 2147483648) (K : ∀ g, plf p h g → CPl g p (tkP EV k P) → Q none g) :
    MX G mi_X16_plays (d + 3) 0 [some (rv V), some (rv p), none, none] [] h Q E := by
  obtain ⟨c1, c2, c3, c4, c5⟩ := C
  have w4 : EV 4 k < 60 := by omega
  have eS : tkS EV k = 8 + EV 2 k := by unfold tkS; rw [if_pos h0]
  have hS : tkS EV k < 10 := by omega
  have b3 : EV 0 k = 1 → EV 3 k < 2 := fun q => by omega
  have LA := ly1_H (e := 8 + EV 2 k) L (by omega) w4
  obtain ⟨H1, H2⟩ := c1 (8 + EV 2 k) (EV 4 k) (by omega) w4
  refine v_X16_plays (d := d + 2) L ?_
  rw [v3, v4, v5, nI_clamp (n := gr) (by omega), nI_clamp (n := yr) (by omega), nI_clamp (n := EV 2 k) (by omega), ← e4, show 113 + 22 * EV 4 k + 2 * EV 2 k = 97 + 22 * EV 4 k + 2 * (8 + EV 2 k) by omega]
  refine ⟨kV, vp_in_nI b2 (by decide), vp_in_nI hgr (by decide), vp_in_nI hyr (by decide), ?_⟩
  refine c_some L ⟨14, by decide, kV⟩ (ly3_k LA) v2 H2 (by omega) bs c5 (fun g1 e1 => ?_)
  intro _
  have z1 : plf p h g1 := by rw [e1]; exact plf.rf.wJ (by omega)
  have I1 : ah_I g1 = ah_I h := by rw [e1]; rfl
  have L1 := z1.ly L
  have N : min (EV 5 k) (sN (P (8 + EV 2 k) (EV 4 k)) 20) = tkN EV k P := by unfold tkN; rw [eS]
  have T : spl 20 (P (8 + EV 2 k) (EV 4 k)) (tkN EV k P) = tkR EV k P := by unfold tkR; rw [eS]
  have H' : Hp g1 p P := fun e y he hy => by rw [I1]; exact c1 e y he hy
  rw [N] at e1 ⊢
  have tn := (tkN_le (EV := EV) (k := k) (P := P))
  rw [eS] at tn
  refine c_takesR (i := 91) (r := P 13 0) L1 H' (by omega) w4 (by omega) (ly1_K_91 L1) (ly1_N_91 L1) (fun f hf => by rw [I1]; exact c3 2 f (by omega) hf) tn.2 bs (fun g z U r1 i1 j1 => ?_)
  rw [T] at U r1
  intro _
  have gV : ∀ j, ah_I g V j = ah_I h V j := fun j => by rw [z.2.1 _ _ (by omega), I1]
  have hj : ah_J g (p + (81 + gr)) yr = lN (P 16 (EV 4 k) 0) := by
    rw [j1 _ _ (by omega), e1, rd_Ja (by omega)]
    have := c4 (EV 4 k) w4
    rw [show EV 4 k / 10 = gr by omega, show EV 4 k % 10 = yr by omega] at this
    exact this
  rw [gV, gV, gV, v4, v5, v6, nI_clamp (n := gr) (by omega), nI_clamp (n := yr) (by omega), hj, nI_l (by omega), nI_l (by omega), lN_mul, lN_add]
  refine ⟨vp_in_nI hgr (by decide), vp_in_nI hyr (by decide), fun h13 e13 _ => ?_⟩
  have I13 : ∀ a j, ah_I h13 a j = ah_I g a j := fun a j => by rw [e13]; rfl
  refine K h13 (by rw [e13]; exact (z1.tr z).wJ (by omega)) ⟨?_, fun e he => ?_, fun i f hi hf => ?_, fun y hy => ?_, ?_⟩
  · intro e y he hy
    rw [tkP_h hS he, if_neg (by omega)]
    unfold tk1
    rw [eS]
    have u := U e y he hy
    exact ⟨fun f hf => by rw [I13]; exact u.1 f hf, by rw [I13]; exact u.2⟩
  · rw [tkP_in hS w4 he, eS, if_neg (by omega), I13, i1 _ _ (by omega) (by omega), I1]; exact c2 e he
  · by_cases c : i = 2
    · subst c
      show _ = nI (tkP EV k P 13 0 f)
      rw [tkP_13 hS b3, if_pos h0, I13]
      exact r1 f hf
    · have q : ah_I h13 (p + (89 + i)) f = nI (P (11 + i) 0 f) := by rw [I13, i1 _ _ (by omega) (by omega), I1]; exact c3 i f hi hf
      rw [q]
      have : i = 0 ∨ i = 1 ∨ i = 3 := by omega
      rcases this with q | q | q <;> subst q
      · show nI (P 11 0 f) = nI (tkP EV k P 11 0 f); rw [tkP_o hS b3 (by omega)]
      · show nI (P 12 0 f) = nI (tkP EV k P 12 0 f); rw [tkP_o hS b3 (by omega)]
      · show nI (P 14 0 f) = nI (tkP EV k P 14 0 f); rw [tkP_14 hS b3 (by omega), if_neg (by omega)]
  · rw [tkP_16 hS b3, e13, rd_JJ]
    by_cases c : y = EV 4 k
    · rw [if_pos ⟨by omega, by omega⟩, if_pos ⟨h0, c⟩, c, rad_s]
    · rw [if_neg (fun z => c (by have := z.1; have := z.2; omega)), if_neg (fun z => c z.2), j1 _ _ (by omega), e1, rd_Ja (by omega)]; exact c4 y hy
  · rw [tkP_15, rad_s, e13, rd_Ja (by omega), j1 _ _ (by omega), e1, rd_JJ, if_pos ⟨rfl, rfl⟩]
end

/-! ===== events that take: the model ===== -/
def ad3 (o : Nat → Int32) (b f : Nat) (q : Nat → Nat) : Nat → Int32 := fun j => if b ≤ j ∧ j < b + f then o j + nI (q (j - b)) else o j
def sd3 (o : Nat → Int32) (b f : Nat) (q : Nat → Nat) : Nat → Int32 := fun j => if b ≤ j ∧ j < b + f then o j - nI (q (j - b)) else o j
theorem ad3_h {o : Nat → Int32} {b f : Nat} {q : Nat → Nat} : ad3 o b f q (b + f) = o (b + f) := if_neg (by omega)
theorem sd3_h {o : Nat → Int32} {b f : Nat} {q : Nat → Nat} : sd3 o b f q (b + f) = o (b + f) := if_neg (by omega)
theorem ad3_s {o : Nat → Int32} {b f j : Nat} {q : Nat → Nat} {v w : Int32} (hv : v = o (b + f) + nI (q f)) (hw : w = ad3 o b f q j) {P : Prop} [Decidable P] (hp : P ↔ j = b + f) : (if P then v else w) = ad3 o b (f + 1) q j := by
  unfold ad3 at *
  by_cases c : j = b + f
  · rw [if_pos (hp.mpr c), hv, c, if_pos (by omega), show b + f - b = f by omega]
  · rw [if_neg (fun z => c (hp.mp z)), hw]
    by_cases c2 : b ≤ j ∧ j < b + f
    · rw [if_pos c2, if_pos (by omega)]
    · rw [if_neg c2, if_neg (by omega)]
theorem sd3_s {o : Nat → Int32} {b f j : Nat} {q : Nat → Nat} {v w : Int32} (hv : v = o (b + f) - nI (q f)) (hw : w = sd3 o b f q j) {P : Prop} [Decidable P] (hp : P ↔ j = b + f) : (if P then v else w) = sd3 o b (f + 1) q j := by
  unfold sd3 at *
  by_cases c : j = b + f
  · rw [if_pos (hp.mpr c), hv, c, if_pos (by omega), show b + f - b = f by omega]
  · rw [if_neg (fun z => c (hp.mp z)), hw]
    by_cases c2 : b ≤ j ∧ j < b + f
    · rw [if_pos c2, if_pos (by omega)]
    · rw [if_neg c2, if_neg (by omega)]
section
variable {G : ma_G} {d M k m b b2 : Nat} {q : Nat → Nat} {h g g2 : ah_T} {Q : Option ma_V → ah_T → Prop} {E : Nat → ah_T → Prop}
theorem m_oth_car (L : LY8 h M) (i5 : ah_I h M 5 = nI m) (m20 : m ≤ 20) (hk : k < 120) (so : ah_I h (M + 9) k = (1 : Int32)) (hx : (20 : Int32) * (((6 : Int32) * ah_I h (M + 12) k + ah_I h (M + 13) k) * (10 : Int32) + ah_I h (M + 14) k) = nI b2) (hb2 : b2 + 20 ≤ 2400) (hb : b + 20 ≤ 9600) (hq : ∀ f, f < m → ah_J h (M + 33) f = lN (q f)) (K : ∀ g, mch [23, 24, 30, 31] [] M h g → (∀ j, ah_I g (M + 23) j = sd3 (ah_I h (M + 23)) b m q j) ∧ (∀ j, ah_I g (M + 24) j = ad3 (ah_I h (M + 24)) b2 m q j) ∧ (∀ j, ah_I g (M + 30) j = ah_I h (M + 30) j) ∧ (∀ j, ah_I g (M + 31) j = ah_I h (M + 31) j) → Q none g) : MX G mi_X8_playOther (d + 1) 59 [some (rv M), some (iv (nI k)), some (iv (0 : Int32)), some (iv (nI b)), some (iv (0 : Int32)), none] [] h Q E := by
  refine mx_up (α := Unit) (fun f _ => [some (rv M), some (iv (nI k)), some (iv (0 : Int32)), some (iv (nI b)), some (iv (nI f)), none]) m (fun f _ g => mch [23, 24, 30, 31] [] M h g ∧ (∀ j, ah_I g (M + 23) j = sd3 (ah_I h (M + 23)) b f q j) ∧ (∀ j, ah_I g (M + 24) j = ad3 (ah_I h (M + 24)) b2 f q j) ∧ (∀ j, ah_I g (M + 30) j = ah_I h (M + 30) j) ∧ (∀ j, ah_I g (M + 31) j = ah_I h (M + 31) j)) (fun f _ g hf hI KK => ?_) (fun _ g hI => ?_) 0 () h (Nat.zero_le _) ⟨mch.rf, fun j => (if_neg (by omega)).symm, fun j => (if_neg (by omega)).symm, fun j => rfl, fun j => rfl⟩
  · obtain ⟨z, j23, j24, j30, j31⟩ := hI
    have g5 : ah_I g M 5 = nI m := (z.sc 5 (by decide) (by decide)).trans i5
    have gq : (ah_J g (M + 33) f).toInt32 = nI (q f) := by rw [z.arJ 33 (by decide) (by decide), hq f hf, lN_i]
    refine v_X8_playOther_59 (z.ly L) ⟨fun c => ?_, fun _ => ?_⟩
    · exfalso; rw [g5, i3_le, nI_x (by omega), nI_x (by omega)] at c; omega
    rw [nI_add, nI_clamp (n := b + f) (by omega), nI_clamp (n := f) (by omega), gq]
    refine ⟨vp_in_nI (by omega) (by decide), fun _ => ⟨vp_in_nI (by omega) (by decide), fun h5 e5 _ => ?_⟩, fun c => absurd rfl c⟩
    have z5 : mch [23, 24, 30, 31] [] M h h5 := by rw [e5]; exact z.wI (by decide)
    refine v_X8_playOther_113 (z5.ly L) ?_
    rw [nI_clamp (n := k) (by omega), nI_clamp (n := f) (by omega), (z5.ar 9 (by decide) (by decide) k).trans so, z5.ar 12 (by decide) (by decide) k, z5.ar 13 (by decide) (by decide) k, z5.ar 14 (by decide) (by decide) k, hx, nI_add, nI_clamp (n := b2 + f) (by omega)]
    refine ⟨vp_in_nI (by omega) (by decide), fun c => absurd rfl c, fun _ => ⟨vp_in_nI (by omega) (by decide), fun h6 e6 _ => ⟨vp_in_nI (by omega) (by decide), fun _ => ?_, fun c => absurd rfl c⟩⟩⟩
    have z6 : mch [23, 24, 30, 31] [] M h h6 := by rw [e6]; exact z5.wI (by decide)
    refine v_X8_playOther_175 (z6.ly L) ?_
    rw [nI_clamp (n := k) (by omega), nI_clamp (n := f) (by omega)]
    refine ⟨vp_in_nI (by omega) (by decide), fun h7 e7 _ => ⟨vp_in_nI (by omega) (by decide), fun _ h8 e8 _ => ?_, fun c => absurd (c.symm.trans ((z6.ar 9 (by decide) (by decide) k).trans so)) (by decide)⟩⟩
    have z8 : mch [23, 24, 30, 31] [] M h h8 := by rw [e8, e7]; exact (z6.wI (by decide)).wI (by decide)
    rw [nI_1]
    refine KK () h8 ⟨z8, fun j => ?_, fun j => ?_, fun j => ?_, fun j => ?_⟩
    · rw [e8, rd_Ia (by omega), e7, rd_Ia (by omega), e6, rd_Ia (by omega), e5, rd_II]
      refine sd3_s (b := b) (f := f) ?_ (j23 j) ⟨fun y => by have := y.2; omega, fun y => ⟨rfl, by omega⟩⟩
      rw [j23, sd3_h]
    · rw [e8, rd_Ia (by omega), e7, rd_Ia (by omega), e6, rd_II]
      refine ad3_s (b := b2) (f := f) ?_ (by rw [e5, rd_Ia (by omega), j24]) ⟨fun y => by have := y.2; omega, fun y => ⟨rfl, by omega⟩⟩
      rw [e5, rd_Ia (by omega), j24, ad3_h]
    · rw [e8, rd_Ia (by omega), e7, rd_II, Int32.add_zero]
      by_cases c : j = f
      · rw [if_pos ⟨rfl, c⟩, c]; rw [e5, rd_Ia (by omega)]; exact j30 f
      · rw [if_neg (fun y => c y.2), e6, rd_Ia (by omega), e5, rd_Ia (by omega)]; exact j30 j
    · rw [e8, rd_II, Int32.add_zero]
      by_cases c : j = f
      · rw [if_pos ⟨rfl, c⟩, c]; rw [e6, rd_Ia (by omega), e5, rd_Ia (by omega)]; exact j31 f
      · rw [if_neg (fun y => c y.2), e7, rd_Ia (by omega), e6, rd_Ia (by omega), e5, rd_Ia (by omega)]; exact j31 j
  · obtain ⟨z, j23, j24, j30, j31⟩ := hI
    have g5 : ah_I g M 5 = nI m := (z.sc 5 (by decide) (by decide)).trans i5
    exact v_X8_playOther_59 (z.ly L) ⟨fun _ => K g z ⟨j23, j24, j30, j31⟩, fun c => absurd (by rw [g5, i3_le]; exact Int.le_refl _) c⟩
theorem m_oth_sal (L : LY8 h M) (i5 : ah_I h M 5 = nI m) (m20 : m ≤ 20) (hk : k < 120) (so : ah_I h (M + 9) k = (2 : Int32)) (hb : b + 20 ≤ 2400) (hq : ∀ f, f < m → ah_J h (M + 33) f = lN (q f)) (K : ∀ g, mch [23, 24, 30, 31] [] M h g → (∀ j, ah_I g (M + 23) j = ah_I h (M + 23) j) ∧ (∀ j, ah_I g (M + 24) j = sd3 (ah_I h (M + 24)) b m q j) ∧ (∀ j, ah_I g (M + 30) j = ad3 (ah_I h (M + 30)) 0 m q j) ∧ (∀ j, ah_I g (M + 31) j = ah_I h (M + 31) j) → Q none g) : MX G mi_X8_playOther (d + 1) 59 [some (rv M), some (iv (nI k)), some (iv (1 : Int32)), some (iv (nI b)), some (iv (0 : Int32)), none] [] h Q E := by
  refine mx_up (α := Unit) (fun f _ => [some (rv M), some (iv (nI k)), some (iv (1 : Int32)), some (iv (nI b)), some (iv (nI f)), none]) m (fun f _ g => mch [23, 24, 30, 31] [] M h g ∧ (∀ j, ah_I g (M + 23) j = ah_I h (M + 23) j) ∧ (∀ j, ah_I g (M + 24) j = sd3 (ah_I h (M + 24)) b f q j) ∧ (∀ j, ah_I g (M + 30) j = ad3 (ah_I h (M + 30)) 0 f q j) ∧ (∀ j, ah_I g (M + 31) j = ah_I h (M + 31) j)) (fun f _ g hf hI KK => ?_) (fun _ g hI => ?_) 0 () h (Nat.zero_le _) ⟨mch.rf, fun j => rfl, fun j => (if_neg (by omega)).symm, fun j => (if_neg (by omega)).symm, fun j => rfl⟩
  · obtain ⟨z, j23, j24, j30, j31⟩ := hI
    have g5 : ah_I g M 5 = nI m := (z.sc 5 (by decide) (by decide)).trans i5
    have gq : (ah_J g (M + 33) f).toInt32 = nI (q f) := by rw [z.arJ 33 (by decide) (by decide), hq f hf, lN_i]
    refine v_X8_playOther_59 (z.ly L) ⟨fun c => ?_, fun _ => ?_⟩
    · exfalso; rw [g5, i3_le, nI_x (by omega), nI_x (by omega)] at c; omega
    rw [nI_add, nI_clamp (n := b + f) (by omega), nI_clamp (n := f) (by omega), gq]
    refine ⟨vp_in_nI (by omega) (by decide), fun c => absurd c (by decide), fun _ => ⟨vp_in_nI (by omega) (by decide), fun h5 e5 _ => ?_⟩⟩
    have z5 : mch [23, 24, 30, 31] [] M h h5 := by rw [e5]; exact z.wI (by decide)
    refine v_X8_playOther_113 (z5.ly L) ?_
    rw [nI_clamp (n := k) (by omega), nI_clamp (n := f) (by omega), (z5.ar 9 (by decide) (by decide) k).trans so]
    refine ⟨vp_in_nI (by omega) (by decide), fun _ => ⟨vp_in_nI (by omega) (by decide), fun c => absurd c (by decide), fun _ => ?_⟩, fun c => absurd c (by decide)⟩
    refine v_X8_playOther_175 (z5.ly L) ?_
    rw [nI_clamp (n := k) (by omega), nI_clamp (n := f) (by omega)]
    refine ⟨vp_in_nI (by omega) (by decide), fun h7 e7 _ => ⟨vp_in_nI (by omega) (by decide), fun _ h8 e8 _ => ?_, fun c => absurd (c.symm.trans ((z5.ar 9 (by decide) (by decide) k).trans so)) (by decide)⟩⟩
    have z8 : mch [23, 24, 30, 31] [] M h h8 := by rw [e8, e7]; exact (z5.wI (by decide)).wI (by decide)
    rw [nI_1]
    refine KK () h8 ⟨z8, fun j => ?_, fun j => ?_, fun j => ?_, fun j => ?_⟩
    · rw [e8, rd_Ia (by omega), e7, rd_Ia (by omega), e5, rd_Ia (by omega)]; exact j23 j
    · rw [e8, rd_Ia (by omega), e7, rd_Ia (by omega), e5, rd_II]
      refine sd3_s (b := b) (f := f) ?_ (j24 j) ⟨fun y => by have := y.2; omega, fun y => ⟨rfl, by omega⟩⟩
      rw [j24, sd3_h]
    · rw [e8, rd_Ia (by omega), e7, rd_II]
      refine ad3_s (b := 0) (f := f) ?_ (by rw [e5, rd_Ia (by omega), j30]) ⟨fun y => by have := y.2; omega, fun y => ⟨rfl, by omega⟩⟩
      have jj := j30 (0 + f)
      rw [ad3_h] at jj
      rw [Nat.zero_add] at jj ⊢
      rw [e5, rd_Ia (by omega), jj]
    · rw [e8, rd_II, Int32.add_zero]
      by_cases c : j = f
      · rw [if_pos ⟨rfl, c⟩, c]; rw [e5, rd_Ia (by omega)]; exact j31 f
      · rw [if_neg (fun y => c y.2), e7, rd_Ia (by omega), e5, rd_Ia (by omega)]; exact j31 j
  · obtain ⟨z, j23, j24, j30, j31⟩ := hI
    have g5 : ah_I g M 5 = nI m := (z.sc 5 (by decide) (by decide)).trans i5
    exact v_X8_playOther_59 (z.ly L) ⟨fun _ => K g z ⟨j23, j24, j30, j31⟩, fun c => absurd (by rw [g5, i3_le]; exact Int.le_refl _) c⟩
theorem m_oth_spl (L : LY8 h M) (i5 : ah_I h M 5 = nI m) (m20 : m ≤ 20) (hk : k < 120) (so : ah_I h (M + 9) k = (3 : Int32)) (hb : b + 20 ≤ 9600) (hq : ∀ f, f < m → ah_J h (M + 33) f = lN (q f)) (K : ∀ g, mch [23, 24, 30, 31] [] M h g → (∀ j, ah_I g (M + 23) j = sd3 (ah_I h (M + 23)) b m q j) ∧ (∀ j, ah_I g (M + 24) j = ah_I h (M + 24) j) ∧ (∀ j, ah_I g (M + 30) j = ah_I h (M + 30) j) ∧ (∀ j, ah_I g (M + 31) j = ad3 (ah_I h (M + 31)) 0 m q j) → Q none g) : MX G mi_X8_playOther (d + 1) 59 [some (rv M), some (iv (nI k)), some (iv (0 : Int32)), some (iv (nI b)), some (iv (0 : Int32)), none] [] h Q E := by
  refine mx_up (α := Unit) (fun f _ => [some (rv M), some (iv (nI k)), some (iv (0 : Int32)), some (iv (nI b)), some (iv (nI f)), none]) m (fun f _ g => mch [23, 24, 30, 31] [] M h g ∧ (∀ j, ah_I g (M + 23) j = sd3 (ah_I h (M + 23)) b f q j) ∧ (∀ j, ah_I g (M + 24) j = ah_I h (M + 24) j) ∧ (∀ j, ah_I g (M + 30) j = ah_I h (M + 30) j) ∧ (∀ j, ah_I g (M + 31) j = ad3 (ah_I h (M + 31)) 0 f q j)) (fun f _ g hf hI KK => ?_) (fun _ g hI => ?_) 0 () h (Nat.zero_le _) ⟨mch.rf, fun j => (if_neg (by omega)).symm, fun j => rfl, fun j => rfl, fun j => (if_neg (by omega)).symm⟩
  · obtain ⟨z, j23, j24, j30, j31⟩ := hI
    have g5 : ah_I g M 5 = nI m := (z.sc 5 (by decide) (by decide)).trans i5
    have gq : (ah_J g (M + 33) f).toInt32 = nI (q f) := by rw [z.arJ 33 (by decide) (by decide), hq f hf, lN_i]
    refine v_X8_playOther_59 (z.ly L) ⟨fun c => ?_, fun _ => ?_⟩
    · exfalso; rw [g5, i3_le, nI_x (by omega), nI_x (by omega)] at c; omega
    rw [nI_add, nI_clamp (n := b + f) (by omega), nI_clamp (n := f) (by omega), gq]
    refine ⟨vp_in_nI (by omega) (by decide), fun _ => ⟨vp_in_nI (by omega) (by decide), fun h5 e5 _ => ?_⟩, fun c => absurd rfl c⟩
    have z5 : mch [23, 24, 30, 31] [] M h h5 := by rw [e5]; exact z.wI (by decide)
    refine v_X8_playOther_113 (z5.ly L) ?_
    rw [nI_clamp (n := k) (by omega), nI_clamp (n := f) (by omega), (z5.ar 9 (by decide) (by decide) k).trans so]
    refine ⟨vp_in_nI (by omega) (by decide), fun _ => ⟨vp_in_nI (by omega) (by decide), fun _ => ?_, fun c => absurd rfl c⟩, fun c => absurd c (by decide)⟩
    refine v_X8_playOther_175 (z5.ly L) ?_
    rw [nI_clamp (n := k) (by omega), nI_clamp (n := f) (by omega)]
    refine ⟨vp_in_nI (by omega) (by decide), fun h7 e7 _ => ⟨vp_in_nI (by omega) (by decide), fun c => absurd ((z5.ar 9 (by decide) (by decide) k).trans so) c, fun _ h8 e8 _ => ?_⟩⟩
    have z8 : mch [23, 24, 30, 31] [] M h h8 := by rw [e8, e7]; exact (z5.wI (by decide)).wI (by decide)
    rw [nI_1]
    refine KK () h8 ⟨z8, fun j => ?_, fun j => ?_, fun j => ?_, fun j => ?_⟩
    · rw [e8, rd_Ia (by omega), e7, rd_Ia (by omega), e5, rd_II]
      refine sd3_s (b := b) (f := f) ?_ (j23 j) ⟨fun y => by have := y.2; omega, fun y => ⟨rfl, by omega⟩⟩
      rw [j23, sd3_h]
    · rw [e8, rd_Ia (by omega), e7, rd_Ia (by omega), e5, rd_Ia (by omega)]; exact j24 j
    · rw [e8, rd_Ia (by omega), e7, rd_II, Int32.add_zero]
      by_cases c : j = f
      · rw [if_pos ⟨rfl, c⟩, c]; rw [e5, rd_Ia (by omega)]; exact j30 f
      · rw [if_neg (fun y => c y.2), e5, rd_Ia (by omega)]; exact j30 j
    · rw [e8, rd_II]
      refine ad3_s (b := 0) (f := f) ?_ (by rw [e7, rd_Ia (by omega), e5, rd_Ia (by omega), j31]) ⟨fun y => by have := y.2; omega, fun y => ⟨rfl, by omega⟩⟩
      have jj := j31 (0 + f)
      rw [ad3_h] at jj
      rw [Nat.zero_add] at jj ⊢
      rw [e5, rd_Ia (by omega), jj]
  · obtain ⟨z, j23, j24, j30, j31⟩ := hI
    have g5 : ah_I g M 5 = nI m := (z.sc 5 (by decide) (by decide)).trans i5
    exact v_X8_playOther_59 (z.ly L) ⟨fun _ => K g z ⟨j23, j24, j30, j31⟩, fun c => absurd (by rw [g5, i3_le]; exact Int.le_refl _) c⟩
end

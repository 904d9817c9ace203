/-! ===== warm: which bin is turned in each week ===== -/
/-- bin k is turned in week t: it wasn't ahead, it is in time, and it is one of the best -/
abbrev wcd (sp ho : Nat → Int32) (n t s k : Nat) : Prop := s / 2 ^ k % 2 = 0 ∧ (t : Int) < (sp k).toInt ∧ ho k + wmt sp ho n (19 - t) (s + 2 ^ k) = wmt sp ho n (20 - t) s
/-- the first of the last m bins; n: none -/
def wpk (sp ho : Nat → Int32) (n t s : Nat) : Nat → Nat
  | 0 => n
  | m + 1 => if wcd sp ho n t s (n - (m + 1)) then n - (m + 1) else wpk sp ho n t s m
def wnx (sp ho : Nat → Int32) (n t s : Nat) : Nat := if wpk sp ho n t s n < n then s + 2 ^ wpk sp ho n t s n else s
/-- the set ahead of week t -/
def wst (sp ho : Nat → Int32) (n : Nat) : Nat → Nat
  | 0 => 0
  | t + 1 => wnx sp ho n t (wst sp ho n t)
def wtu (sp ho : Nat → Int32) (n t : Nat) : Int32 := if wpk sp ho n t (wst sp ho n t) n < n then nI (wpk sp ho n t (wst sp ho n t) n) else -1
section
variable {sp ho : Nat → Int32} {n : Nat}
theorem wpk_le {t s m : Nat} (hm : m ≤ n) : wpk sp ho n t s m ≤ n := by
  induction m with
  | zero => exact Nat.le_refl _
  | succ m ih =>
    rw [wpk]
    split
    · omega
    · exact ih (by omega)
theorem wpk_c {t s m : Nat} (hm : m ≤ n) (h : wpk sp ho n t s m < n) : wcd sp ho n t s (wpk sp ho n t s m) := by
  induction m with
  | zero => exact absurd h (Nat.lt_irrefl _)
  | succ m ih =>
    rw [wpk] at h ⊢
    split
    · assumption
    · rename_i c
      rw [if_neg c] at h
      exact ih (by omega) h
theorem wst_lt (hn : n < 9) (t : Nat) : wst sp ho n t < 2 ^ n := by
  induction t with
  | zero => exact Nat.two_pow_pos n
  | succ t ih =>
    rw [wst]
    unfold wnx
    split
    · rename_i c
      exact wb_in n hn _ c _ ih (wpk_c (Nat.le_refl _) c).1
    · exact ih
variable {G : ma_G} {d M : Nat} {h : ah_T} {Q : Option ma_V → ah_T → Prop} {E : Nat → ah_T → Prop}
/-- the bins one by one, till one is good -/
theorem m_warm_387 {t s : Nat} (hn : n < 9) (ht : t < 20) (hs : s < 2 ^ n) (L : LY8 h M) (e1 : ∀ k, k < n → ah_I h (M + 67) k = sp k) (e2 : ∀ k, k < n → ah_I h (M + 68) k = ho k) (R : wrow h M sp ho n 0)
    (K : ∀ z, z = (if wpk sp ho n t s n < n then nI (wpk sp ho n t s n) else -1) → MX G mi_X8_warm (d + 1) 478 [some (rv M), none, none, some (iv (nI n)), some (iv (nI s)), some (iv (nI t)), some (iv (nI (wpk sp ho n t s n))), none] [iv z, iv (nI t), rv (M + 69)] h Q E) :
    MX G mi_X8_warm (d + 1) 387 [some (rv M), none, none, some (iv (nI n)), some (iv (nI s)), some (iv (nI t)), some (iv 0), none] [] h Q E := by
  have h256 := (wb_sh n hn).2
  have hs2 : s < 256 := by omega
  refine mx_up (α := Unit) (fun k _ => [some (rv M), none, none, some (iv (nI n)), some (iv (nI s)), some (iv (nI t)), some (iv (nI k)), none]) n (fun k _ g => g = h ∧ wpk sp ho n t s n = wpk sp ho n t s (n - k)) (fun k _ g hk hI KK => ?_) (fun _ g hI => ?_) 0 () h (Nat.zero_le _) ⟨rfl, rfl⟩
  · obtain ⟨e, hI⟩ := hI
    subst e
    have st : wpk sp ho n t s (n - k) = if wcd sp ho n t s k then k else wpk sp ho n t s (n - (k + 1)) := by
      rw [show n - k = (n - (k + 1)) + 1 by omega, wpk, show n - (n - (k + 1) + 1) = k by omega]
    have go : ¬ wcd sp ho n t s k → MX G mi_X8_warm (d + 1) 387 [some (rv M), none, none, some (iv (nI n)), some (iv (nI s)), some (iv (nI t)), some (iv (nI (k + 1))), none] [] g Q E := fun c => KK () g ⟨rfl, by rw [hI, st, if_neg c]⟩
    refine v_X8_warm_387 L ⟨fun c => absurd c (nI_ge hk (by omega)), fun _ => ?_⟩
    obtain ⟨b1, b2⟩ := wb_bit s hs2 k (by omega)
    rw [nI_1, nI_clamp (n := k) (by omega), e1 k hk, e2 k hk]
    refine ⟨fun c => go (fun q => c (b1.mpr q.1)), fun c => ⟨vp_in_nI (by omega) (by decide), fun c2 => ?_, fun c2 => ?_⟩⟩
    · rw [i3_le, nI_x (by omega)] at c2
      exact go (fun q => by have := q.2.1; omega)
    · rw [b1] at c
      have hin := wb_in n hn k hk s hs c
      have o := b2 c
      have ix := wb_ix1 (s := s + 2 ^ k) ht (by omega)
      have iy := wb_ix (t := t) (s := s) (by omega) hs2
      rw [i3_le, nI_x (by omega)] at c2
      rw [o, ix.1, iy.1, nI_clamp (n := 256 * (t + 1) + (s + 2 ^ k)) (by omega), nI_clamp (n := 256 * t + s) (by omega), R (t + 1) (Nat.zero_le _) (by omega) _ hin, R t (Nat.zero_le _) (by omega) _ hs, show 20 - (t + 1) = 19 - t by omega]
      refine ⟨vp_in_nI ix.2 (by decide), vp_in_nI iy.2 (by decide), fun c3 => ?_, fun c3 => go (fun q => c3 q.2.2)⟩
      have wc : wcd sp ho n t s k := ⟨c, by omega, c3⟩
      have ek : wpk sp ho n t s n = k := by rw [hI, st, if_pos wc]
      have kk := K (nI k) (by rw [ek, if_pos hk])
      rw [ek] at kk
      exact kk
  · obtain ⟨e, hI⟩ := hI
    subst e
    have ek : wpk sp ho n t s n = n := by rw [hI, Nat.sub_self]; rfl
    have kk := K (-1) (by rw [ek, if_neg (Nat.lt_irrefl _)])
    rw [ek] at kk
    exact v_X8_warm_387 L ⟨fun _ => kk, fun c => absurd (nI_le (Nat.le_refl n) (by omega)) c⟩
/-- all weeks: what is turned -/
theorem m_warm_377 (hn : n < 9) (L : LY8 h M) (e1 : ∀ k, k < n → ah_I h (M + 67) k = sp k) (e2 : ∀ k, k < n → ah_I h (M + 68) k = ho k) (R : wrow h M sp ho n 0)
    (K : ∀ g, mch [69] [107] M h g → (∀ t, t < 20 → ah_I g (M + 69) t = wtu sp ho n t) → (∀ t, 20 ≤ t → ah_I g (M + 69) t = ah_I h (M + 69) t) → (∀ t, ah_J g (M + 69) t = ah_J h (M + 69) t) → ah_I g M 107 = 1 → Q (some (iv (wmt sp ho n 20 0))) g) :
    MX G mi_X8_warm (d + 1) 377 [some (rv M), none, none, some (iv (nI n)), some (iv 0), some (iv 0), none, none] [] h Q E := by
  have h256 := (wb_sh n hn).2
  refine mx_up (α := Unit) (fun t _ => [some (rv M), none, none, some (iv (nI n)), some (iv (nI (wst sp ho n t))), some (iv (nI t)), none, none]) 20 (fun t _ g => mch [69] [107] M h g ∧ (∀ j, j < t → ah_I g (M + 69) j = wtu sp ho n j) ∧ (∀ j, t ≤ j → ah_I g (M + 69) j = ah_I h (M + 69) j) ∧ ∀ j, ah_J g (M + 69) j = ah_J h (M + 69) j) (fun t _ g ht hI KK => ?_) (fun _ g hI => ?_) 0 () h (Nat.zero_le _) ⟨mch.rf, fun j hj => absurd hj (Nat.not_lt_zero _), fun _ _ => rfl, fun _ => rfl⟩
  · obtain ⟨m, q1, q2, q3⟩ := hI
    have hs := wst_lt (sp := sp) (ho := ho) hn t
    refine v_X8_warm_377 (m.ly L) ⟨fun c => absurd c (nI_ge ht (by decide)), fun _ => ?_⟩
    refine m_warm_387 (sp := sp) (ho := ho) hn ht hs (m.ly L) (fun k hk => by rw [m.ar 67 (by decide) (by decide)]; exact e1 k hk) (fun k hk => by rw [m.ar 68 (by decide) (by decide)]; exact e2 k hk) (fun t' h1 h2 j hj => by rw [m.ar 70 (by decide) (by decide)]; exact R t' h1 h2 j hj) (fun z hz => ?_)
    have hz : z = wtu sp ho n t := hz
    subst hz
    refine v_X8_warm_478 (m.ly L) ⟨vp_in_nI ht (by decide), ?_⟩
    rw [nI_clamp (n := t) (by omega), nI_1]
    intro h2 e2' _
    subst e2'
    have done : mch [69] [107] M h (ah_wI g (M + 69) t (wtu sp ho n t)) ∧ (∀ j, j < t + 1 → ah_I (ah_wI g (M + 69) t (wtu sp ho n t)) (M + 69) j = wtu sp ho n j) ∧ (∀ j, t + 1 ≤ j → ah_I (ah_wI g (M + 69) t (wtu sp ho n t)) (M + 69) j = ah_I h (M + 69) j) ∧ ∀ j, ah_J (ah_wI g (M + 69) t (wtu sp ho n t)) (M + 69) j = ah_J h (M + 69) j := ⟨m.wI (by decide), fun j hj => by
        rw [rd_II]
        rcases Nat.decEq j t with c | c
        · rw [if_neg (fun q => c q.2)]; exact q1 j (by omega)
        · rw [if_pos ⟨rfl, c⟩, c], fun j hj => by rw [rd_Ik (by omega)]; exact q2 j (by omega), q3⟩
    have kk := KK () _ done
    have hk := wpk_le (sp := sp) (ho := ho) (t := t) (s := wst sp ho n t) (Nat.le_refl n)
    refine ⟨fun c => ?_, fun c => ?_⟩
    · have en : wpk sp ho n t (wst sp ho n t) n = n := by
        rcases Nat.lt_or_ge (wpk sp ho n t (wst sp ho n t) n) n with q | q
        · exact absurd c (nI_ge q (by omega))
        · omega
      have es : wst sp ho n (t + 1) = wst sp ho n t := by rw [wst]; unfold wnx; rw [if_neg (by omega)]
      rw [es] at kk
      rw [show nI (wst sp ho n t) ||| (0 : Int32) = nI (wst sp ho n t) from Int32.or_zero]
      exact kk
    · have en : wpk sp ho n t (wst sp ho n t) n < n := by
        rcases Nat.lt_or_ge (wpk sp ho n t (wst sp ho n t) n) n with q | q
        · exact q
        · exact absurd (nI_le q (by omega)) c
      have es : wst sp ho n (t + 1) = wst sp ho n t + 2 ^ wpk sp ho n t (wst sp ho n t) n := by rw [wst]; unfold wnx; rw [if_pos en]
      rw [es] at kk
      rw [(wb_bit (wst sp ho n t) (by omega) _ (by omega)).2 (wpk_c (Nat.le_refl _) en).1]
      exact kk
  · obtain ⟨m, q1, q2, q3⟩ := hI
    refine v_X8_warm_377 (m.ly L) ⟨fun _ => ?_, fun c => absurd (nI_le (Nat.le_refl 20) (by decide)) c⟩
    intro h2 e2' _
    subst e2'
    have r0 : ah_I g (M + 70) 0 = wmt sp ho n 20 0 := by
      rw [m.ar 70 (by decide) (by decide)]
      exact R 0 (Nat.le_refl _) (by decide) 0 (Nat.two_pow_pos n)
    rw [r0]
    exact K _ (m.zI (by decide)) (fun t ht => by rw [rd_Ia (by omega)]; exact q1 t ht) (fun t ht => by rw [rd_Ia (by omega)]; exact q2 t ht) q3 rd_Ih
end

/-! ===== warm: the model's table ===== -/
set_option maxRecDepth 100000
theorem wb_bit : ∀ s, s < 256 → ∀ k, k < 8 → ((((nI s >>> (nI k &&& 31)) &&& (1 : Int32)) = 0 ↔ s / 2 ^ k % 2 = 0) ∧ (s / 2 ^ k % 2 = 0 → nI s ||| ((1 : Int32) <<< (nI k &&& 31)) = nI (s + 2 ^ k))) := by decide +kernel
theorem wb_in : ∀ n, n < 9 → ∀ k, k < n → ∀ s, s < 2 ^ n → s / 2 ^ k % 2 = 0 → s + 2 ^ k < 2 ^ n := by decide +kernel
theorem wb_sh : ∀ n, n < 9 → (1 : Int32) <<< (nI n &&& 31) = nI (2 ^ n) ∧ 2 ^ n ≤ 256 := by decide +kernel
section
variable {G : ma_G} {d M : Nat} {h : ah_T} {Q : Option ma_V → ah_T → Prop} {E : Nat → ah_T → Prop} {sp ho : Nat → Int32} {n : Nat}
theorem wb_ix {t s : Nat} (ht : t ≤ 20) (hs : s < 256) : (256 : Int32) * nI t + nI s = nI (256 * t + s) ∧ 256 * t + s < 5376 := by
  refine ⟨?_, by omega⟩
  rw [show (256 : Int32) = nI 256 from rfl, pk_mul, nI_add]
theorem wb_ix1 {t s : Nat} (ht : t < 20) (hs : s < 256) : (256 : Int32) * nI t + 256 + nI s = nI (256 * (t + 1) + s) ∧ 256 * (t + 1) + s < 5376 := by
  refine ⟨?_, by omega⟩
  rw [show (256 : Int32) = nI 256 from rfl, pk_mul, nI_add, nI_add]
  congr 1
/-- what the table's rows show from week t on -/
def wrow (g : ah_T) (M : Nat) (sp ho : Nat → Int32) (n t : Nat) : Prop := ∀ t', t ≤ t' → t' ≤ 20 → ∀ s, s < 2 ^ n → ah_I g (M + 70) (256 * t' + s) = wmt sp ho n (20 - t') s
/-- the bins of a set, one by one -/
theorem m_warm_280 {t s : Nat} (hn : n < 9) (ht : t < 20) (hs : s < 2 ^ n) (L : LY8 h M) (e1 : ∀ k, k < n → ah_I h (M + 67) k = sp k) (e2 : ∀ k, k < n → ah_I h (M + 68) k = ho k) (R : wrow h M sp ho n (t + 1))
    (K : ∀ h3, h3 = ah_wI h (M + 70) (256 * t + s) (wmt sp ho n (20 - t) s) → MX G mi_X8_warm (d + 1) 249 [some (rv M), none, none, some (iv (nI n)), some (iv (nI t)), some (iv (nI (s + 1))), none, none] [] h3 Q E) :
    MX G mi_X8_warm (d + 1) 280 [some (rv M), none, none, some (iv (nI n)), some (iv (nI t)), some (iv (nI s)), some (iv (wmt sp ho n (19 - t) s)), some (iv 0)] [] h Q E := by
  have h256 := (wb_sh n hn).2
  have hs2 : s < 256 := by omega
  refine mx_up (α := Unit) (fun k _ => [some (rv M), none, none, some (iv (nI n)), some (iv (nI t)), some (iv (nI s)), some (iv (wmk sp ho (wmt sp ho n (19 - t)) t s k)), some (iv (nI k))]) n (fun _ _ g => g = h) (fun k _ g hk hI KK => ?_) (fun _ g hI => ?_) 0 () h (Nat.zero_le _) rfl
  · subst hI
    have kk := KK () g rfl
    refine v_X8_warm_280 L ⟨fun c => absurd c (nI_ge hk (by omega)), fun _ => ?_⟩
    obtain ⟨b1, b2⟩ := wb_bit s hs2 k (by omega)
    rw [nI_1, nI_clamp (n := k) (by omega), e1 k hk, e2 k hk]
    refine ⟨fun c => ?_, fun c => ⟨vp_in_nI (by omega) (by decide), fun c2 => ?_, fun c2 => ?_⟩⟩
    · rw [b1] at c
      have q : wmk sp ho (wmt sp ho n (19 - t)) t s (k + 1) = wmk sp ho (wmt sp ho n (19 - t)) t s k := by
        rw [wmk, if_neg (fun q => c q.1)]
      rw [q] at kk; exact kk
    · rw [i3_le, nI_x (by omega)] at c2
      have q : wmk sp ho (wmt sp ho n (19 - t)) t s (k + 1) = wmk sp ho (wmt sp ho n (19 - t)) t s k := by
        rw [wmk, if_neg (fun q => by have := q.2; omega)]
      rw [q] at kk; exact kk
    · rw [b1] at c
      have hin := wb_in n hn k hk s hs c
      have o := b2 c
      have ix := wb_ix1 (s := s + 2 ^ k) ht (by omega)
      rw [i3_le, nI_x (by omega)] at c2
      have q : wmk sp ho (wmt sp ho n (19 - t)) t s (k + 1) = iMax (wmk sp ho (wmt sp ho n (19 - t)) t s k) (ho k + wmt sp ho n (19 - t) (s + 2 ^ k)) := by
        rw [wmk, if_pos ⟨c, by omega⟩]
      rw [q] at kk
      rw [o, ix.1, nI_clamp (by omega), R (t + 1) (Nat.le_refl _) (by omega) _ hin, show 20 - (t + 1) = 19 - t by omega]
      exact ⟨vp_in_nI ix.2 (by decide), kk⟩
  · subst hI
    have ix := wb_ix (t := t) (s := s) (by omega) hs2
    refine v_X8_warm_280 L ⟨fun _ => ?_, fun c => absurd (nI_le (Nat.le_refl n) (by omega)) c⟩
    rw [ix.1, nI_clamp (by omega)]
    refine ⟨vp_in_nI ix.2 (by decide), ?_⟩
    intro h3 q3 _
    rw [nI_1]
    refine K h3 ?_
    rw [q3, show 20 - t = (19 - t) + 1 by omega]
    show _ = ah_wI g (M + 70) (256 * t + s) (wmk sp ho (wmt sp ho n (19 - t)) (19 - (19 - t)) s n)
    rw [show 19 - (19 - t) = t by omega]
/-- a week: all sets -/
theorem m_warm_249 {t : Nat} {h0 : ah_T} (hn : n < 9) (ht : t < 20) (L : LY8 h M) (e1 : ∀ k, k < n → ah_I h (M + 67) k = sp k) (e2 : ∀ k, k < n → ah_I h (M + 68) k = ho k) (R : wrow h M sp ho n (t + 1))
    (K : ∀ g, mch [70] [] M h g → wrow g M sp ho n t → MX G mi_X8_warm (d + 1) 241 [some (rv M), none, none, some (iv (nI n)), some (iv (nI t + (-1))), none, none, none] [] g Q E) :
    MX G mi_X8_warm (d + 1) 249 [some (rv M), none, none, some (iv (nI n)), some (iv (nI t)), some (iv 0), none, none] [] h Q E := by
  obtain ⟨sh, h256⟩ := wb_sh n hn
  refine mx_up (α := Unit) (fun s _ => [some (rv M), none, none, some (iv (nI n)), some (iv (nI t)), some (iv (nI s)), none, none]) (2 ^ n) (fun s _ g => mch [70] [] M h g ∧ wrow g M sp ho n (t + 1) ∧ ∀ j, j < s → ah_I g (M + 70) (256 * t + j) = wmt sp ho n (20 - t) j) (fun s _ g hs hI KK => ?_) (fun _ g hI => ?_) 0 () h (Nat.zero_le _) ⟨mch.rf, R, fun j hj => absurd hj (Nat.not_lt_zero _)⟩
  · obtain ⟨m, r, q⟩ := hI
    have ix := wb_ix1 (t := t) (s := s) ht (by omega)
    refine v_X8_warm_249 (m.ly L) ⟨fun c => absurd c (by rw [sh]; exact nI_ge hs (by omega)), fun _ => ?_⟩
    rw [ix.1, nI_clamp (by omega), r (t + 1) (Nat.le_refl _) (by omega) s hs, show 20 - (t + 1) = 19 - t by omega]
    refine ⟨vp_in_nI ix.2 (by decide), ?_⟩
    refine m_warm_280 hn ht hs (m.ly L) (fun k hk => by rw [m.ar 67 (by decide) (by decide)]; exact e1 k hk) (fun k hk => by rw [m.ar 68 (by decide) (by decide)]; exact e2 k hk) r (fun h3 q3 => ?_)
    subst q3
    refine KK () _ ⟨m.wI (by decide), fun t' h1 h2 j hj => ?_, fun j hj => ?_⟩
    · rw [rd_Ik (by omega)]; exact r t' h1 h2 j hj
    · rw [rd_II]
      rcases Nat.decEq j s with c | c
      · rw [if_neg (by omega)]; exact q j (by omega)
      · rw [if_pos ⟨rfl, by omega⟩, c]
  · obtain ⟨m, r, q⟩ := hI
    refine v_X8_warm_249 (m.ly L) ⟨fun _ => K g m (fun t' h1 h2 j hj => ?_), fun c => absurd (by rw [sh]; exact nI_le (Nat.le_refl _) (by omega)) c⟩
    rcases Nat.decEq t' t with c | c
    · exact r t' (by omega) h2 j hj
    · subst c; exact q j hj
/-- all weeks -/
theorem m_warm_241 {r : Nat} (hn : n < 9) (hr : r ≤ 20) (L : LY8 h M) (e1 : ∀ k, k < n → ah_I h (M + 67) k = sp k) (e2 : ∀ k, k < n → ah_I h (M + 68) k = ho k) (R : wrow h M sp ho n r)
    (K : ∀ g, mch [70] [] M h g → wrow g M sp ho n 0 → MX G mi_X8_warm (d + 1) 377 [some (rv M), none, none, some (iv (nI n)), some (iv 0), some (iv 0), none, none] [] g Q E) :
    MX G mi_X8_warm (d + 1) 241 [some (rv M), none, none, some (iv (nI n)), some (iv (nI r + (-1))), none, none, none] [] h Q E := by
  induction r generalizing h with
  | zero =>
    refine v_X8_warm_241 L ⟨fun _ => K h mch.rf R, fun c => absurd (by decide) c⟩
  | succ t ih =>
    rw [pk_m1]
    refine v_X8_warm_241 L ⟨fun c => absurd c (nI_pos (by omega)), fun _ => ?_⟩
    refine m_warm_249 (h0 := h) hn (by omega) L e1 e2 R (fun g m r => ?_)
    exact ih (by omega) (m.ly L) (fun k hk => by rw [m.ar 67 (by decide) (by decide)]; exact e1 k hk) (fun k hk => by rw [m.ar 68 (by decide) (by decide)]; exact e2 k hk) r (fun g2 m2 r2 => K g2 (m.tr m2) r2)
/-- the last row, then all weeks -/
theorem m_warm_211 (hn : n < 9) (L : LY8 h M) (e1 : ∀ k, k < n → ah_I h (M + 67) k = sp k) (e2 : ∀ k, k < n → ah_I h (M + 68) k = ho k)
    (K : ∀ g, mch [70] [] M h g → wrow g M sp ho n 0 → MX G mi_X8_warm (d + 1) 377 [some (rv M), none, none, some (iv (nI n)), some (iv 0), some (iv 0), none, none] [] g Q E) :
    MX G mi_X8_warm (d + 1) 211 [some (rv M), none, none, some (iv (nI n)), some (iv 0), none, none, none] [] h Q E := by
  obtain ⟨sh, h256⟩ := wb_sh n hn
  refine mx_up (α := Unit) (fun s _ => [some (rv M), none, none, some (iv (nI n)), some (iv (nI s)), none, none, none]) (2 ^ n) (fun s _ g => mch [70] [] M h g ∧ ∀ j, j < s → ah_I g (M + 70) (5120 + j) = 0) (fun s _ g hs hI KK => ?_) (fun _ g hI => ?_) 0 () h (Nat.zero_le _) ⟨mch.rf, fun j hj => absurd hj (Nat.not_lt_zero _)⟩
  · obtain ⟨m, q⟩ := hI
    refine v_X8_warm_211 (m.ly L) ⟨fun c => absurd c (by rw [sh]; exact nI_ge hs (by omega)), fun _ => ?_⟩
    rw [show (5120 : Int32) + nI s = nI (5120 + s) from by rw [show (5120 : Int32) = nI 5120 from rfl, nI_add], nI_clamp (by omega)]
    refine ⟨vp_in_nI (by omega) (by decide), ?_⟩
    intro h3 q3 _
    subst q3
    rw [nI_1]
    refine KK () _ ⟨m.wI (by decide), fun j hj => ?_⟩
    rw [rd_II]
    rcases Nat.decEq j s with c | c
    · rw [if_neg (by omega)]; exact q j (by omega)
    · rw [if_pos ⟨rfl, by omega⟩]
  · obtain ⟨m, q⟩ := hI
    refine v_X8_warm_211 (m.ly L) ⟨fun _ => ?_, fun c => absurd (by rw [sh]; exact nI_le (Nat.le_refl _) (by omega)) c⟩
    rw [show (19 : Int32) = nI 20 + (-1) from by decide]
    refine m_warm_241 hn (Nat.le_refl _) (m.ly L) (fun k hk => by rw [m.ar 67 (by decide) (by decide)]; exact e1 k hk) (fun k hk => by rw [m.ar 68 (by decide) (by decide)]; exact e2 k hk) (fun t' h1 h2 j hj => ?_) (fun g2 m2 r2 => K g2 (m.tr m2) r2)
    have e : t' = 20 := by omega
    subst e
    exact q j hj
end

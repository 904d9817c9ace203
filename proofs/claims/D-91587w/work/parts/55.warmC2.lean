section
variable {G : ma_G} {d X : Nat} {h g : ah_T} {Q : Option ma_V → ah_T → Prop} {E : Nat → ah_T → Prop} {sp ho : Nat → Int32} {n : Nat}
/-- the last week: nothing more is saved -/
theorem c_warm_232z {s : Nat} (hn : n < 9) (hs : s < 2 ^ n) (L : LY0 h X)
    (K : ∀ h3, h3 = ah_wI h (X + (1455 + 20)) s 0 → MX G mi_X0_warm (d + 1) 196 [some (rv X), none, none, some (iv (nI n)), some (iv 20), some (iv (nI (s + 1))), none, none] [] h3 Q E) :
    MX G mi_X0_warm (d + 1) 232 [some (rv X), none, none, some (iv (nI n)), some (iv 20), some (iv (nI s)), some (iv 0), some (iv 0)] [] h Q E := by
  have h256 := (wb_sh n hn).2
  have w : vp_in (20 : Int32) 21 ∧ vp_in (nI s) 256 ∧ ∀ h4 : ah_T, h4 = ah_wI h (X + (1455 + (20 : Int32).toNatClampNeg)) (nI s).toNatClampNeg 0 → ah_ext h h4 → MX G mi_X0_warm (d + 1) 196 [some (rv X), none, none, some (iv (nI n)), some (iv 20), some (iv (nI s + 1)), none, none] [] h4 Q E := by
    refine ⟨vp_c (by decide), vp_in_nI (by omega) (by decide), ?_⟩
    intro h4 e4 _
    rw [nI_clamp (n := s) (by omega)] at e4
    rw [nI_1]
    exact K h4 e4
  exact v_X0_warm_232 L ⟨fun _ => w, fun _ => ⟨fun _ => w, fun c => absurd (by decide) c⟩⟩
/-- a week: all sets -/
theorem c_warm_196 {t : Nat} (hn : n < 9) (ht : t ≤ 20) (L : LY0 h X) (e1 : ∀ k, k < n → ah_I h (X + 1451) k = sp k) (e2 : ∀ k, k < n → ah_I h (X + 1452) k = ho k) (R : crow h X sp ho n (t + 1))
    (K : ∀ g, crg X 1455 1476 h g → crow g X sp ho n t → MX G mi_X0_warm (d + 1) 188 [some (rv X), none, none, some (iv (nI n)), some (iv (nI t + (-1))), none, none, none] [] g Q E) :
    MX G mi_X0_warm (d + 1) 196 [some (rv X), none, none, some (iv (nI n)), some (iv (nI t)), some (iv 0), none, none] [] h Q E := by
  obtain ⟨sh, h256⟩ := wb_sh n hn
  refine mx_up (α := Unit) (fun s _ => [some (rv X), none, none, some (iv (nI n)), some (iv (nI t)), some (iv (nI s)), none, none]) (2 ^ n) (fun s _ g => crg X 1455 1476 h g ∧ crow g X sp ho n (t + 1) ∧ ∀ j, j < s → ah_I g (X + (1455 + t)) j = wmt sp ho n (20 - t) j) (fun s _ g hs hI KK => ?_) (fun _ g hI => ?_) 0 () h (Nat.zero_le _) ⟨crg.rf, R, fun j hj => absurd hj (Nat.not_lt_zero _)⟩
  · obtain ⟨m, r, q⟩ := hI
    have Lg := L.ext m.ext
    have nxt : ∀ h3, h3 = ah_wI g (X + (1455 + t)) s (wmt sp ho n (20 - t) s) → MX G mi_X0_warm (d + 1) 196 [some (rv X), none, none, some (iv (nI n)), some (iv (nI t)), some (iv (nI (s + 1))), none, none] [] h3 Q E := fun h3 q3 => by
      subst q3
      refine KK () _ ⟨m.wI (by omega) (by omega), fun t' h1 h2 j hj => ?_, fun j hj => ?_⟩
      · rw [rd_Ia (by omega)]; exact r t' h1 h2 j hj
      · rw [rd_II]
        rcases Nat.decEq j s with c | c
        · rw [if_neg (fun q => c q.2)]; exact q j (by omega)
        · rw [if_pos ⟨rfl, c⟩, c]
    refine v_X0_warm_196 Lg ⟨fun c => absurd c (by rw [sh]; exact nI_ge hs (by omega)), fun _ => ⟨fun c => ?_, fun c => ?_⟩⟩
    · have ht2 : t < 20 := by
        rcases Nat.lt_or_ge t 20 with z | z
        · exact z
        · exact absurd (by rw [show t = 20 by omega]; rfl) c
      rw [nI_1, nI_clamp (n := t + 1) (by omega), nI_clamp (n := s) (by omega), r (t + 1) (Nat.le_refl _) (by omega) s hs, show 20 - (t + 1) = 19 - t by omega]
      refine ⟨vp_in_nI (by omega) (by decide), vp_in_nI (by omega) (by decide), ?_⟩
      exact c_warm_232 hn ht2 hs Lg (fun k hk => by rw [m.2.2.2.2.2 _ _ (by omega)]; exact e1 k hk) (fun k hk => by rw [m.2.2.2.2.2 _ _ (by omega)]; exact e2 k hk) r nxt
    · have ht2 : t = 20 := by
        have := congrArg Int32.toInt c
        rw [nI_x (by omega)] at this
        have e : (20 : Int32).toInt = 20 := by decide
        omega
      subst ht2
      exact c_warm_232z hn hs Lg nxt
  · obtain ⟨m, r, q⟩ := hI
    refine v_X0_warm_196 (L.ext m.ext) ⟨fun _ => K g m (fun t' h1 h2 j hj => ?_), fun c => absurd (by rw [sh]; exact nI_le (Nat.le_refl _) (by omega)) c⟩
    rcases Nat.decEq t' t with c | c
    · exact r t' (by omega) h2 j hj
    · subst c; exact q j hj
/-- all weeks -/
theorem c_warm_188 {r : Nat} (hn : n < 9) (hr : r ≤ 21) (L : LY0 h X) (e1 : ∀ k, k < n → ah_I h (X + 1451) k = sp k) (e2 : ∀ k, k < n → ah_I h (X + 1452) k = ho k) (R : crow h X sp ho n r)
    (K : ∀ g, crg X 1455 1476 h g → crow g X sp ho n 0 → MX G mi_X0_warm (d + 1) 335 [some (rv X), none, none, some (iv (nI n)), some (iv 0), some (iv 0), none, none] [] g Q E) :
    MX G mi_X0_warm (d + 1) 188 [some (rv X), none, none, some (iv (nI n)), some (iv (nI r + (-1))), none, none, none] [] h Q E := by
  induction r generalizing h with
  | zero =>
    refine v_X0_warm_188 L ⟨fun _ => K h crg.rf R, fun c => absurd (by decide) c⟩
  | succ t ih =>
    rw [pk_m1]
    refine v_X0_warm_188 L ⟨fun c => absurd c (nI_pos (by omega)), fun _ => ?_⟩
    refine c_warm_196 hn (by omega) L e1 e2 R (fun g m r => ?_)
    exact ih (by omega) (L.ext m.ext) (fun k hk => by rw [m.2.2.2.2.2 _ _ (by omega)]; exact e1 k hk) (fun k hk => by rw [m.2.2.2.2.2 _ _ (by omega)]; exact e2 k hk) r (fun g2 m2 r2 => K g2 (m.tr m2) r2)
end

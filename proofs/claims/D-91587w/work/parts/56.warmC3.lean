section
variable {G : ma_G} {d X : Nat} {h g : ah_T} {Q : Option ma_V → ah_T → Prop} {E : Nat → ah_T → Prop} {sp ho : Nat → Int32} {n : Nat}
/-- what the class holds when it has looked at the last m bins -/
def wzz (sp ho : Nat → Int32) (n t s m : Nat) : Int32 := if wpk sp ho n t s m < n then nI (wpk sp ho n t s m) else -1
theorem c_warm_350 {t s j : Nat} (hn : n < 9) (hj : j ≤ n) (ht : t < 20) (hs : s < 2 ^ n) (L : LY0 h X) (e1 : ∀ k, k < n → ah_I h (X + 1451) k = sp k) (e2 : ∀ k, k < n → ah_I h (X + 1452) k = ho k) (R : crow h X sp ho n 0)
    (K : ∀ h3, h3 = ah_wI h (X + 1453) t (wzz sp ho n t s n) → MX G mi_X0_warm (d + 1) 335 [some (rv X), none, none, some (iv (nI n)), some (iv (nI (wnx sp ho n t s))), some (iv (nI (t + 1))), none, none] [] h3 Q E) :
    MX G mi_X0_warm (d + 1) 350 [some (rv X), none, none, some (iv (nI n)), some (iv (nI s)), some (iv (nI t)), some (iv (wzz sp ho n t s (n - j))), some (iv (nI j + (-1)))] [] h Q E := by
  have h256 := (wb_sh n hn).2
  have hs2 : s < 256 := by omega
  induction j with
  | zero =>
    refine v_X0_warm_350 L ⟨fun _ => ?_, fun c => absurd (by decide) c⟩
    rw [nI_clamp (n := t) (by omega), nI_1]
    refine ⟨vp_in_nI ht (by decide), ?_⟩
    intro h3 q3 _
    have kk := K h3 q3
    have hk := wpk_le (sp := sp) (ho := ho) (t := t) (s := s) (Nat.le_refl n)
    show (wzz sp ho n t s n = -1 → _) ∧ (¬ wzz sp ho n t s n = -1 → _)
    unfold wzz wnx at *
    rcases Nat.lt_or_ge (wpk sp ho n t s n) n with q | q
    · rw [if_pos q] at kk ⊢
      have ne : ¬ nI (wpk sp ho n t s n) = -1 := fun e => by
        have := congrArg Int32.toInt e
        rw [nI_x (by omega), tm_1] at this
        omega
      refine ⟨fun c => absurd c ne, fun _ => ?_⟩
      show MX G mi_X0_warm (d + 1) 335 [some (rv X), none, none, some (iv (nI n)), some (iv (nI s ||| ((1 : Int32) <<< ((if wpk sp ho n t s n < n then nI (wpk sp ho n t s n) else -1) &&& 31)))), some (iv (nI (t + 1))), none, none] [] h3 Q E
      rw [if_pos q, (wb_bit s hs2 _ (by omega)).2 (wpk_c (Nat.le_refl _) q).1]
      exact kk
    · rw [if_neg (by omega)] at kk ⊢
      exact ⟨fun _ => kk, fun c => absurd rfl c⟩
  | succ k ih =>
    have hk : k < n := by omega
    have ih := ih (by omega)
    have st : wpk sp ho n t s (n - k) = if wcd sp ho n t s k then k else wpk sp ho n t s (n - (k + 1)) := by
      rw [show n - k = (n - (k + 1)) + 1 by omega, wpk, show n - (n - (k + 1) + 1) = k by omega]
    have go : ¬ wcd sp ho n t s k → MX G mi_X0_warm (d + 1) 350 [some (rv X), none, none, some (iv (nI n)), some (iv (nI s)), some (iv (nI t)), some (iv (wzz sp ho n t s (n - (k + 1)))), some (iv (nI k + (-1)))] [] h Q E := fun c => by
      unfold wzz at ih ⊢
      rw [st, if_neg c] at ih
      exact ih
    rw [pk_m1]
    refine v_X0_warm_350 L ⟨fun c => absurd c (nI_pos (by omega)), fun _ => ?_⟩
    obtain ⟨b1, b2⟩ := wb_bit s hs2 k (by omega)
    rw [nI_clamp (n := k) (by omega), e1 k hk, e2 k hk]
    refine ⟨fun c => go (fun q => c (b1.mpr q.1)), fun c => ⟨vp_in_nI (by omega) (by decide), fun c2 => ?_, fun c2 => ?_⟩⟩
    · rw [i3_le, nI_x (by omega)] at c2
      exact go (fun q => by have := q.2.1; omega)
    · rw [b1] at c
      have hin := wb_in n hn k hk s hs c
      have o := b2 c
      rw [i3_le, nI_x (by omega)] at c2
      rw [o, nI_1, nI_clamp (n := t + 1) (by omega), nI_clamp (n := t) (by omega), nI_clamp (n := s) (by omega), nI_clamp (n := s + 2 ^ k) (by omega), R (t + 1) (Nat.zero_le _) (by omega) _ hin, R t (Nat.zero_le _) (by omega) _ hs, show 20 - (t + 1) = 19 - t by omega]
      refine ⟨vp_in_nI (by omega) (by decide), vp_in_nI (by omega) (by decide), vp_in_nI (by omega) (by decide), vp_in_nI hs2 (by decide), fun c3 => go (fun q => c3 q.2.2), fun c3 => ?_⟩
      have wc : wcd sp ho n t s k := ⟨c, by omega, c3⟩
      unfold wzz at ih
      rw [st, if_pos wc, if_pos hk] at ih
      exact ih
end

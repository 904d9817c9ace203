/-! ===== warm: the class's table ===== -/
/-- some fixed int arrays of the class alone were written -/
def crg (X a b : Nat) (h g : ah_T) : Prop := g.1 = h.1 ∧ ah_kd g = ah_kd h ∧ ah_ln g = ah_ln h ∧ ah_R g = ah_R h ∧ ah_J g = ah_J h ∧ ∀ c k, (c < X + a ∨ X + b ≤ c) → ah_I g c k = ah_I h c k
section
variable {G : ma_G} {d X : Nat} {h g : ah_T} {Q : Option ma_V → ah_T → Prop} {E : Nat → ah_T → Prop} {sp ho : Nat → Int32} {n a b : Nat}
theorem crg.rf : crg X a b h h := ⟨rfl, rfl, rfl, rfl, rfl, fun _ _ _ => rfl⟩
theorem crg.tr {g2 : ah_T} (x : crg X a b h g) (z : crg X a b g g2) : crg X a b h g2 := ⟨z.1.trans x.1, z.2.1.trans x.2.1, z.2.2.1.trans x.2.2.1, z.2.2.2.1.trans x.2.2.2.1, z.2.2.2.2.1.trans x.2.2.2.2.1, fun c k hc => (z.2.2.2.2.2 c k hc).trans (x.2.2.2.2.2 c k hc)⟩
theorem crg.mn {a' b' : Nat} (x : crg X a b h g) (h1 : a' ≤ a) (h2 : b ≤ b') : crg X a' b' h g := ⟨x.1, x.2.1, x.2.2.1, x.2.2.2.1, x.2.2.2.2.1, fun c k hc => x.2.2.2.2.2 c k (by omega)⟩
theorem crg.wI (x : crg X a b h g) {c k : Nat} {v : Int32} (h1 : a ≤ c) (h2 : c < b) : crg X a b h (ah_wI g (X + c) k v) := x.tr ⟨rfl, rfl, rfl, rfl, rfl, fun c' k' hc => rd_Ia (by omega)⟩
theorem crg.ext (x : crg X a b h g) : ah_ext h g := by
  obtain ⟨x1, x2, x3, x4, -⟩ := x
  exact ⟨Nat.le_of_eq (by show h.1.1 = g.1.1; rw [x1]), fun a _ => ⟨by rw [x2], by rw [x3], fun k _ _ => by rw [x4]⟩⟩
def crow (g : ah_T) (X : Nat) (sp ho : Nat → Int32) (n t : Nat) : Prop := ∀ t', t ≤ t' → t' ≤ 20 → ∀ s, s < 2 ^ n → ah_I g (X + (1455 + t')) s = wmt sp ho n (20 - t') s
theorem c_warm_232 {t s : Nat} (hn : n < 9) (ht : t < 20) (hs : s < 2 ^ n) (L : LY0 h X) (e1 : ∀ k, k < n → ah_I h (X + 1451) k = sp k) (e2 : ∀ k, k < n → ah_I h (X + 1452) k = ho k) (R : crow h X sp ho n (t + 1))
    (K : ∀ h3, h3 = ah_wI h (X + (1455 + t)) s (wmt sp ho n (20 - t) s) → MX G mi_X0_warm (d + 1) 196 [some (rv X), none, none, some (iv (nI n)), some (iv (nI t)), some (iv (nI (s + 1))), none, none] [] h3 Q E) :
    MX G mi_X0_warm (d + 1) 232 [some (rv X), none, none, some (iv (nI n)), some (iv (nI t)), some (iv (nI s)), some (iv (wmt sp ho n (19 - t) s)), some (iv 0)] [] h Q E := by
  have h256 := (wb_sh n hn).2
  have hs2 : s < 256 := by omega
  refine mx_up (α := Unit) (fun k _ => [some (rv X), none, none, some (iv (nI n)), some (iv (nI t)), some (iv (nI s)), some (iv (wmk sp ho (wmt sp ho n (19 - t)) t s k)), some (iv (nI k))]) n (fun _ _ g => g = h) (fun k _ g hk hI KK => ?_) (fun _ g hI => ?_) 0 () h (Nat.zero_le _) rfl
  · subst hI
    have kk := KK () g rfl
    refine v_X0_warm_232 L ⟨fun c => absurd c (nI_ge hk (by omega)), fun _ => ⟨fun c => absurd c (nI_ge ht (by decide)), fun _ => ?_⟩⟩
    obtain ⟨b1, b2⟩ := wb_bit s hs2 k (by omega)
    rw [nI_1, nI_1, nI_clamp (n := k) (by omega), e1 k hk, e2 k hk]
    refine ⟨fun c => ?_, fun c => ⟨vp_in_nI (by omega) (by decide), fun c2 => ?_, fun c2 => ?_⟩⟩
    · rw [b1] at c
      have q : wmk sp ho (wmt sp ho n (19 - t)) t s (k + 1) = wmk sp ho (wmt sp ho n (19 - t)) t s k := by
        rw [wmk, if_neg (fun q => c q.1)]
      rw [q] at kk; exact kk
    · rw [i3_le, nI_x (by omega)] at c2
      have q : wmk sp ho (wmt sp ho n (19 - t)) t s (k + 1) = wmk sp ho (wmt sp ho n (19 - t)) t s k := by
        rw [wmk, if_neg (fun q => by have := q.2; omega)]
      rw [q] at kk; exact kk
    · rw [b1] at c
      have hin := wb_in n hn k hk s hs c
      have o := b2 c
      rw [i3_le, nI_x (by omega)] at c2
      have q : wmk sp ho (wmt sp ho n (19 - t)) t s (k + 1) = iMax (wmk sp ho (wmt sp ho n (19 - t)) t s k) (ho k + wmt sp ho n (19 - t) (s + 2 ^ k)) := by
        rw [wmk, if_pos ⟨c, by omega⟩]
      rw [q] at kk
      rw [o, nI_clamp (n := s + 2 ^ k) (by omega), nI_clamp (n := t + 1) (by omega), R (t + 1) (Nat.le_refl _) (by omega) _ hin, show 20 - (t + 1) = 19 - t by omega]
      exact ⟨vp_in_nI (by omega) (by decide), vp_in_nI (by omega) (by decide), kk⟩
  · subst hI
    refine v_X0_warm_232 L ⟨fun _ => ?_, fun c => absurd (nI_le (Nat.le_refl n) (by omega)) c⟩
    rw [nI_clamp (n := t) (by omega), nI_clamp (n := s) (by omega)]
    refine ⟨vp_in_nI (by omega) (by decide), vp_in_nI hs2 (by decide), ?_⟩
    intro h3 q3 _
    rw [nI_1]
    refine K h3 ?_
    rw [q3, show 20 - t = (19 - t) + 1 by omega]
    show _ = ah_wI g (X + (1455 + t)) s (wmk sp ho (wmt sp ho n (19 - t)) (19 - (19 - t)) s n)
    rw [show 19 - (19 - t) = t by omega]
end

section
variable {G : ma_G} {d X : Nat} {h g : ah_T} {Q : Option ma_V → ah_T → Prop} {E : Nat → ah_T → Prop} {sp ho : Nat → Int32} {n : Nat}
theorem c_warm_335 (hn : n < 9) (L : LY0 h X) (e1 : ∀ k, k < n → ah_I h (X + 1451) k = sp k) (e2 : ∀ k, k < n → ah_I h (X + 1452) k = ho k) (R : crow h X sp ho n 0)
    (K : ∀ g, crg X 1453 1454 h g → (∀ t, t < 20 → ah_I g (X + 1453) t = wtu sp ho n t) → (∀ t, 20 ≤ t → ah_I g (X + 1453) t = ah_I h (X + 1453) t) → ah_ext g (ah_wI (ah_wI g X 46 1) X 20 0) → Q (some (iv (wmt sp ho n 20 0))) (ah_wI (ah_wI g X 46 1) X 20 0)) :
    MX G mi_X0_warm (d + 1) 335 [some (rv X), none, none, some (iv (nI n)), some (iv 0), some (iv 0), none, none] [] h Q E := by
  have h256 := (wb_sh n hn).2
  refine mx_up (α := Unit) (fun t _ => [some (rv X), none, none, some (iv (nI n)), some (iv (nI (wst sp ho n t))), some (iv (nI t)), none, none]) 20 (fun t _ g => crg X 1453 1454 h g ∧ (∀ j, j < t → ah_I g (X + 1453) j = wtu sp ho n j) ∧ ∀ j, t ≤ j → ah_I g (X + 1453) j = ah_I h (X + 1453) j) (fun t _ g ht hI KK => ?_) (fun _ g hI => ?_) 0 () h (Nat.zero_le _) ⟨crg.rf, fun j hj => absurd hj (Nat.not_lt_zero _), fun _ _ => rfl⟩
  · obtain ⟨m, q1, q2⟩ := hI
    have hs := wst_lt (sp := sp) (ho := ho) hn t
    refine v_X0_warm_335 (L.ext m.ext) ⟨fun c => absurd c (nI_ge ht (by decide)), fun _ => ?_⟩
    have z0 : wzz sp ho n t (wst sp ho n t) (n - n) = -1 := by
      unfold wzz
      rw [Nat.sub_self]
      show (if n < n then _ else _) = _
      rw [if_neg (Nat.lt_irrefl _)]
    have kk := c_warm_350 (G := G) (d := d) (Q := Q) (E := E) (h := g) (X := X) (sp := sp) (ho := ho) (t := t) (s := wst sp ho n t) (j := n) hn (Nat.le_refl _) ht hs (L.ext m.ext) (fun k hk => by rw [m.2.2.2.2.2 _ _ (by omega)]; exact e1 k hk) (fun k hk => by rw [m.2.2.2.2.2 _ _ (by omega)]; exact e2 k hk) (fun t' h1 h2 j hj => by rw [m.2.2.2.2.2 _ _ (by omega)]; exact R t' h1 h2 j hj) (fun h3 q3 => by
      subst q3
      refine KK () _ ⟨m.wI (by decide) (by decide), fun j hj => ?_, fun j hj => ?_⟩
      · rw [rd_II]
        rcases Nat.decEq j t with c | c
        · rw [if_neg (fun q => c q.2)]; exact q1 j (by omega)
        · rw [if_pos ⟨rfl, c⟩, c]; rfl
      · rw [rd_Ik (by omega)]; exact q2 j (by omega))
    rw [z0] at kk
    rw [Int32.sub_eq_add_neg]
    exact kk
  · obtain ⟨m, q1, q2⟩ := hI
    refine v_X0_warm_335 (L.ext m.ext) ⟨fun _ => ?_, fun c => absurd (nI_le (Nat.le_refl 20) (by decide)) c⟩
    intro h2 e2' x2 h3 e3' x3
    subst e2'; subst e3'
    have r0 : ah_I g (X + (1455 + 0)) 0 = wmt sp ho n 20 0 := by
      rw [m.2.2.2.2.2 _ _ (by omega)]
      exact R 0 (Nat.le_refl _) (by decide) 0 (Nat.two_pow_pos n)
    rw [r0]
    exact K g m q1 q2 (x2.tr x3)
theorem crg.dy {P : Nat → Nat → Prop} {e : Nat × Nat} {a b : Nat} (x : crg X a b h g) (hb : b ≤ 1494) : dyn P e X h g :=
  ⟨fun c _ => ⟨by rw [x.2.1], by rw [x.2.2.1]⟩, fun c k _ _ _ => by rw [x.2.2.2.1], fun c k h1 h2 _ _ => ⟨x.2.2.2.2.2 c k (by omega), by rw [x.2.2.2.2.1]⟩⟩
theorem c_warm_134 {a b : Nat} {ts tm : Nat → Int32} {nu : Nat → Int64} (hn : n < 9) (ha : a < 4) (hb : b < 4) (L : LY0 h X) (x : CIt h X ts tm nu) (na : (n : Int) ≤ (tm a).toInt) (nb : (n : Int) ≤ (tm b).toInt) (rm : 3 ≤ ah_rc h ∧ 222 ≤ ah_rs h)
    (K : ∀ g, crg X 1451 1453 h g → (∀ k, k < n → ah_I g (X + 1451) k = wsp nu a k) → (∀ k, k < n → ah_I g (X + 1452) k = wsp nu b k) → MX G mi_X0_warm (d + 41) 188 [some (rv X), none, none, some (iv (nI n)), some (iv 20), none, none, none] [] g Q E) :
    MX G mi_X0_warm (d + 41) 134 [some (rv X), some (iv (nI a)), some (iv (nI b)), some (iv (nI n)), some (iv 0), none, none, none] [] h Q E := by
  refine mx_up (α := Unit) (fun k _ => [some (rv X), some (iv (nI a)), some (iv (nI b)), some (iv (nI n)), some (iv (nI k)), none, none, none]) n (fun k _ g => crg X 1451 1453 h g ∧ (∀ j, j < k → ah_I g (X + 1451) j = wsp nu a j) ∧ ∀ j, j < k → ah_I g (X + 1452) j = wsp nu b j) (fun k _ g hk hI KK => ?_) (fun _ g hI => ?_) 0 () h (Nat.zero_le _) ⟨crg.rf, fun j hj => absurd hj (Nat.not_lt_zero _), fun j hj => absurd hj (Nat.not_lt_zero _)⟩
  · obtain ⟨m, q1, q2⟩ := hI
    have Lg := L.ext m.ext
    have xg : CIt g X ts tm nu := x.dy (P := pT) (e := (X + 5, 0)) L (m.dy (by decide)) (fun _ _ _ => trivial) (by show X + 5 < _; omega)
    have rg : 3 ≤ ah_rc g ∧ 222 ≤ ah_rs g := by unfold ah_rc ah_rs; rw [m.1]; exact rm
    refine v_X0_warm_134 (d := d + 40) Lg ⟨fun c => absurd c (nI_ge hk (by omega)), fun _ => ⟨vp_in_nI ha (by decide), ?_⟩⟩
    rw [nI_clamp (n := a) (by omega), nI_clamp (n := b) (by omega), nI_clamp (n := k) (by omega), nI_1]
    refine c_get1 Lg xg ha (by omega) (by omega) rg ?_
    intro _
    refine ⟨vp_in_nI (by omega) (by decide), ?_⟩
    intro h6 e6 x6
    subst e6
    refine ⟨vp_in_nI hb (by decide), ?_⟩
    have m6 : crg X 1451 1453 h (ah_wI g (X + 1451) k (nu (40 * a + k)).toInt32) := m.wI (by decide) (by decide)
    have x6g : CIt (ah_wI g (X + 1451) k (nu (40 * a + k)).toInt32) X ts tm nu := x.dy (P := pT) (e := (X + 5, 0)) L (m6.dy (by decide)) (fun _ _ _ => trivial) (by show X + 5 < _; omega)
    refine c_get1 (L.ext m6.ext) x6g hb (by omega) (by omega) rg ?_
    intro _ h10 e10 _
    subst e10
    refine KK () _ ⟨m6.wI (by decide) (by decide), fun j hj => ?_, fun j hj => ?_⟩
    · rw [rd_Ia (by omega), rd_II]
      rcases Nat.decEq j k with c | c
      · rw [if_neg (fun q => c q.2)]; exact q1 j (by omega)
      · rw [if_pos ⟨rfl, c⟩, c]; rfl
    · rw [rd_II]
      rcases Nat.decEq j k with c | c
      · rw [if_neg (fun q => c q.2), rd_Ia (by omega)]; exact q2 j (by omega)
      · rw [if_pos ⟨rfl, c⟩, c]; rfl
  · obtain ⟨m, q1, q2⟩ := hI
    exact v_X0_warm_134 (d := d + 40) (L.ext m.ext) ⟨fun _ => K g m q1 q2, fun c => absurd (nI_le (Nat.le_refl n) (by omega)) c⟩
end

/-! ===== a play begins: the class ===== -/
def hz (g : ah_T) (p e y : Nat) : Prop := (∀ f, f < 20 → ah_I g (p + (97 + 22 * y + 2 * e) + 1) f = 0) ∧ ah_I g (p + (97 + 22 * y + 2 * e)) 1 = 0
def Zn (g : ah_T) (p n e : Nat) : Prop := (∀ e' y, e' < 11 → y < n → hz g p e' y) ∧ (∀ y, y < n → ah_J g (p + (81 + y / 10)) (y % 10) = 0) ∧ ∀ e', e' < e → hz g p e' n
def Zf (g : ah_T) (p : Nat) : Prop := (∀ e, e < 8 → ah_I g (p + 88) e = 0) ∧ (∀ i f, i < 4 → f < 20 → ah_I g (p + (89 + i)) f = 0) ∧ ah_J g p 11 = 0
section
variable {G : ma_G} {d p n e A : Nat} {h g g2 : ah_T} {Q : Option ma_V → ah_T → Prop} {E : Nat → ah_T → Prop}
theorem c_hclear (L : LY3 h A) (K : ∀ g, ifr [A, A + 1] h g → (∀ f, f < 20 → ah_I g (A + 1) f = 0) → ah_I g A 1 = 0 → Q none g) : MX G mi_X3_clear d 0 [some (rv A), none] [] h Q E := by
  refine v_X3_clear L (fun h1 e1 x1 => ?_)
  refine mx_up (α := Unit) (fun f _ => [some (rv A), some (iv (nI f))]) 20 (fun f _ g => ifr [A, A + 1] h g ∧ (∀ j, j < f → ah_I g (A + 1) j = 0) ∧ ah_I g A 1 = 0) (fun f _ g hf hI KK => ?_) (fun _ g hI => ?_) 0 () h1 (Nat.zero_le _) ⟨by rw [e1]; exact ifr.rf.wI (by simp), fun j hj => by omega, by rw [e1, rd_II, if_pos ⟨rfl, rfl⟩]⟩
  · obtain ⟨z, i1, i2⟩ := hI
    refine v_X3_clear_7 (L.ext z.ext) ⟨fun c => ?_, fun _ => ⟨vp_in_nI hf (by decide), fun h3 e3 _ => ?_⟩⟩
    · exfalso; rw [i3_le, nI_x (by omega)] at c; have : (20 : Int) ≤ (f : Int) := c; omega
    · rw [nI_clamp (by omega)] at e3
      rw [nI_1]
      refine KK () h3 ⟨by rw [e3]; exact z.wI (by simp), fun j hj => ?_, by rw [e3, rd_Ia (by omega)]; exact i2⟩
      rw [e3, rd_II]
      by_cases c : j = f
      · rw [if_pos ⟨rfl, c⟩]
      · rw [if_neg (fun q => c q.2)]; exact i1 j (by omega)
  · obtain ⟨z, i1, i2⟩ := hI
    exact v_X3_clear_7 (L.ext z.ext) ⟨fun _ => K g z i1 i2, fun c => absurd (by decide) c⟩
theorem hz.st {e' y : Nat} (x : hz g p e' y) (z : ifr [p + (97 + 22 * n + 2 * e), p + (97 + 22 * n + 2 * e) + 1] g g2) (h1 : e' < 11) (h2 : e < 11) (hn : ¬ (e' = e ∧ y = n)) : hz g2 p e' y := by
  have o : ∀ a k, a ≠ p + (97 + 22 * n + 2 * e) → a ≠ p + (97 + 22 * n + 2 * e) + 1 → ah_I g2 a k = ah_I g a k := fun a k q r => z.2.2 a k (by simp only [List.mem_cons, List.not_mem_nil, or_false]; omega)
  exact ⟨fun f hf => by rw [o _ _ (by omega) (by omega)]; exact x.1 f hf, by rw [o _ _ (by omega) (by omega)]; exact x.2⟩
theorem Zn.st (x : Zn g p n e) (he : e < 11) (z : ifr [p + (97 + 22 * n + 2 * e), p + (97 + 22 * n + 2 * e) + 1] g g2) (h1 : ∀ f, f < 20 → ah_I g2 (p + (97 + 22 * n + 2 * e) + 1) f = 0) (h2 : ah_I g2 (p + (97 + 22 * n + 2 * e)) 1 = 0) : Zn g2 p n (e + 1) := by
  refine ⟨fun e' y he' hy => (x.1 e' y he' hy).st z he' he (by omega), fun y hy => by rw [z.2.1]; exact x.2.1 y hy, fun e' he' => ?_⟩
  by_cases c : e' = e
  · rw [c]; exact ⟨h1, h2⟩
  · exact (x.2.2 e' (by omega)).st z (by omega) he (by omega)
theorem Zf.st (x : Zf g p) (z : ifr [p + (97 + 22 * n + 2 * e), p + (97 + 22 * n + 2 * e) + 1] g g2) : Zf g2 p := by
  have o : ∀ a k, a < p + 97 → ah_I g2 a k = ah_I g a k := fun a k q => z.2.2 a k (by simp only [List.mem_cons, List.not_mem_nil, or_false]; omega)
  exact ⟨fun e he => by rw [o _ _ (by omega)]; exact x.1 e he, fun i f hi hf => by rw [o _ _ (by omega)]; exact x.2.1 i f hi hf, by rw [z.2.1]; exact x.2.2⟩
theorem ifr.pp (z : ifr [p + (97 + 22 * n + 2 * e), p + (97 + 22 * n + 2 * e) + 1] g g2) (hn : n < 60) (he : e < 11) : plf p g g2 := z.pl (fun a ha => by simp only [List.mem_cons, List.not_mem_nil, or_false] at ha; omega)
theorem c_begin (L : LY1 h p) (K : ∀ g, plf p h g → CPl g p (fun _ _ _ => 0) → Q none g) : MX G mi_X1_begin (d + 1) 0 [some (rv p), none, none, none] [] h Q E := by
  refine v_X1_begin L (fun h1 e1 x1 => ?_)
  have z1 : plf p h h1 := by rw [e1]; exact plf.rf.wJ (by omega)
  have l1 : ah_J h1 p 11 = 0 := by rw [e1, rd_JJ, if_pos ⟨rfl, rfl⟩]
  clear e1 x1
  -- the elevators' sums
  refine mx_up (α := Unit) (fun k _ => [some (rv p), some (iv (nI k)), none, none]) 8 (fun k _ g => plf p h g ∧ ah_J g p 11 = 0 ∧ ∀ j, j < k → ah_I g (p + 88) j = 0) (fun k _ g hk hI KK => ?_) (fun _ g hI => ?_) 0 () h1 (Nat.zero_le _) ⟨z1, l1, fun j hj => by omega⟩
  · obtain ⟨z, i0, i1⟩ := hI
    refine v_X1_begin_7 (z.ly L) ⟨fun c => ?_, fun _ => ⟨vp_in_nI hk (by decide), fun h3 e3 _ => ?_⟩⟩
    · exfalso; rw [i3_le, nI_x (by omega)] at c; have : (8 : Int) ≤ (k : Int) := c; omega
    · rw [nI_clamp (by omega)] at e3
      rw [nI_1]
      refine KK () h3 ⟨by rw [e3]; exact z.wI (by omega), by rw [e3]; exact i0, fun j hj => ?_⟩
      rw [e3, rd_II]
      by_cases c : j = k
      · rw [if_pos ⟨rfl, c⟩]
      · rw [if_neg (fun q => c q.2)]; exact i1 j (by omega)
  obtain ⟨z2, m0, m1⟩ := hI
  refine v_X1_begin_7 (z2.ly L) ⟨fun _ => ?_, fun c => absurd (by decide) c⟩
  -- the farms' sums
  refine mx_up (α := Unit) (fun k _ => [some (rv p), some (iv (nI k)), none, none]) 20 (fun k _ g' => plf p h g' ∧ ah_J g' p 11 = 0 ∧ (∀ j, j < 8 → ah_I g' (p + 88) j = 0) ∧ ∀ i j, i < 4 → j < k → ah_I g' (p + (89 + i)) j = 0) (fun k _ g hk hI KK => ?_) (fun _ g hI => ?_) 0 () g (Nat.zero_le _) ⟨z2, m0, m1, fun i j _ hj => by omega⟩
  · obtain ⟨z, i0, i1, i2⟩ := hI
    refine v_X1_begin_28 (z.ly L) ⟨fun c => ?_, fun _ => ⟨vp_in_nI hk (by decide), fun h3 e3 _ h4 e4 _ h5 e5 _ h6 e6 _ => ?_⟩⟩
    · exfalso; rw [i3_le, nI_x (by omega)] at c; have : (20 : Int) ≤ (k : Int) := c; omega
    · rw [nI_clamp (by omega)] at e3 e4 e5 e6
      rw [nI_1]
      refine KK () h6 ⟨by rw [e6, e5, e4, e3]; exact (((z.wI (by omega)).wI (by omega)).wI (by omega)).wI (by omega), by rw [e6, e5, e4, e3]; exact i0, fun j hj => by rw [e6, rd_Ia (by omega), e5, rd_Ia (by omega), e4, rd_Ia (by omega), e3, rd_Ia (by omega)]; exact i1 j hj, fun i j hi hj => ?_⟩
      rw [e6, rd_II, e5, rd_II, e4, rd_II, e3, rd_II]
      by_cases c : j = k
      · split
        · rfl
        · split
          · rfl
          · split
            · rfl
            · rw [if_pos (by omega)]
      · rw [if_neg (fun q => c q.2), if_neg (fun q => c q.2), if_neg (fun q => c q.2), if_neg (fun q => c q.2)]; exact i2 i j hi (by omega)
  obtain ⟨z3, n0, n1, n2⟩ := hI
  have F3 : Zf g p := ⟨n1, n2, n0⟩
  clear z2 m0 m1 n0 n1 n2 z1 l1
  refine v_X1_begin_28 (z3.ly L) ⟨fun _ => ?_, fun c => absurd (by decide) c⟩
  -- the heaps
  refine mx_up (α := Unit) (fun k _ => [some (rv p), some (iv (nI k)), none, none]) 6 (fun k _ g' => plf p h g' ∧ Zf g' p ∧ Zn g' p (10 * k) 0) (fun gr _ g hgr hI KK => ?_) (fun _ g hI => ?_) 0 () g (Nat.zero_le _) ⟨z3, F3, fun _ y _ hy => by omega, fun y hy => by omega, fun e he => by omega⟩
  · obtain ⟨z, F, Z⟩ := hI
    refine v_X1_begin_70 (z.ly L) ⟨fun c => ?_, fun _ => ?_⟩
    · exfalso; rw [i3_le, nI_x (by omega)] at c; have : (6 : Int) ≤ (gr : Int) := c; omega
    refine mx_up (α := Unit) (fun y _ => [some (rv p), some (iv (nI gr)), some (iv (nI y)), none]) 10 (fun y _ g' => plf p h g' ∧ Zf g' p ∧ Zn g' p (10 * gr + y) 0) (fun yy _ g1 hy hI K1 => ?_) (fun _ g1 hI => ?_) 0 () g (Nat.zero_le _) ⟨z, F, Z⟩
    · obtain ⟨z, F, Z⟩ := hI
      refine v_X1_begin_78 (z.ly L) ⟨fun c => ?_, fun _ => ?_⟩
      · exfalso; rw [i3_le, nI_x (by omega)] at c; have : (10 : Int) ≤ (yy : Int) := c; omega
      refine mx_up (α := Unit) (fun e _ => [some (rv p), some (iv (nI gr)), some (iv (nI yy)), some (iv (nI e))]) 8 (fun e _ g' => plf p h g' ∧ Zf g' p ∧ Zn g' p (10 * gr + yy) e) (fun e _ g2 he hI K2 => ?_) (fun _ g2 hI => ?_) 0 () g1 (Nat.zero_le _) ⟨z, F, Z⟩
      · obtain ⟨z, F, Z⟩ := hI
        refine v_X1_begin_86 (z.ly L) ⟨fun c => ?_, fun _ => ?_⟩
        · exfalso; rw [i3_le, nI_x (by omega)] at c; have : (8 : Int) ≤ (e : Int) := c; omega
        rw [nI_clamp (n := e) (by omega), nI_clamp (n := gr) (by omega), nI_clamp (n := yy) (by omega)]
        refine ⟨vp_in_nI he (by decide), vp_in_nI hgr (by decide), vp_in_nI hy (by decide), c_hclear (ly1_H (z.ly L) (by omega) (by omega)) (fun g3 q q1 q2 => ?_)⟩
        intro _
        rw [nI_1]
        exact K2 () g3 ⟨z.tr (q.pp (by omega) (by omega)), F.st q, Z.st (by omega) q q1 q2⟩
      · obtain ⟨z, F, Z⟩ := hI
        refine v_X1_begin_86 (z.ly L) ⟨fun _ => ?_, fun c => absurd (by decide) c⟩
        refine mx_up (α := Unit) (fun e _ => [some (rv p), some (iv (nI gr)), some (iv (nI yy)), some (iv (nI e))]) 2 (fun e _ g' => plf p h g' ∧ Zf g' p ∧ Zn g' p (10 * gr + yy) (8 + e)) (fun e _ g3 he hI K3 => ?_) (fun _ g3 hI => ?_) 0 () g2 (Nat.zero_le _) ⟨z, F, Z⟩
        · obtain ⟨z, F, Z⟩ := hI
          refine v_X1_begin_113 (z.ly L) ⟨fun c => ?_, fun _ => ?_⟩
          · exfalso; rw [i3_le, nI_x (by omega)] at c; have : (2 : Int) ≤ (e : Int) := c; omega
          rw [nI_clamp (n := e) (by omega), nI_clamp (n := gr) (by omega), nI_clamp (n := yy) (by omega), show 113 + 22 * (10 * gr + yy) + 2 * e = 97 + 22 * (10 * gr + yy) + 2 * (8 + e) by omega]
          refine ⟨vp_in_nI he (by decide), vp_in_nI hgr (by decide), vp_in_nI hy (by decide), c_hclear (ly1_H (z.ly L) (by omega) (by omega)) (fun g4 q q1 q2 => ?_)⟩
          intro _
          rw [nI_1]
          exact K3 () g4 ⟨z.tr (q.pp (by omega) (by omega)), F.st q, Z.st (by omega) q q1 q2⟩
        · obtain ⟨z, F, Z⟩ := hI
          refine v_X1_begin_113 (z.ly L) ⟨fun _ => ?_, fun c => absurd (by decide) c⟩
          rw [nI_clamp (n := gr) (by omega), nI_clamp (n := yy) (by omega), show 117 + 22 * (10 * gr + yy) = 97 + 22 * (10 * gr + yy) + 2 * 10 by omega]
          refine ⟨vp_in_nI hgr (by decide), vp_in_nI hy (by decide), c_hclear (ly1_H (z.ly L) (by omega) (by omega)) (fun g4 q q1 q2 => ?_)⟩
          intro _ h6 e6 _
          rw [nI_1]
          have F4 := F.st q
          have Z4 := Z.st (by omega) q q1 q2
          have I6 : ∀ a j, ah_I h6 a j = ah_I g4 a j := fun a j => by rw [e6]; rfl
          refine K1 () h6 ⟨by rw [e6]; exact (z.tr (q.pp (by omega) (by omega))).wJ (by omega), ⟨fun e he => by rw [I6]; exact F4.1 e he, fun i f hi hf => by rw [I6]; exact F4.2.1 i f hi hf, by rw [e6, rd_Ja (by omega)]; exact F4.2.2⟩, fun e' y he' hy' => ?_, fun y hy' => ?_, fun e' he' => by omega⟩
          · have hz4 : hz g4 p e' y := by
              by_cases c : y = 10 * gr + yy
              · rw [c]; exact Z4.2.2 e' (by omega)
              · exact Z4.1 e' y he' (by omega)
            exact ⟨fun f hf => by rw [I6]; exact hz4.1 f hf, by rw [I6]; exact hz4.2⟩
          · rw [e6, rd_JJ]
            by_cases c : y = 10 * gr + yy
            · rw [if_pos ⟨by omega, by omega⟩]
            · rw [if_neg (fun q => c (by have := q.1; have := q.2; omega))]; exact Z4.2.1 y (by omega)
    · obtain ⟨z, F, Z⟩ := hI
      refine v_X1_begin_78 (z.ly L) ⟨fun _ => ?_, fun c => absurd (by decide) c⟩
      rw [nI_1]
      exact KK () g1 ⟨z, F, by rw [show 10 * (gr + 1) = 10 * gr + 10 by omega]; exact Z⟩
  · obtain ⟨z, F, Z⟩ := hI
    refine v_X1_begin_70 (z.ly L) ⟨fun _ => K g z ⟨fun e y he hy => ?_, fun e he => ?_, fun i f hi hf => F.2.1 i f hi hf, fun y hy => Z.2.1 y hy, F.2.2⟩, fun c => absurd (by decide) c⟩
    · have s0 : sN (fun _ => 0) 20 = 0 := sN_0 (fun _ _ => rfl)
      refine ⟨fun f hf => (Z.1 e y he hy).1 f hf, ?_⟩
      show _ = nI (sN (fun _ => 0) 20)
      rw [s0]; exact (Z.1 e y he hy).2
    · have s0 : inA (fun _ _ _ => 0) e = 0 := sN_0 (fun _ _ => sN_0 (fun _ _ => rfl))
      rw [s0]; exact F.1 e he
end

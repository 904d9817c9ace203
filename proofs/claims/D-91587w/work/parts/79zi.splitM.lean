/-! ===== a sum parted: the model ===== -/
section
variable {G : ma_G} {d M sum m : Nat} {w : Nat → Nat} {h g g2 : ah_T} {Q : Option ma_V → ah_T → Prop} {E : Nat → ah_T → Prop}
theorem m_parts119 {l all : Nat} {gg : Nat → Nat} {rr : Nat → Int} {T : Nat → Nat} (L : LY8 h M) (e5 : ah_I h M 5 = nI m) (m1 : 0 < m) (m20 : m ≤ 20) (a0 : 0 < all) (ba : all < 4611686018427387904) (bl : l < 4611686018427387904) (hg : ∀ f, f < m → ah_J h (M + 33) f = lN (gg f)) (hr : ∀ f, f < m → (ah_J h (M + 34) f).toInt = rr f) (hT : spR m l gg rr = T) (K : ∀ g, mch [33, 34] [] M h g → (∀ f, f < m → ah_J g (M + 33) f = lN (T f)) → Q none g) :
    MX G mi_X8_parts d 119 [some (rv M), none, none, some (jv (lN all)), none, some (jv (lN l)), none, none, none] [] h Q E := by
  refine mx_ind (α := Nat × (Nat → Nat) × (Nat → Int)) (fun x => [some (rv M), none, none, some (jv (lN all)), none, some (jv (lN x.1)), none, none, none]) (fun x g => mch [33, 34] [] M h g ∧ (∀ f, f < m → ah_J g (M + 33) f = lN (x.2.1 f)) ∧ (∀ f, f < m → (ah_J g (M + 34) f).toInt = x.2.2 f) ∧ spR m x.1 x.2.1 x.2.2 = T ∧ x.1 < 4611686018427387904) (fun x => x.1) (fun x g hI KK => ?_) (l, gg, rr) h ⟨mch.rf, hg, hr, hT, bl⟩
  obtain ⟨l, gg, rr⟩ := x
  obtain ⟨z, h1, h2, h3, h4⟩ := hI
  have h1 : ∀ f, f < m → ah_J g (M + 33) f = lN (gg f) := h1
  have h2 : ∀ f, f < m → (ah_J g (M + 34) f).toInt = rr f := h2
  have h3 : spR m l gg rr = T := h3
  have h4 : l < 4611686018427387904 := h4
  have Lg := z.ly L
  have g5 : ah_I g M 5 = nI m := (z.sc 5 (by decide) (by decide)).trans e5
  refine v_X8_parts_119 Lg ⟨fun q => ?_, fun _ => ⟨fun q => ?_, fun q => ?_⟩⟩
  · have := (lN_le0 ba).mp q; omega
  · have q0 := (lN_le0 h4).mp q
    have q0 : l = 0 := q0
    subst q0
    have h3 : gg = T := h3
    rw [← h3] at K
    exact K g z h1
  · have q0 : l ≠ 0 := fun e => q ((lN_le0 h4).mpr e)
    obtain ⟨l', rfl⟩ : ∃ l', l = l' + 1 := ⟨l - 1, by omega⟩
    have hl' : l' < 4611686018427387904 := by omega
    refine mx_up (α := Unit) (fun k _ => [some (rv M), none, none, some (jv (lN all)), none, some (jv (lN (l' + 1))), none, some (iv (nI (am rr k))), some (iv (nI (k + 1)))]) (m - 1) (fun k _ g' => g' = g) (fun k _ g' hk e K3 => ?_) (fun _ g' e => ?_) 0 () g (Nat.zero_le _) rfl
    · subst e
      have ak := am_le (r := rr) k
      refine v_X8_parts_138 Lg ⟨fun q => ?_, fun _ => ⟨vp_in_nI (by omega) (by decide), vp_in_nI (by omega) (by decide), fun q2 => ?_, fun q2 => ?_⟩⟩
      · exfalso; rw [g5, i3_le, nI_x (by omega), nI_x (by omega)] at q; omega
      all_goals
        rw [nI_clamp (by omega), nI_clamp (by omega), i6_le, h2 _ (by omega), h2 _ (by omega)] at q2
        rw [nI_1]
        have k3 := K3 () g' rfl
      · have e : am rr (k + 1) = am rr k := if_pos q2
        rw [e] at k3; exact k3
      · have e : am rr (k + 1) = k + 1 := if_neg q2
        rw [e] at k3; exact k3
    · subst e
      have ak := am_le (r := rr) (m - 1)
      refine v_X8_parts_138 Lg ⟨fun _ => ⟨vp_in_nI (by omega) (by decide), fun h3' e3 _ h4' e4 _ => ?_⟩, fun q => absurd ?_ q⟩
      · rw [nI_clamp (by omega)] at e3 e4
        rw [h1 _ (by omega), lN_1] at e3
        have el : lN (l' + 1) - 1 = lN l' := by
          have := lN_sub (a := l' + 1) (b := 1) (by omega)
          exact this
        rw [el]
        refine KK (l', pwr gg (am rr (m - 1)) (gg (am rr (m - 1)) + 1), pwr rr (am rr (m - 1)) (-1)) h4' (Nat.lt_succ_self _) ⟨?_, fun f hf => ?_, fun f hf => ?_, h3, hl'⟩
        · rw [e4, e3]; exact (z.wJ (by decide)).wJ (by decide)
        · rw [e4, rd_Ja (by omega), e3, rd_JJ]
          by_cases c : f = am rr (m - 1)
          · rw [if_pos ⟨rfl, c⟩]
            show _ = lN (pwr gg (am rr (m - 1)) (gg (am rr (m - 1)) + 1) f)
            rw [c, pw_s]
          · rw [if_neg (fun q => c q.2)]
            show _ = lN (pwr gg (am rr (m - 1)) (gg (am rr (m - 1)) + 1) f)
            rw [pw_n c]; exact h1 f hf
        · rw [e4, rd_JJ]
          by_cases c : f = am rr (m - 1)
          · rw [if_pos ⟨rfl, c⟩]
            show _ = pwr rr (am rr (m - 1)) (-1) f
            rw [c, pw_s]; decide
          · rw [if_neg (fun q => c q.2), e3, rd_Ja (by omega)]
            show _ = pwr rr (am rr (m - 1)) (-1) f
            rw [pw_n c]; exact h2 f hf
      · rw [g5, i3_le, nI_x (by omega), nI_x (by omega)]; omega
theorem m_parts (L : LY8 h M) (e5 : ah_I h M 5 = nI m) (m20 : m ≤ 20) (hw : ∀ f, f < m → ah_J h (M + 32) f = lN (w f)) (b1 : sN w m < 4611686018427387904) (b2 : ∀ f, f < m → sum * w f < 4611686018427387904) (b3 : sum < 4611686018427387904) (K : ∀ g, mch [33, 34] [] M h g → (∀ f, f < m → ah_J g (M + 33) f = lN (spl m w sum f)) → Q none g) :
    MX G mi_X8_parts d 0 [some (rv M), some (jv (lN sum)), none, none, none, none, none, none, none] [] h Q E := by
  refine v_X8_parts L ?_
  refine mx_up (α := Unit) (fun f _ => [some (rv M), some (jv (lN sum)), none, some (jv (lN (sN w f))), none, some (iv (nI f)), none, none, none]) m (fun f _ g => g = h) (fun f _ g hf e KK => ?_) (fun _ g e => ?_) 0 () h (Nat.zero_le _) rfl
  · subst e
    refine v_X8_parts_5 L ⟨fun q => ?_, fun _ => ⟨vp_in_nI (by omega) (by decide), ?_⟩⟩
    · exfalso; rw [e5, i3_le, nI_x (by omega), nI_x (by omega)] at q; omega
    · rw [nI_clamp (by omega), hw f hf, lN_add, nI_1]; exact KK () g rfl
  subst e
  refine v_X8_parts_5 L ⟨fun _ => ?_, fun q => absurd (by rw [e5, i3_le]; exact Int.le_refl _) q⟩
  generalize ea : sN w m = all at b1
  have sg : all ≠ 0 → sN (gZ w all sum) m ≤ sum := fun c => by rw [← ea] at c ⊢; exact gZ_sum c
  have sz : all = 0 → sN (gZ w all sum) m = 0 := fun c => sN_0 (fun i _ => if_pos c)
  have sg2 : sN (gZ w all sum) m ≤ sum := by
    by_cases c : all = 0
    · rw [sz c]; omega
    · exact sg c
  refine mx_up (α := Unit) (fun f _ => [some (rv M), some (jv (lN sum)), none, some (jv (lN all)), none, some (jv (lN (sum - sN (gZ w all sum) f))), none, some (iv (nI f)), none]) m (fun f _ g' => mch [33, 34] [] M g g' ∧ ∀ j, j < f → ah_J g' (M + 33) j = lN (gZ w all sum j) ∧ ah_J g' (M + 34) j = lN (rZ w all sum j)) (fun f _ g' hf hI KK => ?_) (fun _ g' hI => ?_) 0 () g (Nat.zero_le _) ⟨mch.rf, fun j hj => by omega⟩
  · obtain ⟨z, hI⟩ := hI
    have Lg := z.ly L
    have g5 : ah_I g' M 5 = nI m := (z.sc 5 (by decide) (by decide)).trans e5
    have sf : sN (gZ w all sum) f + gZ w all sum f ≤ sum := Nat.le_trans (sN_up (f := gZ w all sum) (m := f + 1) (by omega)) sg2
    have w3 : ah_J g' (M + 32) f = lN (w f) := by rw [z.arJ 32 (by decide) (by decide)]; exact hw f hf
    have el : lN (sum - sN (gZ w all sum) f) - lN (gZ w all sum f) = lN (sum - sN (gZ w all sum) (f + 1)) := by
      rw [lN_sub (by omega)]
      show _ = lN (sum - (sN (gZ w all sum) f + gZ w all sum f))
      congr 1; omega
    have ne0 : ∀ (_ : all ≠ 0), ¬ lN all = 0 := fun c q => c ((lN_le0 b1).mp (by rw [q]; decide))
    have key : ∀ v, v = lN (gZ w all sum f) → MX G mi_X8_parts d 72 [some (rv M), some (jv (lN sum)), none, some (jv (lN all)), none, some (jv (lN (sum - sN (gZ w all sum) f))), none, some (iv (nI f)), none] [jv v, iv (nI f), rv (M + 33)] g' Q E := fun v hv => by
      subst hv
      have fin : ∀ h2 h4 v2, h2 = ah_wJ g' (M + 33) f (lN (gZ w all sum f)) → h4 = ah_wJ h2 (M + 34) f v2 → v2 = lN (rZ w all sum f) → MX G mi_X8_parts d 36 [some (rv M), some (jv (lN sum)), none, some (jv (lN all)), none, some (jv (lN (sum - sN (gZ w all sum) f) - lN (gZ w all sum f))), none, some (iv (nI f + 1)), none] [] h4 Q E := fun h2 h4 v2 e2 e4 ev => by
        rw [el, nI_1]
        refine KK () h4 ⟨by rw [e4, e2]; exact (z.wJ (by decide)).wJ (by decide), fun j hj => ?_⟩
        rw [e4, e2, rd_JJ, rd_JJ, rd_JJ, rd_JJ, if_neg (fun q => by have := q.1; omega), if_neg (c := M + 34 = M + 33 ∧ j = f) (fun q => by have := q.1; omega)]
        by_cases c : j = f
        · rw [if_pos ⟨rfl, c⟩, if_pos ⟨rfl, c⟩, c]; exact ⟨rfl, ev⟩
        · rw [if_neg (fun q => c q.2), if_neg (fun q => c q.2)]; exact hI j (by omega)
      refine v_X8_parts_72 Lg ?_
      rw [nI_clamp (by omega)]
      refine ⟨vp_in_nI (by omega) (by decide), fun h2 e2 _ => ⟨fun q => ⟨q, fun h5 eh5 _ => ?_⟩, fun q h6 e6 _ => ?_⟩⟩
      · have q0 : all ≠ 0 := fun e => q (by rw [e]; rfl)
        refine fin h2 h5 _ e2 eh5 ?_
        unfold rZ
        rw [if_neg q0, w3, lN_mul, pk_lRem (by have := b2 f hf; omega) (by omega) (by omega)]
      · have q0 : all = 0 := by
          by_cases c : all = 0
          · exact c
          · exact absurd q (ne0 c)
        exact fin h2 h6 _ e2 e6 (by unfold rZ; rw [if_pos q0]; rfl)
    refine v_X8_parts_36 Lg ⟨fun q => ?_, fun _ => ⟨fun q => ?_, fun q => ?_⟩⟩
    · exfalso; rw [g5, i3_le, nI_x (by omega), nI_x (by omega)] at q; omega
    · have q0 : all ≠ 0 := fun e => q (by rw [e]; rfl)
      rw [nI_clamp (by omega)]
      refine ⟨vp_in_nI (by omega) (by decide), q, key _ ?_⟩
      unfold gZ g0
      rw [if_neg q0, w3, lN_mul, pk_lDiv (by have := b2 f hf; omega) (by omega) (by omega)]
    · have q0 : all = 0 := by
        by_cases c : all = 0
        · exact c
        · exact absurd q (ne0 c)
      exact key _ (by unfold gZ; rw [if_pos q0]; rfl)
  · obtain ⟨z, hI⟩ := hI
    have g5 : ah_I g' M 5 = nI m := (z.sc 5 (by decide) (by decide)).trans e5
    refine v_X8_parts_36 (z.ly L) ⟨fun _ => ?_, fun q => absurd (by rw [g5, i3_le]; exact Int.le_refl _) q⟩
    by_cases c : all = 0
    · refine v_X8_parts_119 (z.ly L) ⟨fun _ => K g' z (fun f hf => ?_), fun q => absurd ((lN_le0 b1).mpr c) q⟩
      rw [(hI f hf).1]
      rw [← ea] at c ⊢
      rw [(gZ_0 c f).1, (gZ_0 c f).2]
    · have m1 : 0 < m := by
        by_cases c2 : m = 0
        · rw [c2] at ea; exact absurd ea.symm c
        · omega
      refine m_parts119 (T := spl m w sum) (gg := gZ w all sum) (rr := fun f => ((rZ w all sum f : Nat) : Int)) (z.ly L) g5 m1 m20 (by omega) b1 (by omega) (fun f hf => (hI f hf).1) (fun f hf => ?_) ?_ (fun g2 z2 hT => K g2 (z.tr z2) hT)
      · rw [(hI f hf).2, lN_p]
        unfold rZ; rw [if_neg c]
        have := Nat.mod_lt (sum * w f) (show 0 < all by omega)
        omega
      · rw [← ea] at c ⊢
        exact spl_z c
theorem nI_ll {n : Nat} (h : n < 2147483648) : (nI n).toInt64.toInt32 = nI n := by rw [nI_l h, lN_i]
/-- as many of a bin or a port as there are, parted -/
theorem m_takeBin {b many l a x3 : Nat} (L : LY8 h M) (e5 : ah_I h M 5 = nI m) (m20 : m ≤ 20) (ha : (x3 = 0 ∧ a = 23 ∧ b + 20 ≤ 9600) ∨ (x3 = 1 ∧ a = 24 ∧ b + 20 ≤ 2400)) (hw : ∀ f, f < m → ah_I h (M + a) (b + f) = nI (w f)) (b1 : sN w m < 2147483648) (b2 : many < 2147483648) (el : ah_I h M 39 = nI l)
    (K : ∀ g, mch [32, 33, 34] [39] M h g → ah_I g M 39 = nI (l + (many - min many (sN w m))) → (∀ f, f < m → ah_J g (M + 33) f = lN (spl m w (min many (sN w m)) f)) → Q (some (iv (nI (min many (sN w m))))) g) :
    MX G mi_X8_takeBin (d + 1) 0 [some (rv M), some (iv (nI b)), some (iv (nI many)), some (iv (nI x3)), none, none] [] h Q E := by
  have wf : ∀ f, f < m → w f < 2147483648 := fun f hf => Nat.lt_of_le_of_lt (sN_ge hf) b1
  refine v_X8_takeBin L ?_
  refine mx_up (α := Unit) (fun f _ => [some (rv M), some (iv (nI b)), some (iv (nI many)), some (iv (nI x3)), some (iv (nI (sN w f))), some (iv (nI f))]) m (fun f _ g => mch [32, 33, 34] [39] M h g ∧ ah_I g M 39 = nI l ∧ ∀ j, j < f → ah_J g (M + 32) j = lN (w j)) (fun f _ g hf hI KK => ?_) (fun _ g hI => ?_) 0 () h (Nat.zero_le _) ⟨mch.rf, el, fun j hj => by omega⟩
  · obtain ⟨z, i1, i2⟩ := hI
    have g5 : ah_I g M 5 = nI m := (z.sc 5 (by decide) (by decide)).trans e5
    have step : ∀ g', g' = ah_wJ g (M + 32) f (lN (w f)) → MX G mi_X8_takeBin (d + 1) 6 [some (rv M), some (iv (nI b)), some (iv (nI many)), some (iv (nI x3)), some (iv (nI (sN w f) + nI (w f))), some (iv (nI f + 1))] [] g' Q E := fun g' e => by
      rw [nI_add, nI_1]
      refine KK () g' ⟨by rw [e]; exact z.wJ (by decide), by rw [e]; exact i1, fun j hj => ?_⟩
      rw [e, rd_JJ]
      by_cases c : j = f
      · rw [if_pos ⟨rfl, c⟩, c]
      · rw [if_neg (fun q => c q.2)]; exact i2 j (by omega)
    have rw_ : ah_I g (M + a) (b + f) = nI (w f) := by
      rw [z.ar a (by rcases ha with q | q <;> rw [q.2.1] <;> decide) (by omega)]; exact hw f hf
    refine v_X8_takeBin_6 (z.ly L) ⟨fun q => ?_, fun _ => ⟨fun q => ?_, fun q => ?_⟩⟩
    · exfalso; rw [g5, i3_le, nI_x (by omega), nI_x (by omega)] at q; omega
    · rcases ha with ha | ha
      · rw [ha.2.1] at rw_
        rw [nI_add, nI_clamp (n := b + f) (by omega), nI_clamp (n := f) (by omega), rw_, nI_ll (wf f hf), nI_l (wf f hf)]
        exact ⟨vp_in_nI (by omega) (by decide), vp_in_nI (by omega) (by decide), fun h8 e8 _ => step h8 e8⟩
      · rw [ha.1] at q; exact absurd q (by decide)
    · rcases ha with ha | ha
      · rw [ha.1] at q; exact absurd rfl q
      · rw [ha.2.1] at rw_
        rw [nI_add, nI_clamp (n := b + f) (by omega), nI_clamp (n := f) (by omega), rw_, nI_ll (wf f hf), nI_l (wf f hf)]
        exact ⟨vp_in_nI (by omega) (by decide), vp_in_nI (by omega) (by decide), fun h8 e8 _ => step h8 e8⟩
  · obtain ⟨z, i1, i2⟩ := hI
    have g5 : ah_I g M 5 = nI m := (z.sc 5 (by decide) (by decide)).trans e5
    refine v_X8_takeBin_6 (z.ly L) ⟨fun _ h2 e2 x2 => ?_, fun q => absurd (by rw [g5, i3_le]; exact Int.le_refl _) q⟩
    rw [iMin_n b2 b1] at e2 ⊢
    have tk : min many (sN w m) < 2147483648 := by omega
    rw [i1, pk_sub (by omega), nI_add] at e2
    rw [nI_l tk]
    have z2 : mch [32, 33, 34] [39] M h h2 := by rw [e2]; exact z.zI (by decide)
    refine m_parts (z2.ly L) (by rw [e2, rd_II, if_neg (fun q => absurd q.2 (by decide))]; exact g5) m20 (fun f hf => by rw [e2]; exact i2 f hf) (by omega) (fun f hf => b62 tk (wf f hf)) (by omega) (fun g3 z3 hT => ?_)
    intro _
    refine K g3 (z2.tr (z3.mono (by decide) (by decide))) ?_ hT
    rw [z3.sc 39 (by decide) (by decide), e2, rd_II, if_pos ⟨rfl, rfl⟩]
end

/-! ===== a sum parted: the class ===== -/
/-- only longs of the rows a + i, i of A, were written -/
def sfr (A : List Nat) (a : Nat) (h g : ah_T) : Prop := (g.1 = h.1 ∧ ah_kd g = ah_kd h ∧ ah_ln g = ah_ln h ∧ ah_R g = ah_R h) ∧ ah_I g = ah_I h ∧ ∀ b k, (∀ i, i ∈ A → b ≠ a + i) → ah_J g b k = ah_J h b k
section
variable {G : ma_G} {d a b M sum m : Nat} {w : Nat → Nat} {h g g2 : ah_T} {A A' : List Nat} {Q : Option ma_V → ah_T → Prop} {E : Nat → ah_T → Prop}
theorem sfr.rf : sfr A a h h := ⟨⟨rfl, rfl, rfl, rfl⟩, rfl, fun _ _ _ => rfl⟩
theorem sfr.tr (x : sfr A a h g) (z : sfr A a g g2) : sfr A a h g2 := ⟨⟨z.1.1.trans x.1.1, z.1.2.1.trans x.1.2.1, z.1.2.2.1.trans x.1.2.2.1, z.1.2.2.2.trans x.1.2.2.2⟩, z.2.1.trans x.2.1, fun b k q => (z.2.2 b k q).trans (x.2.2 b k q)⟩
theorem sfr.mn (x : sfr A a h g) (q : ∀ i, i ∈ A → i ∈ A') : sfr A' a h g := ⟨x.1, x.2.1, fun b k r => x.2.2 b k (fun i hi => r i (q i hi))⟩
theorem sfr.wJ (x : sfr A a h g) {i k : Nat} {v : Int64} (hi : i ∈ A) : sfr A a h (ah_wJ g (a + i) k v) := x.tr ⟨⟨rfl, rfl, rfl, rfl⟩, rfl, fun b j q => rd_Ja (q i hi)⟩
theorem sfr.ext (x : sfr A a h g) : ah_ext h g := ⟨by unfold ah_sz; rw [x.1.1]; exact Nat.le_refl _, fun b _ => ⟨by rw [x.1.2.1], by rw [x.1.2.2.1], fun k _ _ => by rw [x.1.2.2.2]⟩⟩
theorem sfr.ly (x : sfr A a h g) (L : LY2 h a) : LY2 g a := L.ext x.ext
theorem lN_p {n : Nat} (h : n < 4611686018427387904) : (lN n).toInt = (n : Int) := pk_lT (by omega)
theorem lN_le0 {n : Nat} (h : n < 4611686018427387904) : lN n ≤ 0 ↔ n = 0 := by
  rw [i6_le, lN_p h]
  show (n : Int) ≤ 0 ↔ _
  omega
/-- the rounds, both sides the same -/
theorem c_split97 {l : Nat} {gg : Nat → Nat} {rr : Nat → Int} {T : Nat → Nat} (L : LY2 h a) (bl : l < 4611686018427387904) (hg : ∀ f, f < 20 → ah_J h (a + 1) f = lN (gg f)) (hr : ∀ f, f < 20 → (ah_J h (a + 2) f).toInt = rr f) (hT : spR 20 l gg rr = T) (K : ∀ g, sfr [1, 2] a h g → (∀ f, f < 20 → ah_J g (a + 1) f = lN (T f)) → Q none g) :
    MX G mi_X2_split_2 d 97 [some (rv a), none, none, none, none, some (jv (lN l)), none, none, none] [] h Q E := by
  refine mx_ind (α := Nat × (Nat → Nat) × (Nat → Int)) (fun x => [some (rv a), none, none, none, none, some (jv (lN x.1)), none, none, none]) (fun x g => sfr [1, 2] a h g ∧ (∀ f, f < 20 → ah_J g (a + 1) f = lN (x.2.1 f)) ∧ (∀ f, f < 20 → (ah_J g (a + 2) f).toInt = x.2.2 f) ∧ spR 20 x.1 x.2.1 x.2.2 = T ∧ x.1 < 4611686018427387904) (fun x => x.1) (fun x g hI KK => ?_) (l, gg, rr) h ⟨sfr.rf, hg, hr, hT, bl⟩
  obtain ⟨l, gg, rr⟩ := x
  obtain ⟨z, h1, h2, h3, h4⟩ := hI
  have h1 : ∀ f, f < 20 → ah_J g (a + 1) f = lN (gg f) := h1
  have h2 : ∀ f, f < 20 → (ah_J g (a + 2) f).toInt = rr f := h2
  have h3 : spR 20 l gg rr = T := h3
  have h4 : l < 4611686018427387904 := h4
  have Lg := z.ly L
  refine v_X2_split_2_97 Lg ⟨fun q => ?_, fun q => ?_⟩
  · have q0 := (lN_le0 h4).mp q
    have q0 : l = 0 := q0
    subst q0
    have h3 : gg = T := h3
    rw [← h3] at K
    exact K g z h1
  · have q0 : l ≠ 0 := fun e => q ((lN_le0 h4).mpr e)
    obtain ⟨l', rfl⟩ : ∃ l', l = l' + 1 := ⟨l - 1, by omega⟩
    have hl' : l' < 4611686018427387904 := by omega
    refine mx_up (α := Unit) (fun k _ => [some (rv a), none, none, none, none, some (jv (lN (l' + 1))), none, some (iv (nI (am rr k))), some (iv (nI (k + 1)))]) 19 (fun k _ g' => g' = g) (fun k _ g' hk e K3 => ?_) (fun _ g' e => ?_) 0 () g (Nat.zero_le _) rfl
    · subst e
      have ak := am_le (r := rr) k
      refine v_X2_split_2_110 Lg ⟨fun q => ?_, fun _ => ⟨vp_in_nI (by omega) (by decide), vp_in_nI (by omega) (by decide), fun q2 => ?_, fun q2 => ?_⟩⟩
      · exfalso; rw [i3_le, nI_x (by omega)] at q; have : (20 : Int) ≤ ((k + 1 : Nat) : Int) := q; omega
      all_goals
        rw [nI_clamp (by omega), nI_clamp (by omega), i6_le, h2 _ (by omega), h2 _ (by omega)] at q2
        rw [nI_1]
        have k3 := K3 () g' rfl
      · have e : am rr (k + 1) = am rr k := if_pos q2
        rw [e] at k3; exact k3
      · have e : am rr (k + 1) = k + 1 := if_neg q2
        rw [e] at k3; exact k3
    · subst e
      have ak := am_le (r := rr) 19
      refine v_X2_split_2_110 Lg ⟨fun _ => ⟨vp_in_nI (by omega) (by decide), fun h3' e3 _ h4' e4 _ => ?_⟩, fun q => absurd (by decide) q⟩
      rw [nI_clamp (by omega)] at e3 e4
      rw [h1 _ (by omega), lN_1] at e4
      have el : lN (l' + 1) - 1 = lN l' := by
        have := lN_sub (a := l' + 1) (b := 1) (by omega)
        exact this
      rw [el]
      refine KK (l', pwr gg (am rr 19) (gg (am rr 19) + 1), pwr rr (am rr 19) (-1)) h4' (Nat.lt_succ_self _) ⟨?_, fun f hf => ?_, fun f hf => ?_, h3, hl'⟩
      · rw [e4, e3]; exact (z.wJ (by decide)).wJ (by decide)
      · rw [e4, rd_JJ]
        by_cases c : f = am rr 19
        · rw [if_pos ⟨rfl, c⟩]
          show _ = lN (pwr gg (am rr 19) (gg (am rr 19) + 1) f)
          rw [c, pw_s]
        · rw [if_neg (fun q => c q.2), e3, rd_Ja (by omega)]
          show _ = lN (pwr gg (am rr 19) (gg (am rr 19) + 1) f)
          rw [pw_n c]; exact h1 f hf
      · rw [e4, rd_Ja (by omega), e3, rd_JJ]
        by_cases c : f = am rr 19
        · rw [if_pos ⟨rfl, c⟩]
          show _ = pwr rr (am rr 19) (-1) f
          rw [c, pw_s]; decide
        · rw [if_neg (fun q => c q.2)]
          show _ = pwr rr (am rr 19) (-1) f
          rw [pw_n c]; exact h2 f hf
/-- the first numbers -/
def gZ (w : Nat → Nat) (all sum : Nat) : Nat → Nat := fun f => if all = 0 then 0 else g0 w all sum f
def rZ (w : Nat → Nat) (all sum : Nat) : Nat → Nat := fun f => if all = 0 then 0 else sum * w f % all
theorem spl_z {n : Nat} (h : sN w n ≠ 0) : spR n (sum - sN (gZ w (sN w n) sum) n) (gZ w (sN w n) sum) (fun f => ((rZ w (sN w n) sum f : Nat) : Int)) = spl n w sum := by
  have e1 : gZ w (sN w n) sum = g0 w (sN w n) sum := funext fun f => if_neg h
  have e2 : (fun f => ((rZ w (sN w n) sum f : Nat) : Int)) = r0 w (sN w n) sum := funext fun f => by unfold rZ r0; rw [if_neg h]
  unfold spl
  rw [if_neg h, e1, e2]
theorem gZ_sum {n : Nat} (h : sN w n ≠ 0) : sN (gZ w (sN w n) sum) n ≤ sum := by
  have e1 : gZ w (sN w n) sum = g0 w (sN w n) sum := funext fun f => if_neg h
  rw [e1]; exact (sp_0 (by omega)).2
theorem gZ_0 {n : Nat} (h : sN w n = 0) (j : Nat) : gZ w (sN w n) sum j = 0 ∧ spl n w sum j = 0 := ⟨if_pos h, by unfold spl; rw [if_pos h]⟩
theorem c_split2 (L : LY2 h a) (hw : ∀ f, f < 20 → ah_J h (a + 3) f = lN (w f)) (b1 : sN w 20 < 4611686018427387904) (b2 : ∀ f, f < 20 → sum * w f < 4611686018427387904) (b3 : sum < 4611686018427387904) (K : ∀ g, sfr [1, 2] a h g → (∀ f, f < 20 → ah_J g (a + 1) f = lN (spl 20 w sum f)) → Q none g) :
    MX G mi_X2_split_2 d 0 [some (rv a), some (jv (lN (sN w 20))), none, some (jv (lN sum)), none, none, none, none, none] [] h Q E := by
  generalize ea : sN w 20 = all at b1
  have LP : ∀ l0, l0 = (if all = 0 then 0 else sum) → MX G mi_X2_split_2 d 16 [some (rv a), some (jv (lN all)), none, some (jv (lN sum)), none, some (jv (lN l0)), none, some (iv (0 : Int32)), none] [] h Q E := fun l0 hl0 => by
    have sg : sN (gZ w all sum) 20 ≤ l0 := by
      rw [hl0]
      by_cases c : all = 0
      · rw [if_pos c]; exact Nat.le_of_eq (sN_0 (fun i _ => if_pos c))
      · rw [if_neg c, ← ea]; rw [← ea] at c; exact gZ_sum c
    have bl0 : l0 ≤ sum := by rw [hl0]; split <;> omega
    refine mx_up (α := Unit) (fun f _ => [some (rv a), some (jv (lN all)), none, some (jv (lN sum)), none, some (jv (lN (l0 - sN (gZ w all sum) f))), none, some (iv (nI f)), none]) 20 (fun f _ g => sfr [1, 2] a h g ∧ ∀ j, j < f → ah_J g (a + 1) j = lN (gZ w all sum j) ∧ ah_J g (a + 2) j = lN (rZ w all sum j)) (fun f _ g hf hI KK => ?_) (fun _ g hI => ?_) 0 () h (Nat.zero_le _) ⟨sfr.rf, fun j hj => by omega⟩
    · obtain ⟨z, hI⟩ := hI
      have Lg := z.ly L
      have sf : sN (gZ w all sum) f + gZ w all sum f ≤ l0 := Nat.le_trans (sN_up (f := gZ w all sum) (m := f + 1) (by omega)) sg
      have w3 : ah_J g (a + 3) f = lN (w f) := by rw [z.2.2 _ _ (fun i hi => by simp only [List.mem_cons, List.not_mem_nil, or_false] at hi; omega)]; exact hw f hf
      have el : lN (l0 - sN (gZ w all sum) f) - lN (gZ w all sum f) = lN (l0 - sN (gZ w all sum) (f + 1)) := by
        rw [lN_sub (by omega)]
        show _ = lN (l0 - (sN (gZ w all sum) f + gZ w all sum f))
        congr 1; omega
      have key : ∀ v, v = lN (gZ w all sum f) → MX G mi_X2_split_2 d 50 [some (rv a), some (jv (lN all)), none, some (jv (lN sum)), none, some (jv (lN (l0 - sN (gZ w all sum) f))), none, some (iv (nI f)), none] [jv v, iv (nI f), rv (a + 1)] g Q E := fun v hv => by
        subst hv
        have fin : ∀ h2 h4 v2, h2 = ah_wJ g (a + 1) f (lN (gZ w all sum f)) → h4 = ah_wJ h2 (a + 2) f v2 → v2 = lN (rZ w all sum f) → MX G mi_X2_split_2 d 16 [some (rv a), some (jv (lN all)), none, some (jv (lN sum)), none, some (jv (lN (l0 - sN (gZ w all sum) f) - lN (gZ w all sum f))), none, some (iv (nI f + 1)), none] [] h4 Q E := fun h2 h4 v2 e2 e4 ev => by
          rw [el, nI_1]
          refine KK () h4 ⟨by rw [e4, e2]; exact (z.wJ (by decide)).wJ (by decide), fun j hj => ?_⟩
          rw [e4, e2, rd_JJ, rd_JJ, rd_JJ, rd_JJ, if_neg (fun q => by have := q.1; omega), if_neg (c := a + 2 = a + 1 ∧ j = f) (fun q => by have := q.1; omega)]
          by_cases c : j = f
          · rw [if_pos ⟨rfl, c⟩, if_pos ⟨rfl, c⟩, c]; exact ⟨rfl, ev⟩
          · rw [if_neg (fun q => c q.2), if_neg (fun q => c q.2)]; exact hI j (by omega)
        refine v_X2_split_2_50 Lg ?_
        rw [nI_clamp (by omega)]
        refine ⟨vp_in_nI hf (by decide), fun h2 e2 _ => ⟨fun q h4 e4 _ => ?_, fun q => ⟨fun q2 => ?_, fun h6 e6 _ => ?_⟩⟩⟩
        · have q0 := (lN_le0 b1).mp q
          exact fin h2 h4 _ e2 e4 (by unfold rZ; rw [if_pos q0]; rfl)
        · exact q (by rw [q2]; decide)
        · have q0 : all ≠ 0 := fun e => q ((lN_le0 b1).mpr e)
          refine fin h2 h6 _ e2 e6 ?_
          unfold rZ
          rw [if_neg q0, w3, lN_mul, pk_lRem (by have := b2 f hf; omega) (by omega) (by omega)]
      refine v_X2_split_2_16 Lg ⟨fun q => ?_, fun _ => ⟨fun q => ?_, fun q => ?_⟩⟩
      · exfalso; rw [i3_le, nI_x (by omega)] at q; have : (20 : Int) ≤ (f : Int) := q; omega
      · have q0 := (lN_le0 b1).mp q
        exact key _ (by unfold gZ; rw [if_pos q0]; rfl)
      · have q0 : all ≠ 0 := fun e => q ((lN_le0 b1).mpr e)
        rw [nI_clamp (by omega)]
        refine ⟨vp_in_nI hf (by decide), fun q2 => q (by rw [q2]; decide), key _ ?_⟩
        unfold gZ g0
        rw [if_neg q0, w3, lN_mul, pk_lDiv (by have := b2 f hf; omega) (by omega) (by omega)]
    · obtain ⟨z, hI⟩ := hI
      refine v_X2_split_2_16 (z.ly L) ⟨fun _ => ?_, fun q => absurd (by decide) q⟩
      by_cases c : all = 0
      · have e0 : l0 - sN (gZ w all sum) 20 = 0 := by rw [hl0, if_pos c]; omega
        rw [e0]
        refine c_split97 (T := spl 20 w sum) (gg := gZ w all sum) (rr := fun f => ((rZ w all sum f : Nat) : Int)) (z.ly L) (by omega) (fun f hf => (hI f hf).1) (fun f hf => ?_) ?_ (fun g2 z2 hT => K g2 (z.tr z2) hT)
        · rw [(hI f hf).2, lN_p]
          unfold rZ; rw [if_pos c]; omega
        · funext j
          show gZ w all sum j = _
          rw [← ea] at c ⊢
          rw [(gZ_0 c j).1, (gZ_0 c j).2]
      · refine c_split97 (T := spl 20 w sum) (gg := gZ w all sum) (rr := fun f => ((rZ w all sum f : Nat) : Int)) (z.ly L) (by omega) (fun f hf => (hI f hf).1) (fun f hf => ?_) ?_ (fun g2 z2 hT => K g2 (z.tr z2) hT)
        · rw [(hI f hf).2, lN_p]
          unfold rZ; rw [if_neg c]
          have := Nat.mod_lt (sum * w f) (show 0 < all by omega)
          omega
        · rw [hl0, if_neg c]
          rw [← ea] at c ⊢
          exact spl_z c
  refine v_X2_split_2 L ⟨fun q => ?_, fun q => ?_⟩
  · have q0 := (lN_le0 b1).mp q
    exact LP 0 (by rw [if_pos q0])
  · have q0 : all ≠ 0 := fun e => q ((lN_le0 b1).mpr e)
    exact LP sum (by rw [if_neg q0])
/-- by ints that lie somewhere -/
theorem c_split (L : LY2 h a) (kb : ah_kd h b = 40) (lb : ah_ln h b = 20) (hw : ∀ f, f < 20 → ah_I h b f = nI (w f)) (b1 : sN w 20 < 2147483648) (b2 : ∀ f, f < 20 → sum * w f < 4611686018427387904) (b3 : sum < 4611686018427387904) (K : ∀ g, sfr [1, 2, 3] a h g → (∀ f, f < 20 → ah_J g (a + 1) f = lN (spl 20 w sum f)) → Q none g) :
    MX G mi_X2_split (d + 1) 0 [some (rv a), some (rv b), some (jv (lN (sN w 20))), none, some (jv (lN sum)), none, none] [] h Q E := by
  refine v_X2_split L ?_
  refine mx_up (α := Unit) (fun f _ => [some (rv a), some (rv b), some (jv (lN (sN w 20))), none, some (jv (lN sum)), none, some (iv (nI f))]) 20 (fun f _ g => sfr [1, 2, 3] a h g ∧ ∀ j, j < f → ah_J g (a + 3) j = lN (w j)) (fun f _ g hf hI KK => ?_) (fun _ g hI => ?_) 0 () h (Nat.zero_le _) ⟨sfr.rf, fun j hj => by omega⟩
  · obtain ⟨z, hI⟩ := hI
    refine v_X2_split_3 (z.ly L) ⟨fun q => ?_, fun _ => ?_⟩
    · exfalso; rw [i3_le, nI_x (by omega)] at q; have : (20 : Int) ≤ (f : Int) := q; omega
    · rw [nI_clamp (by omega)]
      refine ⟨⟨by rw [z.1.2.1]; exact kb, by rw [z.1.2.2.1, lb]; exact vp_in_nI hf (by decide)⟩, vp_in_nI hf (by decide), fun h6 e6 _ => ?_⟩
      have wf : w f < 2147483648 := Nat.lt_of_le_of_lt (sN_ge hf) b1
      rw [z.2.1, hw f hf, nI_l wf] at e6
      rw [nI_1]
      refine KK () h6 ⟨by rw [e6]; exact z.wJ (by decide), fun j hj => ?_⟩
      rw [e6, rd_JJ]
      by_cases c : j = f
      · rw [if_pos ⟨rfl, c⟩, c]
      · rw [if_neg (fun q => c q.2)]; exact hI j (by omega)
  · obtain ⟨z, hI⟩ := hI
    refine v_X2_split_3 (z.ly L) ⟨fun _ => ?_, fun q => absurd (by decide) q⟩
    refine c_split2 (z.ly L) hI (by omega) b2 b3 (fun g2 z2 hT => ?_)
    intro _
    exact K g2 (z.tr (z2.mn (by decide))) hT
end

/-! ===== what the acts tell: told ===== -/
theorem kix_at (w : Nat) : ∀ (l : List Nat) (k : Nat), 0 ≤ kix w l k → l.getD ((kix w l k).toNat - k) 0 = w
  | [], k, h => by rw [kix] at h; exact absurd h (by decide)
  | a :: l, k, h => by
    rw [kix] at h ⊢
    by_cases c : w = a
    · rw [if_pos c]
      rw [show ((k : Int).toNat - k) = 0 by omega]
      exact c.symm
    · rw [if_neg c] at h ⊢
      have q := kix_at w l (k + 1) h
      rcases kix_bd w l (k + 1) with e | e
      · omega
      · rw [show (kix w l (k + 1)).toNat - k = ((kix w l (k + 1)).toNat - (k + 1)) + 1 by omega]
        exact q
section
variable {G : ma_G} {d M X u w : Nat} {h g g2 : ah_T} {S : MS} {Q : Option ma_V → ah_T → Prop} {E : Nat → ah_T → Prop} {tx : Nat → List Nat × List PD} {x : Int32} {wo : Int64}
theorem m_told (L : LY8 h M) (T : TXm S tx) (hw : w < 1099511627776) (e56 : ah_I h M 56 = S.1 0 56) (eA : ∀ a, a ∈ [36, 37, 38, 39] → ∀ k, ah_I h (M + a) k = S.1 a k) (e42 : ∀ k, ah_J h (M + 42) k = S.2 42 k)
    (K : ∀ g, mch [44, 46, 47, 48] [72, 108] M h g → Q (some (jv (tolS S tx (ah_J h (M + 45)) x w wo))) g) :
    MX G mi_X8_told (d + 4) 0 [some (rv M), some (jv (lN w)), none, some (iv x), some (jv wo), none, none, none, none] [] h Q E := by
  have t4 := T.1
  refine v_X8_told (d := d + 3) L ?_
  intro h1 e1 X1
  have m1 : mch [44, 46, 47, 48] [72, 108] M h h1 := by rw [e1]; exact mch.rf.zI (by decide)
  clear e1
  have L1 := m1.ly L
  refine m_force (S := S) L1 T (by rw [m1.sc 56 (by decide) (by decide)]; exact e56) (fun k => by rw [m1.ar 36 (by decide) (by decide)]; exact eA 36 (by decide) k) ?_
  intro _
  unfold tolS at K
  cases e : foN (S.1 36) x (nT S) with
  | none =>
    rw [e] at K
    simp only at K ⊢
    exact v_X8_told_18 (d := d + 3) L1 ⟨fun _ => v_X8_told_63 (d := d + 3) L1 ⟨fun c => absurd c (by decide), fun _ => K h1 m1⟩, fun c => absurd (by decide) c⟩
  | some u =>
    rw [e] at K
    simp only at K ⊢
    have hu := foN_lt e
    obtain ⟨y1, y2, y3, y4, b, y5, y6⟩ := T.2.2 u hu
    have e37 : ah_I h1 (M + 37) u = nI (tx u).1.length := by rw [m1.ar 37 (by decide) (by decide), eA 37 (by decide)]; exact y2
    have en : ∀ i, i < (tx u).1.length → (ah_J h1 (M + 42) (10 * u + i) = lN w ↔ (tx u).1.getD i 0 = w) := fun i hi => by
      rw [m1.arJ 42 (by decide) (by decide), e42, (y3 i hi).1]
      have b1 := (y3 i hi).2
      exact pk_lEQ (by omega) (by omega)
    have un := y6.2.1
    have bd := kix_bd w (tx u).1 0
    have at_ := kix_at w (tx u).1 0
    have no := kix_nn w (tx u).1 0
    suffices q : MX G mi_X8_told (d + 3 + 1) 18 [some (rv M), some (jv (lN w)), none, none, some (jv wo), none, some (iv (nI u)), some (iv (if 0 ≤ kix w (tx u).1 0 ∧ (kix w (tx u).1 0).toNat < 0 then nI (kix w (tx u).1 0).toNat else -1)), some (iv (nI 0))] [] h1 Q E by
      rw [if_neg (by omega)] at q; exact q
    refine mx_up (α := Unit) (fun k _ => [some (rv M), some (jv (lN w)), none, none, some (jv wo), none, some (iv (nI u)), some (iv (if 0 ≤ kix w (tx u).1 0 ∧ (kix w (tx u).1 0).toNat < k then nI (kix w (tx u).1 0).toNat else -1)), some (iv (nI k))]) (tx u).1.length (fun _ _ g => g = h1) (fun k _ g hk hI KK => ?_) (fun _ g hI => ?_) 0 () h1 (Nat.zero_le _) rfl
    · subst hI
      have KK := KK () g rfl
      have ei : (10 : Int32) * nI u + nI k = nI (10 * u + k) := by rw [show (10 : Int32) = nI 10 from rfl, pk_mul, nI_add]
      refine v_X8_told_18 (d := d + 3) L1 ⟨fun c => absurd c (by rw [i3_lt, nI_x (by omega)]; show ¬ (u : Int) < 0; omega), fun _ => ⟨vp_in_nI (by omega) (by decide), ?_⟩⟩
      rw [nI_clamp (show u < 2147483648 by omega), e37, ei, nI_clamp (show 10 * u + k < 2147483648 by omega), nI_1, en k hk]
      refine ⟨fun c => absurd c (by rw [i3_le, nI_x (by omega), nI_x (by omega)]; omega), fun _ => ⟨vp_in_nI (by omega) (by decide), fun c => ?_, fun c => ?_⟩⟩
      · have ek : ¬ (0 ≤ kix w (tx u).1 0 ∧ (kix w (tx u).1 0).toNat = k) := fun z => by
          have q := at_ z.1
          rw [Nat.sub_zero, z.2] at q
          exact c q
        have eqv : (0 ≤ kix w (tx u).1 0 ∧ (kix w (tx u).1 0).toNat < k + 1) ↔ (0 ≤ kix w (tx u).1 0 ∧ (kix w (tx u).1 0).toNat < k) := by omega
        simp only [eqv] at KK
        exact KK
      · have ek : 0 ≤ kix w (tx u).1 0 ∧ (kix w (tx u).1 0).toNat = k := by
          rcases bd with q | q
          · exact absurd c (no q k hk)
          · have q0 : 0 ≤ kix w (tx u).1 0 := by omega
            have qa := at_ q0
            rw [Nat.sub_zero] at qa
            exact ⟨q0, un _ k (by omega) hk (by rw [qa, c])⟩
        rw [if_pos ⟨ek.1, by omega⟩, ek.2] at KK
        exact KK
    · subst hI
      refine v_X8_told_18 (d := d + 3) L1 ⟨fun c => absurd c (by rw [i3_lt, nI_x (by omega)]; show ¬ (u : Int) < 0; omega), fun _ => ⟨vp_in_nI (by omega) (by decide), ?_⟩⟩
      rw [nI_clamp (show u < 2147483648 by omega), e37]
      refine ⟨fun _ => ?_, fun c => absurd (by rw [i3_le]; exact Int.le_refl _) c⟩
      rcases bd with q | q
      · rw [if_neg (by omega)] at K ⊢
        exact v_X8_told_63 (d := d + 3) L1 ⟨fun c => absurd c (by decide), fun _ => K g m1⟩
      · rw [if_pos (by omega)] at K
        rw [if_pos (by omega)]
        have hd : (kix w (tx u).1 0).toNat < (tx u).1.length := by omega
        refine v_X8_told_63 (d := d + 3) L1 ⟨fun _ => ?_, fun c => absurd (by rw [i3_le, nI_x (by omega)]; show (0 : Int) ≤ _; omega) c⟩
        rw [nI_clamp (by omega)]
        refine m_work (d := d) L1 (by omega) (b := b) (nm := (tx u).1) (Ds := (tx u).2) ?_ y5 y4 y1 hd (fun g2 m2 f1 f2 => ?_)
        · have q39 : (fun k => ah_I g (M + 39) (1100 * u + k)) = (fun k => S.1 39 (1100 * u + k)) := funext fun k => by rw [m1.ar 39 (by decide) (by decide)]; exact eA 39 (by decide) _
          have q38 : (fun k => ah_I g (M + 38) (11 * u + k)) = (fun k => S.1 38 (11 * u + k)) := funext fun k => by rw [m1.ar 38 (by decide) (by decide)]; exact eA 38 (by decide) _
          rw [q39, q38]; exact y6
        intro _
        have e45 : ah_J g (M + 45) = ah_J h (M + 45) := funext fun j => m1.arJ 45 (by decide) (by decide) j
        rw [e45] at f2
        rw [← f2] at K
        refine ⟨vp_in_nI (by omega) (by decide), f1, fun h6 e6 _ => ⟨fun c => ?_, fun c => ?_⟩⟩
        · have := K h6 (m1.tr (by rw [e6]; exact (m2.mono (by decide) (by decide)).zI (by decide)))
          rw [if_pos c] at this
          exact this
        · have := K h6 (m1.tr (by rw [e6]; exact (m2.mono (by decide) (by decide)).zI (by decide)))
          rw [if_neg c] at this
          exact this
end

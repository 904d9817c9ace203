/-! ===== what the acts tell: the model ===== -/
/-- the model's texts, told by tx -/
def TXm (S : MS) (tx : Nat → List Nat × List PD) : Prop := nT S ≤ 4 ∧ S.1 0 56 = nI (nT S) ∧ ∀ u, u < nT S → (tx u).1.length ≤ 10 ∧ S.1 37 u = nI (tx u).1.length ∧ (∀ i, i < (tx u).1.length → S.2 42 (10 * u + i) = lN ((tx u).1.getD i 0) ∧ (tx u).1.getD i 0 < 1099511627776) ∧ (∀ i, i < (tx u).1.length → dep i ((tx u).2.getD i pd0)) ∧ ∃ b, b ≤ 500 ∧ MDs (fun k => S.1 39 (1100 * u + k)) (fun k => S.1 38 (11 * u + k)) (tx u).1 (tx u).2 b
/-- what the text in force tells, not cut -/
def tolS (S : MS) (tx : Nat → List Nat × List PD) (vs : Nat → Int64) (x : Int32) (w : Nat) (wo : Int64) : Int64 :=
  match foN (S.1 36) x (nT S) with
  | none => wo
  | some u => if 0 ≤ kix w (tx u).1 0 then (match evL (tx u).2 vs ((kix w (tx u).1 0).toNat + 1) (kix w (tx u).1 0).toNat with
    | some v => v
    | none => wo) else wo
section
variable {G : ma_G} {d M X u : Nat} {h g g2 : ah_T} {S : MS} {Q : Option ma_V → ah_T → Prop} {E : Nat → ah_T → Prop} {tx : Nat → List Nat × List PD} {x : Int32} {wo : Int64}
theorem CIk.mt (T : CIk G h X S tx) (t4 : nT S ≤ 4) (e : S.1 0 56 = nI (nT S)) : TXm S tx := ⟨t4, e, fun u hu => by
  obtain ⟨⟨y1, y2, y3, y4⟩, y5, y6, y7, y8, y9⟩ := (T u (by omega)).1 hu
  exact ⟨y2.2.1, y6, y7, y8, y9⟩⟩
theorem m_force (L : LY8 h M) (T : TXm S tx) (e56 : ah_I h M 56 = S.1 0 56) (e36 : ∀ k, ah_I h (M + 36) k = S.1 36 k) (K : Q (some (iv (match foN (S.1 36) x (nT S) with
    | none => -1
    | some u => nI u))) h) : MX G mi_X8_force d 0 [some (rv M), some (iv x), none, none] [] h Q E := by
  have t4 := T.1
  have iT := e56.trans T.2.1
  refine v_X8_force L ?_
  refine mx_up (α := Unit) (fun k _ => [some (rv M), some (iv x), some (iv (match foN (S.1 36) x k with
    | none => -1
    | some u => nI u)), some (iv (nI k))]) (nT S) (fun _ _ g => g = h) (fun k _ g hk hI KK => ?_) (fun _ g hI => ?_) 0 () h (Nat.zero_le _) rfl
  · subst hI
    refine v_X8_force_4 L ⟨fun c => absurd c (by rw [iT, i3_le, nI_x (by omega), nI_x (by omega)]; omega), fun _ => ⟨vp_in_nI (by omega) (by decide), ?_⟩⟩
    rw [nI_clamp (by omega), nI_1, e36]
    have KK := KK () g rfl
    rw [show foN (S.1 36) x (k + 1) = if (S.1 36 k).toInt ≤ x.toInt ∧ (match foN (S.1 36) x k with
      | none => true
      | some b => decide ((S.1 36 b).toInt ≤ (S.1 36 k).toInt)) = true then some k else foN (S.1 36) x k from rfl] at KK
    refine ⟨fun c => ?_, fun c => ⟨fun c2 => ?_, fun c2 => ?_⟩⟩
    · rw [i3_lt] at c
      rw [if_neg (by omega)] at KK
      exact KK
    · rw [i3_lt] at c
      cases e : foN (S.1 36) x k with
      | none =>
        rw [e] at KK
        simp only at KK
        rw [if_pos ⟨by omega, trivial⟩] at KK
        exact KK
      | some b =>
        rw [e] at c2
        simp only at c2
        have := foN_lt e
        rw [i3_lt, nI_x (by omega)] at c2
        exact absurd c2 (by show ¬ (b : Int) < 0; omega)
    · rw [i3_lt] at c
      cases e : foN (S.1 36) x k with
      | none => rw [e] at c2; exact absurd (by decide) c2
      | some b =>
        rw [e] at KK
        simp only at KK ⊢
        have hb := foN_lt e
        rw [nI_clamp (by omega), e36]
        refine ⟨vp_in_nI (by omega) (by decide), fun c3 => ?_, fun c3 => ?_⟩
        · rw [i3_lt] at c3
          rw [if_neg (by rw [decide_eq_true_eq]; omega)] at KK
          exact KK
        · rw [i3_lt] at c3
          rw [if_pos ⟨by omega, by rw [decide_eq_true_eq]; omega⟩] at KK
          exact KK
  · subst hI
    exact v_X8_force_4 L ⟨fun _ => K, fun c => absurd (by rw [iT, i3_le]; exact Int.le_refl _) c⟩
end

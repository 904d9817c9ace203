/-! ===== values that agree below 11 tell alike ===== -/
section
variable {S : MS} {tx : Nat → List Nat × List PD} {x : Int32} {wo lo hi : Int64} {vs vs' : Nat → Int64} {Ds : List PD} {w m : Nat}
theorem evL_vs (e : ∀ j, j < 11 → vs j = vs' j) (dp : ∀ i, i < m → dep i (Ds.getD i pd0)) : ∀ k, k ≤ m → ∀ j, j < k → evL Ds vs k j = evL Ds vs' k j
  | 0, _, j, hj => by omega
  | k + 1, hk, j, hj => by
    have ih := evL_vs e dp k (by omega)
    show (if j = k then (Ds.getD k pd0) vs (evL Ds vs k) else evL Ds vs k j) = if j = k then (Ds.getD k pd0) vs' (evL Ds vs' k) else evL Ds vs' k j
    by_cases c : j = k
    · rw [if_pos c, if_pos c]; exact dp k (by omega) _ _ _ _ e ih
    · rw [if_neg c, if_neg c]; exact ih j (by omega)
theorem tolS_vs (T : TXm S tx) (e : ∀ j, j < 11 → vs j = vs' j) : tolS S tx vs x w wo = tolS S tx vs' x w wo := by
  unfold tolS
  cases q : foN (S.1 36) x (nT S) with
  | none => rfl
  | some u =>
    simp only
    obtain ⟨y1, y2, y3, y4, y5⟩ := T.2.2 u (foN_lt q)
    by_cases c : 0 ≤ kix w (tx u).1 0
    · rw [if_pos c, if_pos c]
      rcases kix_bd w (tx u).1 0 with b | b
      · omega
      · rw [evL_vs e y4 ((kix w (tx u).1 0).toNat + 1) (by omega) _ (by omega)]
    · rw [if_neg c, if_neg c]
end

/-! ===== cut; the values made nothing ===== -/
section
variable {G : ma_G} {d M X w : Nat} {h g : ah_T} {S : MS} {Q : Option ma_V → ah_T → Prop} {E : Nat → ah_T → Prop} {tx : Nat → List Nat × List PD} {x : Int32} {wo lo hi v : Int64} {vs : Nat → Int64}
theorem jCut_mm (hl : lo.toInt ≤ hi.toInt) : jMax lo (jMin hi v) = jCut v lo hi := by
  rw [← Int64.toInt_inj]
  unfold jMax jMin jCut
  simp only [i6_lt, i6_le]
  (repeat' split) <;> omega
theorem jCut_in (h1 : lo.toInt ≤ wo.toInt) (h2 : wo.toInt ≤ hi.toInt) : jCut wo lo hi = wo := by
  unfold jCut
  rw [if_pos (by rw [i6_le]; exact h1), if_pos (by rw [i6_le]; exact h2)]
/-- both sides ask alike -/
theorem ask_cut (h1 : lo.toInt ≤ wo.toInt) (h2 : wo.toInt ≤ hi.toInt) : askS S tx vs x w wo lo hi = jCut (tolS S tx vs x w wo) lo hi := by
  unfold askS tolS
  cases foN (S.1 36) x (nT S) with
  | none => exact (jCut_in h1 h2).symm
  | some u =>
    simp only
    unfold asS
    by_cases c : 0 ≤ kix w (tx u).1 0
    · rw [if_pos c, if_pos c]
      cases evL (tx u).2 vs ((kix w (tx u).1 0).toNat + 1) (kix w (tx u).1 0).toNat with
      | none => exact (jCut_in h1 h2).symm
      | some v => exact jCut_mm (by omega)
    · rw [if_neg c, if_neg c]; exact (jCut_in h1 h2).symm
theorem m_letNothing (L : LY8 h M) (K : ∀ g, mch [45] [] M h g → (∀ k, k < 11 → ah_J g (M + 45) k = 0) → Q none g) : MX G mi_X8_letNothing d 0 [some (rv M), none] [] h Q E := by
  refine v_X8_letNothing L ?_
  refine mx_up (α := Unit) (fun k _ => [some (rv M), some (iv (nI k))]) 11 (fun k _ g => mch [45] [] M h g ∧ ∀ j, j < k → ah_J g (M + 45) j = 0) (fun k _ g hk hI KK => ?_) (fun _ g hI => ?_) 0 () h (Nat.zero_le _) ⟨mch.rf, fun j hj => by omega⟩
  · refine v_X8_letNothing_2 (hI.1.ly L) ⟨fun c => absurd c (by rw [show (11 : Int32) = nI 11 from rfl, i3_le, nI_x (by omega), nI_x (by omega)]; omega), fun _ => ⟨vp_in_nI hk (by decide), fun h3 e3 _ => ?_⟩⟩
    rw [nI_clamp (by omega)] at e3
    rw [nI_1]
    refine KK () h3 ⟨by rw [e3]; exact hI.1.wJ (by decide), fun j hj => ?_⟩
    rw [e3, rd_JJ]
    by_cases c : j = k
    · rw [if_pos ⟨rfl, c⟩]
    · rw [if_neg (fun z => c z.2)]; exact hI.2 j (by omega)
  · exact v_X8_letNothing_2 (hI.1.ly L) ⟨fun _ => K g hI.1 hI.2, fun c => absurd (by decide) c⟩
/-- only the asked's values, defs, and the text in force were written -/
def efr (X : Nat) (h g : ah_T) : Prop := (g.1 = h.1 ∧ ah_kd g = ah_kd h ∧ ah_ln g = ah_ln h) ∧ (∀ a k, ¬ (a = X ∧ k = 23) → ah_R g a k = ah_R h a k) ∧ (∀ a k, a ≠ X + 1436 → ah_I g a k = ah_I h a k) ∧ ∀ a k, a ≠ X + 1434 → a ≠ X + 1435 → ah_J g a k = ah_J h a k
theorem efr.rf : efr X h h := ⟨⟨rfl, rfl, rfl⟩, fun _ _ _ => rfl, fun _ _ _ => rfl, fun _ _ _ _ => rfl⟩
theorem efr.tr {g2 : ah_T} (x : efr X h g) (z : efr X g g2) : efr X h g2 := ⟨⟨z.1.1.trans x.1.1, z.1.2.1.trans x.1.2.1, z.1.2.2.trans x.1.2.2⟩, fun a k ha => (z.2.1 a k ha).trans (x.2.1 a k ha), fun a k ha => (z.2.2.1 a k ha).trans (x.2.2.1 a k ha), fun a k ha hb => (z.2.2.2 a k ha hb).trans (x.2.2.2 a k ha hb)⟩
theorem wfr.ef (x : wfr (X + 1433) h g) : efr X h g := ⟨⟨x.1.1, x.1.2.1, x.1.2.2.1⟩, fun a k _ => by rw [x.1.2.2.2], fun a k ha => x.2.1 a k ha, fun a k _ hb => x.2.2 a k hb⟩
theorem efr.wJ (x : efr X h g) {k : Nat} {v : Int64} : efr X h (ah_wJ g (X + 1434) k v) := x.tr ⟨⟨rfl, rfl, rfl⟩, fun _ _ _ => rfl, fun _ _ _ => rfl, fun a j ha _ => rd_Ja ha⟩
theorem efr.wR (x : efr X h g) {v : Nat} : efr X h (ah_wR g X 23 v) := x.tr ⟨⟨rfl, rfl, rfl⟩, fun a k ha => by rw [rd_RR, if_neg ha], fun _ _ _ => rfl, fun _ _ _ _ => rfl⟩
theorem efr.dy (x : efr X h g) : dyn pT (X, 23) X h g := ⟨fun a _ => ⟨by rw [x.1.2.1], by rw [x.1.2.2]⟩, fun a k _ _ he => x.2.1 a k (fun z => he (by rw [z.1, z.2])), fun a k h1 h2 _ _ => ⟨x.2.2.1 a k (by omega), x.2.2.2 a k (by omega) (by omega)⟩⟩
theorem efr.ext (x : efr X h g) (kX : ah_kd h X = 1) : ah_ext h g := ⟨by unfold ah_sz; rw [x.1.1]; exact Nat.le_refl _, fun a _ => ⟨by rw [x.1.2.1], by rw [x.1.2.2], fun k _ hm => x.2.1 a k (fun z => by rw [z.1, z.2, kX] at hm; exact absurd hm (by decide))⟩⟩
theorem c_clear (L : LY0 h X) (K : ∀ g, efr X h g → ah_R g X 23 = ah_R h X 23 → (∀ k, k < 11 → ah_J g (X + 1434) k = 0) → Q (some (rv (X + 1434))) g) : MX G mi_X0_clear d 0 [some (rv X), none] [] h Q E := by
  have kX := ly0_k L
  refine v_X0_clear L ?_
  refine mx_up (α := Unit) (fun k _ => [some (rv X), some (iv (nI k))]) 11 (fun k _ g => efr X h g ∧ ah_R g X 23 = ah_R h X 23 ∧ ∀ j, j < k → ah_J g (X + 1434) j = 0) (fun k _ g hk hI KK => ?_) (fun _ g hI => ?_) 0 () h (Nat.zero_le _) ⟨efr.rf, rfl, fun j hj => by omega⟩
  · refine v_X0_clear_2 (L.ext (hI.1.ext kX)) ⟨fun c => absurd c (by rw [show (11 : Int32) = nI 11 from rfl, i3_le, nI_x (by omega), nI_x (by omega)]; omega), fun _ => ⟨vp_in_nI hk (by decide), fun h3 e3 _ => ?_⟩⟩
    rw [nI_clamp (by omega)] at e3
    rw [nI_1]
    refine KK () h3 ⟨by rw [e3]; exact hI.1.wJ, by rw [e3, rd_RJ]; exact hI.2.1, fun j hj => ?_⟩
    rw [e3, rd_JJ]
    by_cases c : j = k
    · rw [if_pos ⟨rfl, c⟩]
    · rw [if_neg (fun z => c z.2)]; exact hI.2.2 j (by omega)
  · exact v_X0_clear_2 (L.ext (hI.1.ext kX)) ⟨fun _ => K g hI.1 hI.2.1 hI.2.2, fun c => absurd (by decide) c⟩
end

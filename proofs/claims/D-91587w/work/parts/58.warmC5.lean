section
variable {G : ma_G} {d X : Nat} {h g : ah_T} {S : MS} {Q : Option ma_V → ah_T → Prop} {E : Nat → ah_T → Prop} {sp ho : Nat → Int32} {n : Nat}
theorem wf_warm (W : WF S) : WF (sg_warm S sp ho n) := by
  obtain ⟨⟨b1, b2, b3, b4, b5, b6, b7, b8, b9, b10, b11, b12, b13⟩, a2, a3, a4, a5, a6, a7⟩ := W
  exact ⟨⟨b1, b2, b3, b4, b5, b6, b7, b8, b9, b10, Or.inr rfl, b12, b13⟩, a2, a3, a4, a5, a6, a7⟩
theorem CIs.wm (x : CIs h X S) (m : crg X 1451 1476 h g) (t1 : ∀ t, t < 20 → ah_I g (X + 1453) t = wtu sp ho n t) (t2 : ∀ t, 20 ≤ t → ah_I g (X + 1453) t = ah_I h (X + 1453) t) : CIs (ah_wI (ah_wI g X 46 1) X 20 0) X (sg_warm S sp ho n) := by
  have d1 : ∀ p, p ∈ ct_A → p.1 ≠ 1453 → (p.1 < 1451 ∨ 1476 ≤ p.1) ∧ p.2 ≠ 69 := by decide
  have d2 : ∀ p, p ∈ ct_A → p.1 = 1453 → p.2 = 69 := by decide
  have d3 : ∀ p, p ∈ ct_Z → p.1 < 1451 := by decide
  have base : CIs g X (fun b => if b = 69 then (fun j => if j < 20 then wtu sp ho n j else S.1 69 j) else S.1 b, S.2) := by
    refine ⟨fun c a hm k => ?_, fun c k a hm => ?_⟩
    · show _ = (if a = 69 then (fun j => if j < 20 then wtu sp ho n j else S.1 69 j) else S.1 a) k
      rcases Nat.decEq c 1453 with q | q
      · obtain ⟨n1, n2⟩ := d1 _ hm q
        have n1 : c < 1451 ∨ 1476 ≤ c := n1
        rw [if_neg n2, m.2.2.2.2.2 _ _ (by omega)]
        exact x.1 c a hm k
      · have e := d2 _ hm q
        have e : a = 69 := e
        subst q; subst e
        rw [if_pos rfl]
        rcases Nat.lt_or_ge k 20 with z | z
        · rw [if_pos z]; exact t1 k z
        · rw [if_neg (by omega), t2 k z]; exact x.1 1453 69 hm k
    · have n1 : c < 1451 := d3 _ hm
      rw [m.2.2.2.2.2 _ _ (by omega)]
      exact x.2 c k a hm
  have e_ := (base.pX (v := 1) 46 107 (by decide)).pX (v := 0) 20 0 (by decide)
  rw [uI_cm (a := 0) (k := 107) (b := 0) (j := 0) (Or.inr (by decide))] at e_
  exact e_
theorem cpo.wm (L : LY0 h X) (C : CI0 h X S) (m : crg X 1451 1476 h g) (t1 : ∀ t, t < 20 → ah_I g (X + 1453) t = wtu sp ho n t) (t2 : ∀ t, 20 ≤ t → ah_I g (X + 1453) t = ah_I h (X + 1453) t) (xt : ah_ext g (ah_wI (ah_wI g X 46 1) X 20 0)) : cpo X h (ah_wI (ah_wI g X 46 1) X 20 0) (sg_warm S sp ho n) := by
  have z : dyn pT (X + 5, 0) X h g := m.dy (by decide)
  have cf : cfr X h g := fun a k ha => ⟨m.2.2.2.2.2 a k (by omega), by rw [m.2.2.2.2.1]⟩
  exact cpo.mk L C z.zI.zI cf.zI.zI (m.ext.tr xt) m.1 (C.1.wm m t1 t2) (wf_warm C.2.2.2.2.2) ⟨⟨rfl, rfl, rfl, rfl, rfl, rfl, rfl, rfl⟩, ⟨rfl, rfl⟩, ⟨rfl, rfl, rfl, rfl, rfl, rfl, rfl, rfl, rfl, rfl, rfl⟩, rfl, rfl, rfl⟩
end

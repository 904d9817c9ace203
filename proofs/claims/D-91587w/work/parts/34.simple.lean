section
variable {h h' : ah_T} {X : Nat} {S S' : MS}
/-- what the class's objects show is the same of both states -/
def oag (S S' : MS) : Prop := (nF S' = nF S ∧ S'.1 4 = S.1 4 ∧ S'.1 5 = S.1 5 ∧ S'.1 6 = S.1 6 ∧ S'.1 53 = S.1 53 ∧ S'.1 54 = S.1 54 ∧ S'.1 55 = S.1 55 ∧ S'.1 61 = S.1 61) ∧ (nE S' = nE S ∧ S'.1 7 = S.1 7) ∧ (nV S' = nV S ∧ S'.1 9 = S.1 9 ∧ S'.1 10 = S.1 10 ∧ S'.1 11 = S.1 11 ∧ S'.1 12 = S.1 12 ∧ S'.1 13 = S.1 13 ∧ S'.1 14 = S.1 14 ∧ S'.1 15 = S.1 15 ∧ S'.1 16 = S.1 16 ∧ S'.1 17 = S.1 17 ∧ S'.1 18 = S.1 18) ∧ S'.1 1 = S.1 1 ∧ S'.1 2 = S.1 2 ∧ S'.2 3 = S.2 3
theorem CI0.up (L : LY0 h X) (x : CI0 h X S) (z : dyn pT (X + 5, 0) X h h') (q : CIs h' X S') (w : WF S') (e : oag S S') : CI0 h' X S' := by
  obtain ⟨⟨a1, a2, a3, a4, a5, a6, a7, a8⟩, ⟨b1, b2⟩, ⟨c1, c2, c3, c4, c5, c6, c7, c8, c9, c10, c11⟩, d1, d2, d3⟩ := e
  refine ⟨q, ?_, ?_, ?_, ?_, w⟩
  · rw [a1, a2, a3, a4, a5, a6, a7, a8]; exact x.2.1.dy L z (fun _ => ⟨trivial, trivial⟩) ⟨by show X + 5 < _; omega, by show X + 5 ≠ _; omega⟩
  · rw [b1, b2]; exact x.2.2.1.dy L z (fun _ => trivial) ⟨by show X + 5 < _; omega, by show X + 5 ≠ _; omega⟩
  · rw [c1, c2, c3, c4, c5, c6, c7, c8, c9, c10, c11]; exact x.2.2.2.1.dy L z (fun _ _ _ _ _ => trivial) ⟨by show X + 5 < _; omega, by show X + 5 ≠ _; omega⟩ (fun q => absurd q (by show X + 5 ≠ _; omega))
  · rw [d1, d2, d3]; exact x.2.2.2.2.1.dy L z (fun _ _ _ => trivial) (by show X + 5 < _; omega)
theorem dyn.lf0 {P : Nat → Nat → Prop} {e : Nat × Nat} (L : LY0 h X) (z : dyn P e X h h') (he : e.1 < X + 1576 ∧ e.1 ≠ X + 1437 ∧ ah_kd h e.1 ≠ 50) (hP : ∀ a k, (16 ≤ a ∧ a ≤ 21) ∨ a = 41 → P a k) (hr : ∀ t, t < 4 → (X + (1494 + t), 0) = e → ah_sz h ≤ ah_R h' (X + (1494 + t)) 0) : lfr X h h' := by
  have k2 : ah_kd h (X + 1437) ≠ 0 := by rw [ly0_K_1437 L]; decide
  refine ⟨fun a k h0 h1 h2 => ?_, fun k => z.2.1 _ k (by omega) k2 (fun q => he.2.1 (by rw [← q])), fun a k h0 h1 => z.2.1 a k h0 (by omega) (fun q => he.2.2 (by rw [← q]; exact h1)), fun u k hu h1 h2 => (z.2.2 _ k (by omega) (by omega) (by omega) (hP _ k (Or.inr h2))).2, fun t ht => ?_⟩
  · exact ⟨z.2.1 a k (by omega) (by omega) (fun q => by rw [← q] at he; have := he.1; simp only at this; omega), z.2.2 a k (by omega) (by omega) (by omega) (hP _ k (Or.inl ⟨h1, h2⟩))⟩
  · by_cases q : (X + (1494 + t), 0) = e
    · exact Or.inr (hr t ht q)
    · exact Or.inl (z.2.1 _ 0 (by omega) (by rw [ly0_TK L ht]; decide) q)
theorem dyn.lf {P : Nat → Nat → Prop} {e : Nat × Nat} (L : LY0 h X) (z : dyn P e X h h') (he : e.1 < X + 1494 ∧ e.1 ≠ X + 1437 ∧ ah_kd h e.1 ≠ 50) (hP : ∀ a k, (16 ≤ a ∧ a ≤ 21) ∨ a = 41 → P a k) : lfr X h h' :=
  dyn.lf0 L z ⟨by have := he.1; omega, he.2⟩ hP (fun t ht q => by have := he.1; rw [← q] at this; simp only at this; omega)
/-- a call that changes the class's fixed ints and longs alone -/
theorem cpo.mk (L : LY0 h X) (x : CI0 h X S) (z : dyn pT (X + 5, 0) X h h') (c : cfr X h h') (t : ah_ext h h') (e1 : h'.1 = h.1) (q : CIs h' X S') (w : WF S') (e : oag S S') : cpo X h h' S' :=
  ⟨L.ext t, x.up L z q w e, c, t, by unfold ah_rc; rw [e1]; omega, by unfold ah_rs; rw [e1]; omega, z.lf L ⟨by show X + 5 < _; omega, by show X + 5 ≠ _; omega, by show ah_kd h (X + 5) ≠ 50; rw [ly0_K_5 L]; decide⟩ (fun _ _ _ => trivial)⟩
/-- nothing but a status -/
theorem cpo.st (L : LY0 h X) (x : CI0 h X S) {c : Int32} (t : ah_ext h (ah_wI h X 20 c)) : cpo X h (ah_wI h X 20 c) (uI S 0 0 c) :=
  ⟨L.ext t, x.st L, cfr.rf.zI, t, Nat.le_add_right _ _, Nat.le_add_right _ _, dyn.lf (P := pT) (e := (X + 5, 0)) L dyn.rf.zI ⟨by show X + 5 < _; omega, by show X + 5 ≠ _; omega, by show ah_kd h (X + 5) ≠ 50; rw [ly0_K_5 L]; decide⟩ (fun _ _ _ => trivial)⟩
theorem mpo.mk {A Z : List Nat} {M : Nat} (hA : ∀ a, a ∈ A → a < 78) (m : mch A Z M h h') (k : kept S' (mv h' M)) : mpo M h h' S' := ⟨⟨A, Z, hA, m⟩, k⟩
theorem uI_uI {a k : Nat} {v w : Int32} : uI (uI S a k v) a k w = uI S a k w := by
  refine Prod.ext (funext fun b => funext fun j => ?_) rfl
  rw [uI_e, uI_e, uI_e]
  split
  · rfl
  · rfl
theorem uI_cm {a k b j : Nat} {v w : Int32} (n : a ≠ b ∨ k ≠ j) : uI (uI S a k v) b j w = uI (uI S b j w) a k v := by
  refine Prod.ext (funext fun c => funext fun i => ?_) rfl
  simp only [uI_e]
  split
  · rename_i e
    rw [if_neg (by omega)]
  · rfl
/-- an array of the model that the class has in its objects -/
theorem CIs.cA (x : CIs h X S) {m k : Nat} {v : Int32} (hm : ∀ c, (c, m) ∉ ct_A) (h0 : m ≠ 0) : CIs h X (uI S m k v) :=
  ⟨fun c m' hm' j => by rw [uI_n (fun (e : m' = m) => hm c (e ▸ hm'))]; exact x.1 c m' hm' j, fun c j m' hm' => by rw [uI_n (fun e => h0 e.symm)]; exact x.2 c j m' hm'⟩
theorem CIs.cZ (x : CIs h X S) {k : Nat} {v : Int32} (hm : ∀ c j, (c, j, k) ∉ ct_Z) : CIs h X (uI S 0 k v) := by
  have i3 : ∀ p, p ∈ ct_A → p.2 ≠ 0 := by decide
  exact ⟨fun c m' hm' j => by rw [uI_n (i3 _ hm')]; exact x.1 c m' hm' j, fun c j m' hm' => by rw [uI_e, if_neg (fun (e : 0 = 0 ∧ m' = k) => hm c j (e.2 ▸ hm'))]; exact x.2 c j m' hm'⟩
theorem ctA_n {m : Nat} (h : (ct_A.all (fun p => p.2 != m)) = true) : ∀ c, (c, m) ∉ ct_A := fun c hc => by
  have := List.all_eq_true.mp h _ hc
  simp at this
theorem ctA_c {c : Nat} (h : (ct_A.all (fun p => p.1 != c)) = true) : ∀ m, (c, m) ∉ ct_A := fun m hc => by
  have := List.all_eq_true.mp h _ hc
  simp at this
theorem ctZ_c {c k : Nat} (h : (ct_Z.all (fun p => p.1 != c || p.2.1 != k)) = true) : ∀ m, (c, k, m) ∉ ct_Z := fun m hc => by
  have := List.all_eq_true.mp h _ hc
  simp at this
theorem ctZ_n {k : Nat} (h : (ct_Z.all (fun p => p.2.2 != k)) = true) : ∀ c j, (c, j, k) ∉ ct_Z := fun c j hc => by
  have := List.all_eq_true.mp h _ hc
  simp at this
/-! the counts -/
theorem CI0.iF (C : CI0 h X S) : ah_I h X 14 = nI (nF S) ∧ nF S ≤ 20 := ⟨(C.1.2 0 14 5 (by decide)).trans C.2.2.2.2.2.1.1, C.2.1.1⟩
theorem CI0.iE (C : CI0 h X S) : ah_I h X 15 = nI (nE S) ∧ nE S ≤ 8 := ⟨(C.1.2 0 15 6 (by decide)).trans C.2.2.2.2.2.1.2.1, C.2.2.1.1⟩
theorem CI0.iV (C : CI0 h X S) : ah_I h X 16 = nI (nV S) ∧ nV S ≤ 120 := ⟨(C.1.2 0 16 7 (by decide)).trans C.2.2.2.2.2.1.2.2.1, C.2.2.2.1.1⟩
theorem CI0.iG (C : CI0 h X S) : ah_I h X 17 = nI (nG S) ∧ nG S ≤ 100 := ⟨(C.1.2 0 17 8 (by decide)).trans C.2.2.2.2.2.1.2.2.2.1, C.2.2.2.2.2.2.2.2.2.1.1⟩
theorem CI0.iT (C : CI0 h X S) : ah_I h X 18 = nI (nT S) ∧ nT S ≤ 4 := ⟨(C.1.2 0 18 56 (by decide)).trans C.2.2.2.2.2.1.2.2.2.2.1, C.2.2.2.2.2.1.2.2.2.2.2.2.2.2.1⟩
theorem CI0.iO (C : CI0 h X S) : ah_I h X 36 = nI (nO S) ∧ nO S ≤ 60 := ⟨(C.1.2 0 36 88 (by decide)).trans C.2.2.2.2.2.1.2.2.2.2.2.1, C.2.2.2.2.2.2.2.2.2.2.1.1⟩
theorem CI0.iP (C : CI0 h X S) : ah_I h (X + 1431) 1 = nI (nP S) ∧ nP S ≤ 500 := ⟨(C.1.2 1431 1 44 (by decide)).trans C.2.2.2.2.2.1.2.2.2.2.2.2.1, C.2.2.2.2.2.1.2.2.2.2.2.2.2.1⟩
theorem nI_m1 {n : Nat} (h : n < 1000000) : (nI n - 1).toInt = (n : Int) - 1 := by
  have := pk_sub_toInt (a := n) (b := 1) (by omega) (by omega)
  exact this
end

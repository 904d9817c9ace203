/-! ===== the class's state by the model's ===== -/
abbrev MS : Type := (Nat → Nat → Int32) × (Nat → Nat → Int64)
def mv (h : ah_T) (M : Nat) : MS := (fun a k => ah_I h (M + a) k, fun a k => ah_J h (M + a) k)
def uI (S : MS) (a k : Nat) (v : Int32) : MS := (fun b => if b = a then (fun j => if j = k then v else S.1 b j) else S.1 b, S.2)
def uJ (S : MS) (a k : Nat) (v : Int64) : MS := (S.1, fun b => if b = a then (fun j => if j = k then v else S.2 b j) else S.2 b)
section
variable {S : MS} {a k b j : Nat}
theorem uI_n {v : Int32} (n : b ≠ a) : (uI S a k v).1 b = S.1 b := if_neg n
theorem uI_h {v : Int32} : (uI S a k v).1 a k = v := by
  show (if a = a then (fun j => if j = k then v else S.1 a j) else S.1 a) k = v
  rw [if_pos rfl, if_pos rfl]
theorem uI_k {v : Int32} (n : j ≠ k) : (uI S a k v).1 b j = S.1 b j := by
  show (if b = a then (fun j => if j = k then v else S.1 b j) else S.1 b) j = _
  rcases Nat.decEq b a with c | c
  · rw [if_neg c]
  · rw [if_pos c, if_neg n]
theorem uI_2 {v : Int32} : (uI S a k v).2 = S.2 := rfl
theorem uJ_1 {v : Int64} : (uJ S a k v).1 = S.1 := rfl
theorem uJ_n {v : Int64} (n : b ≠ a) : (uJ S a k v).2 b = S.2 b := if_neg n
theorem uJ_h {v : Int64} : (uJ S a k v).2 a k = v := by
  show (if a = a then (fun j => if j = k then v else S.2 a j) else S.2 a) k = v
  rw [if_pos rfl, if_pos rfl]
theorem uJ_k {v : Int64} (n : j ≠ k) : (uJ S a k v).2 b j = S.2 b j := by
  show (if b = a then (fun j => if j = k then v else S.2 b j) else S.2 b) j = _
  rcases Nat.decEq b a with c | c
  · rw [if_neg c]
  · rw [if_pos c, if_neg n]
theorem uI_e {v : Int32} : (uI S a k v).1 b j = if b = a ∧ j = k then v else S.1 b j := by
  rcases Nat.decEq b a with c | c
  · rw [uI_n c, if_neg (fun e => c e.1)]
  · subst c
    rcases Nat.decEq j k with c | c
    · rw [uI_k c, if_neg (fun e => c e.2)]
    · subst c; rw [uI_h, if_pos ⟨rfl, rfl⟩]
theorem uJ_e {v : Int64} : (uJ S a k v).2 b j = if b = a ∧ j = k then v else S.2 b j := by
  rcases Nat.decEq b a with c | c
  · rw [uJ_n c, if_neg (fun e => c e.1)]
  · subst c
    rcases Nat.decEq j k with c | c
    · rw [uJ_k c, if_neg (fun e => c e.2)]
    · subst c; rw [uJ_h, if_pos ⟨rfl, rfl⟩]
theorem mv_wI {h : ah_T} {M : Nat} {v : Int32} : mv (ah_wI h (M + a) k v) M = uI (mv h M) a k v := by
  refine Prod.ext (funext fun b => funext fun j => ?_) rfl
  rw [uI_e]
  show (if M + b = M + a ∧ j = k then v else ah_I h (M + b) j) = (if b = a ∧ j = k then v else ah_I h (M + b) j)
  simp only [Nat.add_left_cancel_iff]
theorem mv_zI {h : ah_T} {M : Nat} {v : Int32} : mv (ah_wI h M k v) M = uI (mv h M) 0 k v := mv_wI (a := 0)
theorem mv_wJ {h : ah_T} {M : Nat} {v : Int64} : mv (ah_wJ h (M + a) k v) M = uJ (mv h M) a k v := by
  refine Prod.ext rfl (funext fun b => funext fun j => ?_)
  rw [uJ_e]
  show (if M + b = M + a ∧ j = k then v else ah_J h (M + b) j) = (if b = a ∧ j = k then v else ah_J h (M + b) j)
  simp only [Nat.add_left_cancel_iff]
theorem mv_zJ {h : ah_T} {M : Nat} {v : Int64} : mv (ah_wJ h M k v) M = uJ (mv h M) 0 k v := mv_wJ (a := 0)
end
/-! what is kept between calls: arrays, scalars -/
def mk_a : List Nat := [1, 2, 3, 4, 5, 6, 7, 8, 9, 10, 11, 12, 13, 14, 15, 16, 17, 18, 19, 20, 21, 22, 35, 36, 37, 38, 39, 42, 53, 54, 55, 56, 57, 58, 59, 60, 61, 69]
def mk_z : List Nat := [0, 5, 6, 7, 8, 9, 10, 44, 46, 47, 56, 88, 89, 90, 107]
/-- of what is kept the states are alike -/
def kept (S S' : MS) : Prop := (∀ a, a ∈ mk_a → S.1 a = S'.1 a ∧ S.2 a = S'.2 a) ∧ ∀ k, k ∈ mk_z → S.1 0 k = S'.1 0 k
section
variable {S S' S'' : MS}
theorem kept.rf : kept S S := ⟨fun _ _ => ⟨rfl, rfl⟩, fun _ _ => rfl⟩
theorem kept.tr (x : kept S S') (z : kept S' S'') : kept S S'' := ⟨fun a ha => ⟨(x.1 a ha).1.trans (z.1 a ha).1, (x.1 a ha).2.trans (z.1 a ha).2⟩, fun k hk => (x.2 k hk).trans (z.2 k hk)⟩
theorem kept.sm (x : kept S S') : kept S' S := ⟨fun a ha => ⟨(x.1 a ha).1.symm, (x.1 a ha).2.symm⟩, fun k hk => (x.2 k hk).symm⟩
theorem kept.cI (x : kept S S') {a k : Nat} {v : Int32} : kept (uI S a k v) (uI S' a k v) := ⟨fun b hb => ⟨by
  have e : S.1 b = S'.1 b := (x.1 b hb).1
  show (if b = a then (fun j => if j = k then v else S.1 b j) else S.1 b) = (if b = a then (fun j => if j = k then v else S'.1 b j) else S'.1 b)
  rw [e], (x.1 b hb).2⟩, fun j hj => by
  have e := x.2 j hj
  rw [uI_e, uI_e, e]⟩
theorem kept.cJ (x : kept S S') {a k : Nat} {v : Int64} : kept (uJ S a k v) (uJ S' a k v) := ⟨fun b hb => ⟨(x.1 b hb).1, by
  have e : S.2 b = S'.2 b := (x.1 b hb).2
  show (if b = a then (fun j => if j = k then v else S.2 b j) else S.2 b) = (if b = a then (fun j => if j = k then v else S'.2 b j) else S'.2 b)
  rw [e]⟩, x.2⟩
/-- what isn't kept may be written -/
theorem kept.sI (x : kept S S') {a k : Nat} {v : Int32} (ha : a ∉ mk_a) (hk : a = 0 → k ∉ mk_z) : kept S (uI S' a k v) := ⟨fun b hb => ⟨by
  rw [uI_n (fun (e : b = a) => ha (e ▸ hb))]; exact (x.1 b hb).1, (x.1 b hb).2⟩, fun j hj => by
  rw [uI_e, if_neg (fun (e : 0 = a ∧ j = k) => hk e.1.symm (e.2 ▸ hj))]; exact x.2 j hj⟩
theorem kept.sJ (x : kept S S') {a k : Nat} {v : Int64} (ha : a ∉ mk_a) : kept S (uJ S' a k v) := ⟨fun b hb => ⟨(x.1 b hb).1, by
  rw [uJ_n (fun (e : b = a) => ha (e ▸ hb))]; exact (x.1 b hb).2⟩, x.2⟩
/-- a run that touches nothing that is kept -/
theorem kept.mch {A Z : List Nat} {M : Nat} {h h' : ah_T} (m : mch A Z M h h') (hA : ∀ a, a ∈ mk_a → a ∉ A) (h0 : 0 ∉ A) (hZ : ∀ k, k ∈ mk_z → k ∉ Z) : kept (mv h M) (mv h' M) :=
  ⟨fun a ha => ⟨funext fun k => (m.ar a (hA a ha) (fun e => absurd (e ▸ ha) (by decide)) k).symm, funext fun k => (m.arJ a (hA a ha) (fun e => absurd (e ▸ ha) (by decide)) k).symm⟩, fun k hk => (m.sc k (hZ k hk) h0).symm⟩
end
/-! ===== arrays and scalars that lie alike ===== -/
def ct_A : List (Nat × Nat) := [(5, 19), (6, 20), (7, 21), (8, 22), (1443, 56), (1444, 57), (1445, 58), (1446, 59), (1447, 60), (1453, 69), (1432, 35), (96, 8)]
def ct_Z : List (Nat × Nat × Nat) := [(0, 14, 5), (0, 15, 6), (0, 16, 7), (0, 17, 8), (0, 18, 56), (0, 19, 9), (0, 20, 0), (0, 21, 46), (0, 22, 47), (0, 36, 88), (0, 37, 89), (0, 38, 90), (0, 46, 107), (1431, 1, 44)]
def CIs (h : ah_T) (X : Nat) (S : MS) : Prop := (∀ c m, (c, m) ∈ ct_A → ∀ k, ah_I h (X + c) k = S.1 m k) ∧ ∀ c k m, (c, k, m) ∈ ct_Z → ah_I h (X + c) k = S.1 0 m
section
variable {h h' : ah_T} {X : Nat} {S S' : MS}
theorem CIs.kp (x : CIs h X S) (z : kept S S') : CIs h X S' := by
  have hA0 : ∀ p, p ∈ ct_A → p.2 ∈ mk_a := by decide
  have hZ0 : ∀ p, p ∈ ct_Z → p.2.2 ∈ mk_z := by decide
  have hA : ∀ c m, (c, m) ∈ ct_A → m ∈ mk_a := fun c m hm => hA0 _ hm
  have hZ : ∀ c k m, (c, k, m) ∈ ct_Z → m ∈ mk_z := fun c k m hm => hZ0 _ hm
  exact ⟨fun c m hm k => by rw [x.1 c m hm k, (z.1 m (hA c m hm)).1], fun c k m hm => by rw [x.2 c k m hm, z.2 m (hZ c k m hm)]⟩
/-- the class's ints as they were -/
theorem CIs.sm (x : CIs h X S) (e : ∀ c k, c < 1498 → ah_I h' (X + c) k = ah_I h (X + c) k) : CIs h' X S := by
  have hA0 : ∀ p, p ∈ ct_A → p.1 < 1498 := by decide
  have hZ0 : ∀ p, p ∈ ct_Z → p.1 < 1498 := by decide
  have hA : ∀ c m, (c, m) ∈ ct_A → c < 1498 := fun c m hm => hA0 _ hm
  have hZ : ∀ c k m, (c, k, m) ∈ ct_Z → c < 1498 := fun c k m hm => hZ0 _ hm
  exact ⟨fun c m hm k => by rw [e c k (hA c m hm)]; exact x.1 c m hm k, fun c k m hm => by rw [e c k (hZ c k m hm)]; exact x.2 c k m hm⟩
theorem CIs.sJ (x : CIs h X S) {a k : Nat} {v : Int64} : CIs (ah_wJ h a k v) X S := x.sm (fun _ _ _ => rfl)
theorem CIs.cJ (x : CIs h X S) {a k : Nat} {v : Int64} : CIs h X (uJ S a k v) := x
theorem CIs.sR (x : CIs h X S) {a k v : Nat} : CIs (ah_wR h a k v) X S := x.sm (fun _ _ _ => rfl)
/-- a write elsewhere in the class -/
theorem CIs.sI (x : CIs h X S) {c k : Nat} {v : Int32} (hc : ∀ m, (c, m) ∉ ct_A) (hz : ∀ m, (c, k, m) ∉ ct_Z) : CIs (ah_wI h (X + c) k v) X S := by
  refine ⟨fun c' m hm j => ?_, fun c' j m hm => ?_⟩
  · rw [rd_Ia (fun e => hc m (by have e := Nat.add_left_cancel e; rw [← e]; exact hm))]; exact x.1 c' m hm j
  · rw [rd_II, if_neg (fun e => hz m (by have e1 := Nat.add_left_cancel e.1; rw [← e1, ← e.2]; exact hm))]; exact x.2 c' j m hm
/-- a write outside the fixed part -/
theorem CIs.oI (x : CIs h X S) {a k : Nat} {v : Int32} (ha : a < X ∨ X + 1498 ≤ a) : CIs (ah_wI h a k v) X S :=
  x.sm (fun c j hc => rd_Ia (by omega))
/-- an array that lies alike is written on both sides -/
theorem CIs.pA (x : CIs h X S) {k : Nat} {v : Int32} (c m : Nat) (hm : (c, m) ∈ ct_A) : CIs (ah_wI h (X + c) k v) X (uI S m k v) := by
  have i1 : ∀ p, p ∈ ct_A → ∀ q, q ∈ ct_A → p.1 = q.1 → p.2 = q.2 := by decide
  have i2 : ∀ p, p ∈ ct_A → ∀ q, q ∈ ct_A → p.2 = q.2 → p.1 = q.1 := by decide
  have i3 : ∀ p, p ∈ ct_A → p.1 ≠ 0 ∧ p.1 ≠ 1431 ∧ p.2 ≠ 0 := by decide
  have i4 : ∀ p, p ∈ ct_Z → p.1 = 0 ∨ p.1 = 1431 := by decide
  refine ⟨fun c' m' hm' j => ?_, fun c' j m' hm' => ?_⟩
  · rw [rd_II, uI_e]
    rcases Nat.decEq c' c with e | e
    · rw [if_neg (fun z => e (Nat.add_left_cancel z.1)), if_neg (fun z => e (i2 _ hm' _ hm z.1))]; exact x.1 c' m' hm' j
    · have em := i1 _ hm' _ hm e
      have em : m' = m := em
      subst e; subst em
      simp only [true_and]
      rw [x.1 c' m' hm' j]
  · have q1 := i3 _ hm
    have q2 := i4 _ hm'
    have q1 : c ≠ 0 ∧ c ≠ 1431 ∧ m ≠ 0 := q1
    have q2 : c' = 0 ∨ c' = 1431 := q2
    rw [rd_Ia (by omega), uI_n (fun z => q1.2.2 z.symm)]; exact x.2 c' j m' hm'
/-- a scalar that lies alike is written on both sides -/
theorem CIs.pZ (x : CIs h X S) {v : Int32} (c k m : Nat) (hm : (c, k, m) ∈ ct_Z) : CIs (ah_wI h (X + c) k v) X (uI S 0 m v) := by
  have i1 : ∀ p, p ∈ ct_Z → ∀ q, q ∈ ct_Z → p.1 = q.1 ∧ p.2.1 = q.2.1 → p.2.2 = q.2.2 := by decide
  have i2 : ∀ p, p ∈ ct_Z → ∀ q, q ∈ ct_Z → p.2.2 = q.2.2 → p.1 = q.1 ∧ p.2.1 = q.2.1 := by decide
  have i3 : ∀ p, p ∈ ct_A → p.1 ≠ 0 ∧ p.1 ≠ 1431 ∧ p.2 ≠ 0 := by decide
  have i4 : ∀ p, p ∈ ct_Z → p.1 = 0 ∨ p.1 = 1431 := by decide
  refine ⟨fun c' m' hm' j => ?_, fun c' j m' hm' => ?_⟩
  · have q1 : c' ≠ 0 ∧ c' ≠ 1431 ∧ m' ≠ 0 := i3 _ hm'
    have q2 : c = 0 ∨ c = 1431 := i4 _ hm
    rw [rd_Ia (by omega), uI_n q1.2.2]; exact x.1 c' m' hm' j
  · rw [rd_II, uI_e]
    rcases Nat.decEq m' m with e | e
    · rw [if_neg (fun z => e (i1 _ hm' _ hm ⟨Nat.add_left_cancel z.1, z.2⟩)), if_neg (fun z => e z.2)]; exact x.2 c' j m' hm'
    · obtain ⟨e1, e2⟩ := i2 _ hm' _ hm e
      have e1 : c' = c := e1
      have e2 : j = k := e2
      rw [if_pos ⟨by rw [e1], e2⟩, if_pos ⟨rfl, e⟩]
theorem CIs.pX (x : CIs h X S) {v : Int32} (k m : Nat) (hm : (0, k, m) ∈ ct_Z) : CIs (ah_wI h X k v) X (uI S 0 m v) := x.pZ 0 k m hm
theorem CIs.sX (x : CIs h X S) {k : Nat} {v : Int32} (hz : ∀ m, (0, k, m) ∉ ct_Z) : CIs (ah_wI h X k v) X S := x.sI (c := 0) (fun m => by
  have i3 : ∀ p, p ∈ ct_A → p.1 ≠ 0 := by decide
  exact fun e => i3 _ e rfl) hz
end

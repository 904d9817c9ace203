/-! ===== the class's own objects by the model's rows ===== -/
/-- what the class's objects rest on is as it was: kinds, lengths, references; ints, longs of trays and of all that came later -/
def dyn (P : Nat → Nat → Prop) (e : Nat × Nat) (X : Nat) (h h' : ah_T) : Prop :=
  (∀ a, ah_kd h a ≠ 0 → ah_kd h' a = ah_kd h a ∧ ah_ln h' a = ah_ln h a) ∧ (∀ a k, X ≤ a → ah_kd h a ≠ 0 → (a, k) ≠ e → ah_R h' a k = ah_R h a k) ∧ ∀ a k, X + 1494 ≤ a → (a < X + 1498 ∨ X + 1576 ≤ a) → ah_kd h a ≠ 0 → P (ah_kd h a) k → ah_I h' a k = ah_I h a k ∧ ah_J h' a k = ah_J h a k
/-- all; all but the farms' own; all but the grades of loads; all but the trays' rows -/
def pT : Nat → Nat → Prop := fun _ _ => True
def pF : Nat → Nat → Prop := fun a _ => a ≠ 10 ∧ a ≠ 44
def pG : Nat → Nat → Prop := fun a k => ¬ (a = 12 ∧ k = 6)
def pR : Nat → Nat → Prop := fun a _ => a < 40 ∨ 43 < a
/-- what the class may not touch: the script, the model -/
def cfr (X : Nat) (h h' : ah_T) : Prop := ∀ a k, (a < X ∨ (X + 1498 ≤ a ∧ a < X + 1576)) → ah_I h' a k = ah_I h a k ∧ ah_J h' a k = ah_J h a k
section
variable {P P' : Nat → Nat → Prop} {e : Nat × Nat} {X : Nat} {h h' h'' : ah_T}
theorem dyn.rf : dyn P e X h h := ⟨fun _ _ => ⟨rfl, rfl⟩, fun _ _ _ _ _ => rfl, fun _ _ _ _ _ _ => ⟨rfl, rfl⟩⟩
theorem dyn.mn (x : dyn P e X h h') (q : ∀ a k, P' a k → P a k) : dyn P' e X h h' := ⟨x.1, x.2.1, fun a k h1 h2 ha hp => x.2.2 a k h1 h2 ha (q _ _ hp)⟩
theorem dyn.tr (x : dyn P e X h h') (z : dyn P e X h' h'') : dyn P e X h h'' := by
  refine ⟨fun a ha => ?_, fun a k hX ha he => ?_, fun a k h1 h2 ha hp => ?_⟩
  · obtain ⟨x1, x2⟩ := x.1 a ha
    obtain ⟨z1, z2⟩ := z.1 a (by rw [x1]; exact ha)
    exact ⟨z1.trans x1, z2.trans x2⟩
  · exact (z.2.1 a k hX (by rw [(x.1 a ha).1]; exact ha) he).trans (x.2.1 a k hX ha he)
  · obtain ⟨x1, x2⟩ := x.2.2 a k h1 h2 ha hp
    obtain ⟨z1, z2⟩ := z.2.2 a k h1 h2 (by rw [(x.1 a ha).1]; exact ha) (by rw [(x.1 a ha).1]; exact hp)
    exact ⟨z1.trans x1, z2.trans x2⟩
theorem cfr.rf : cfr X h h := fun _ _ _ => ⟨rfl, rfl⟩
theorem cfr.tr (x : cfr X h h') (z : cfr X h' h'') : cfr X h h'' := fun a k ha => ⟨(z a k ha).1.trans (x a k ha).1, (z a k ha).2.trans (x a k ha).2⟩
theorem dyn.wI (x : dyn P e X h h') {c k : Nat} {v : Int32} (hc : c < 1494) : dyn P e X h (ah_wI h' (X + c) k v) := x.tr ⟨fun _ _ => ⟨rfl, rfl⟩, fun _ _ _ _ _ => rfl, fun a j h1 h2 _ _ => ⟨rd_Ia (by omega), rfl⟩⟩
theorem dyn.wJ (x : dyn P e X h h') {c k : Nat} {v : Int64} (hc : c < 1494) : dyn P e X h (ah_wJ h' (X + c) k v) := x.tr ⟨fun _ _ => ⟨rfl, rfl⟩, fun _ _ _ _ _ => rfl, fun a j h1 h2 _ _ => ⟨rfl, rd_Ja (by omega)⟩⟩
theorem dyn.zI (x : dyn P e X h h') {k : Nat} {v : Int32} : dyn P e X h (ah_wI h' X k v) := x.wI (c := 0) (by decide)
theorem dyn.zJ (x : dyn P e X h h') {k : Nat} {v : Int64} : dyn P e X h (ah_wJ h' X k v) := x.wJ (c := 0) (by decide)
/-- a write into an object that P leaves out -/
theorem dyn.oI (x : dyn P e X h h') {a k : Nat} {v : Int32} (hk : ¬ P (ah_kd h' a) k) : dyn P e X h (ah_wI h' a k v) := x.tr ⟨fun _ _ => ⟨rfl, rfl⟩, fun _ _ _ _ _ => rfl, fun b j h1 h2 _ hp => ⟨by rw [rd_II, if_neg (fun (q : b = a ∧ j = k) => hk (by rw [← q.1, ← q.2]; exact hp))], rfl⟩⟩
theorem dyn.oJ (x : dyn P e X h h') {a k : Nat} {v : Int64} (hk : ¬ P (ah_kd h' a) k) : dyn P e X h (ah_wJ h' a k v) := x.tr ⟨fun _ _ => ⟨rfl, rfl⟩, fun _ _ _ _ _ => rfl, fun b j h1 h2 _ hp => ⟨rfl, by rw [rd_JJ, if_neg (fun (q : b = a ∧ j = k) => hk (by rw [← q.1, ← q.2]; exact hp))]⟩⟩
/-- a reference written at the place that is left out -/
theorem dyn.oR (x : dyn P e X h h') {v : Nat} : dyn P e X h (ah_wR h' e.1 e.2 v) := x.tr ⟨fun _ _ => ⟨rfl, rfl⟩, fun a k _ _ he => by rw [rd_RR, if_neg (fun (q : a = e.1 ∧ k = e.2) => he (by rw [q.1, q.2]))], fun _ _ _ _ _ _ => ⟨rfl, rfl⟩⟩
/-- a new cell -/
theorem dyn.nw (x : dyn P e X h h') {kd ln cost : Nat} (lv : ah_liv h') : dyn P e X h (ah_new h' kd ln cost) := by
  refine x.tr ⟨fun a ha => ?_, fun a k h1 ha _ => ?_, fun a k h1 h2 ha _ => ?_⟩
  all_goals
    have hn : a ≠ h'.1.1 := fun e => by have := lv a ha; unfold ah_sz at this; omega
  · exact ⟨if_neg hn, if_neg hn⟩
  · exact if_neg hn
  · exact ⟨if_neg hn, if_neg hn⟩
theorem cfr.wI (x : cfr X h h') {a k : Nat} {v : Int32} (hc : X ≤ a ∧ (a < X + 1498 ∨ X + 1576 ≤ a)) : cfr X h (ah_wI h' a k v) := x.tr fun b j hb => ⟨rd_Ia (by omega), rfl⟩
theorem cfr.wJ (x : cfr X h h') {a k : Nat} {v : Int64} (hc : X ≤ a ∧ (a < X + 1498 ∨ X + 1576 ≤ a)) : cfr X h (ah_wJ h' a k v) := x.tr fun b j hb => ⟨rfl, rd_Ja (by omega)⟩
theorem cfr.wR (x : cfr X h h') {a k v : Nat} : cfr X h (ah_wR h' a k v) := x.tr fun b j hb => ⟨rfl, rfl⟩
theorem cfr.zI (x : cfr X h h') {k : Nat} {v : Int32} : cfr X h (ah_wI h' X k v) := x.wI (by omega)
theorem cfr.nw (x : cfr X h h') {kd ln cost : Nat} (hs : X + 1576 ≤ ah_sz h') : cfr X h (ah_new h' kd ln cost) := x.tr fun b j hb => by
  have hs : X + 1576 ≤ h'.1.1 := hs
  have : b ≠ h'.1.1 := by omega
  exact ⟨if_neg this, if_neg this⟩
theorem mch.dyn {A Z : List Nat} (x : mch A Z (X + 1498) h h') (hA : ∀ a, a ∈ A → a < 78) : dyn P e X h h' :=
  ⟨fun a _ => ⟨by rw [x.1.2.1], by rw [x.1.2.2.1]⟩, fun a k _ _ _ => by rw [x.1.2.2.2], fun a k h1 h2 _ _ => x.out hA a (by omega) k⟩
/-! farms -/
def CIf (h : ah_T) (X nf : Nat) (di ac de sf st vo le : Nat → Int32) : Prop :=
  nf ≤ 20 ∧ ∀ f, f < 20 → (f < nf → X + 1576 ≤ ah_R h (X + 2) f ∧ ah_kd h (ah_R h (X + 2) f) = 10 ∧ ah_R h (ah_R h (X + 2) f) 7 = ah_R h (X + 2) f + 1 ∧ ah_kd h (ah_R h (X + 2) f + 1) = 44 ∧ ah_ln h (ah_R h (X + 2) f + 1) = 10
    ∧ ah_I h (ah_R h (X + 2) f) 0 = nI f ∧ ah_I h (ah_R h (X + 2) f) 1 = di f ∧ ah_I h (ah_R h (X + 2) f) 2 = ac f ∧ ah_I h (ah_R h (X + 2) f) 3 = de f ∧ ah_I h (ah_R h (X + 2) f) 4 = sf f ∧ ah_I h (ah_R h (X + 2) f) 5 = st f ∧ ah_I h (ah_R h (X + 2) f) 6 = vo f
    ∧ ∀ y, y < 10 → ah_I h (ah_R h (X + 2) f + 1) y = le (10 * f + y)) ∧ (nf ≤ f → ah_R h (X + 2) f = 0)
theorem CIf.dy {nf : Nat} {di ac de sf st vo le : Nat → Int32} (L : LY0 h X) (x : CIf h X nf di ac de sf st vo le) (z : dyn P e X h h') (hP : ∀ k, P 10 k ∧ P 44 k) (he : e.1 < X + 1576 ∧ e.1 ≠ X + 2) : CIf h' X nf di ac de sf st vo le := by
  have k2 : ah_kd h (X + 2) ≠ 0 := by rw [ly0_K_2 L]; decide
  refine ⟨x.1, fun f hf => ?_⟩
  obtain ⟨x1, x2⟩ := x.2 f hf
  rw [z.2.1 (X + 2) f (by omega) k2 (fun q => he.2 (by rw [← q]))]
  refine ⟨fun hn => ?_, x2⟩
  obtain ⟨p1, p2, p3, p4, p5, p6, p7, p8, p9, p10, p11, p12, p13⟩ := x1 hn
  have n1 : ah_kd h (ah_R h (X + 2) f) ≠ 0 := by rw [p2]; decide
  have n2 : ah_kd h (ah_R h (X + 2) f + 1) ≠ 0 := by rw [p4]; decide
  have e1 := fun k => (z.2.2 (ah_R h (X + 2) f) k (by omega) (by omega) n1 (by rw [p2]; exact (hP k).1)).1
  have e2 := fun k => (z.2.2 (ah_R h (X + 2) f + 1) k (by omega) (by omega) n2 (by rw [p4]; exact (hP k).2)).1
  refine ⟨p1, by rw [(z.1 _ n1).1]; exact p2, by rw [z.2.1 _ 7 (by omega) n1 (fun q => by rw [← q] at he; have := he.1; simp only at this; omega)]; exact p3, by rw [(z.1 _ n2).1]; exact p4, by rw [(z.1 _ n2).2]; exact p5, by rw [e1]; exact p6, by rw [e1]; exact p7, by rw [e1]; exact p8, by rw [e1]; exact p9, by rw [e1]; exact p10, by rw [e1]; exact p11, by rw [e1]; exact p12, fun y hy => by rw [e2]; exact p13 y hy⟩
/-! elevators -/
def CIe (h : ah_T) (X ne : Nat) (di : Nat → Int32) : Prop :=
  ne ≤ 8 ∧ ∀ e, e < 8 → (e < ne → X + 1576 ≤ ah_R h (X + 3) e ∧ ah_kd h (ah_R h (X + 3) e) = 11 ∧ ah_I h (ah_R h (X + 3) e) 0 = di e) ∧ (ne ≤ e → ah_R h (X + 3) e = 0)
theorem CIe.dy {ne : Nat} {di : Nat → Int32} (L : LY0 h X) (x : CIe h X ne di) (z : dyn P e X h h') (hP : ∀ k, P 11 k) (he : e.1 < X + 1576 ∧ e.1 ≠ X + 3) : CIe h' X ne di := by
  have k2 : ah_kd h (X + 3) ≠ 0 := by rw [ly0_K_3 L]; decide
  refine ⟨x.1, fun f hf => ?_⟩
  obtain ⟨x1, x2⟩ := x.2 f hf
  rw [z.2.1 (X + 3) f (by omega) k2 (fun q => he.2 (by rw [← q]))]
  refine ⟨fun hn => ?_, x2⟩
  obtain ⟨p1, p2, p3⟩ := x1 hn
  have n1 : ah_kd h (ah_R h (X + 3) f) ≠ 0 := by rw [p2]; decide
  have e1 := fun k => (z.2.2 (ah_R h (X + 3) f) k (by omega) (by omega) n1 (by rw [p2]; exact hP k)).1
  exact ⟨p1, by rw [(z.1 _ n1).1]; exact p2, by rw [e1]; exact p3⟩
/-! events: 0 load, 1 car, 2 sale, 3 spoil -/
def CIw (h : ah_T) (X V : Nat) (so fo at_ to gt ye ex : Int32) : Prop :=
  (so = 0 ∧ ah_kd h V = 12 ∧ ah_R h V 3 = ah_R h (X + 2) fo.toNatClampNeg ∧ ah_I h V 4 = at_ ∧ ah_I h V 5 = ex) ∨
  (so = 1 ∧ ah_kd h V = 14 ∧ ah_I h V 3 = at_ ∧ ah_I h V 4 = gt ∧ ah_I h V 5 = ye ∧ ah_I h V 6 = to) ∨
  (so = 2 ∧ ah_kd h V = 15 ∧ ah_I h V 3 = at_ ∧ ah_I h V 4 = gt ∧ ah_I h V 5 = ye ∧ ah_I h V 6 = ex) ∨
  (so = 3 ∧ ah_kd h V = 13 ∧ ah_I h V 3 = at_ ∧ ah_I h V 4 = gt ∧ ah_I h V 5 = ye)
def CIv (h : ah_T) (X nv : Nat) (so fo at_ to gt ye bu ex we kn : Nat → Int32) : Prop :=
  nv ≤ 120 ∧ (∀ k, k < 120 → (k < nv → X + 1576 ≤ ah_R h (X + 4) k ∧ ah_I h (ah_R h (X + 4) k) 0 = we k ∧ ah_I h (ah_R h (X + 4) k) 1 = kn k ∧ ah_I h (ah_R h (X + 4) k) 2 = bu k ∧ CIw h X (ah_R h (X + 4) k) (so k) (fo k) (at_ k) (to k) (gt k) (ye k) (ex k)) ∧ (nv ≤ k → ah_R h (X + 4) k = 0))
  ∧ ∀ j k, j < k → k < nv → ah_R h (X + 4) j ≠ ah_R h (X + 4) k
theorem CIw.k0 {V : Nat} {so fo at_ to gt ye ex : Int32} (x : CIw h X V so fo at_ to gt ye ex) : ah_kd h V ≠ 0 := by
  rcases x with x | x | x | x <;> rw [x.2.1] <;> decide
theorem CIw.kk {V : Nat} {so fo at_ to gt ye ex : Int32} (x : CIw h X V so fo at_ to gt ye ex) : 12 ≤ ah_kd h V ∧ ah_kd h V ≤ 15 := by
  rcases x with x | x | x | x <;> rw [x.2.1] <;> decide
/-- but the grade of a load, which a play writes -/
theorem CIw.dy {V : Nat} {so fo at_ to gt ye ex : Int32} (L : LY0 h X) (x : CIw h X V so fo at_ to gt ye ex) (zk : ah_kd h' V = ah_kd h V) (zR : ∀ k, ah_R h' V k = ah_R h V k) (z2 : so = 0 → ah_R h' (X + 2) fo.toNatClampNeg = ah_R h (X + 2) fo.toNatClampNeg) (zI : ∀ k, k ≠ 6 ∨ ah_kd h V ≠ 12 → ah_I h' V k = ah_I h V k) : CIw h' X V so fo at_ to gt ye ex := by
  rcases x with ⟨a1, a2, a3, a4, a5⟩ | ⟨a1, a2, a3, a4, a5, a6⟩ | ⟨a1, a2, a3, a4, a5, a6⟩ | ⟨a1, a2, a3, a4, a5⟩
  · exact Or.inl ⟨a1, by rw [zk]; exact a2, by rw [zR, z2 a1]; exact a3, by rw [zI 4 (Or.inl (by decide))]; exact a4, by rw [zI 5 (Or.inl (by decide))]; exact a5⟩
  · exact Or.inr (Or.inl ⟨a1, by rw [zk]; exact a2, by rw [zI 3 (Or.inl (by decide))]; exact a3, by rw [zI 4 (Or.inl (by decide))]; exact a4, by rw [zI 5 (Or.inl (by decide))]; exact a5, by rw [zI 6 (Or.inr (by rw [a2]; decide))]; exact a6⟩)
  · exact Or.inr (Or.inr (Or.inl ⟨a1, by rw [zk]; exact a2, by rw [zI 3 (Or.inl (by decide))]; exact a3, by rw [zI 4 (Or.inl (by decide))]; exact a4, by rw [zI 5 (Or.inl (by decide))]; exact a5, by rw [zI 6 (Or.inr (by rw [a2]; decide))]; exact a6⟩))
  · exact Or.inr (Or.inr (Or.inr ⟨a1, by rw [zk]; exact a2, by rw [zI 3 (Or.inl (by decide))]; exact a3, by rw [zI 4 (Or.inl (by decide))]; exact a4, by rw [zI 5 (Or.inl (by decide))]; exact a5⟩))
theorem CIv.dy {nv : Nat} {so fo at_ to gt ye bu ex we kn : Nat → Int32} (L : LY0 h X) (x : CIv h X nv so fo at_ to gt ye bu ex we kn) (z : dyn P e X h h') (hP : ∀ a k, 12 ≤ a → a ≤ 15 → (k ≠ 6 ∨ a ≠ 12) → P a k) (he : e.1 < X + 1576 ∧ e.1 ≠ X + 4) (hfo : e.1 = X + 2 → ∀ k, k < nv → so k = 0 → (fo k).toNatClampNeg ≠ e.2) : CIv h' X nv so fo at_ to gt ye bu ex we kn := by
  have k2 : ah_kd h (X + 4) ≠ 0 := by rw [ly0_K_4 L]; decide
  have k3 : ah_kd h (X + 2) ≠ 0 := by rw [ly0_K_2 L]; decide
  have eR : ∀ k, ah_R h' (X + 4) k = ah_R h (X + 4) k := fun k => z.2.1 (X + 4) k (by omega) k2 (fun q => he.2 (by rw [← q]))
  refine ⟨x.1, fun f hf => ?_, fun j k hj hk => by rw [eR, eR]; exact x.2.2 j k hj hk⟩
  obtain ⟨x1, x2⟩ := x.2.1 f hf
  rw [eR]
  refine ⟨fun hn => ?_, x2⟩
  obtain ⟨p1, p2, p3, p4, p5⟩ := x1 hn
  have n1 := p5.k0
  have kk := p5.kk
  have e1 := fun k hk => (z.2.2 (ah_R h (X + 4) f) k (by omega) (by omega) n1 (hP _ k kk.1 kk.2 hk)).1
  exact ⟨p1, by rw [e1 0 (Or.inl (by decide))]; exact p2, by rw [e1 1 (Or.inl (by decide))]; exact p3, by rw [e1 2 (Or.inl (by decide))]; exact p4, p5.dy L (z.1 _ n1).1 (fun k => z.2.1 _ k (by omega) n1 (fun q => by rw [← q] at he; have := he.1; simp only at this; omega)) (fun s0 => z.2.1 _ _ (by omega) k3 (fun q => hfo (by rw [← q]) f hn s0 (by rw [← q]))) e1⟩
/-! trays -/
def CIr (h : ah_T) (t r : Nat) (ts : Int32) (n : Nat) (nu : Nat → Int64) : Prop :=
  (ts = 0 ∧ ah_kd h r = 42 ∧ ∀ k, k < n → (ah_I h r k).toInt64 = nu (40 * t + k)) ∨ (ts = 1 ∧ ah_kd h r = 43 ∧ ∀ k, k < n → (ah_I h r k).toInt64 = nu (40 * t + k)) ∨
  (ts = 2 ∧ ah_kd h r = 40 ∧ ∀ k, k < n → (ah_I h r k).toInt64 = nu (40 * t + k)) ∨ (ts = 3 ∧ ah_kd h r = 41 ∧ ∀ k, k < n → ah_J h r k = nu (40 * t + k))
def CIt (h : ah_T) (X : Nat) (ts tm : Nat → Int32) (nu : Nat → Int64) : Prop :=
  (∀ t, t < 4 → (ah_R h (X + (1494 + t)) 0 = 0 ∧ tm t = -1) ∨ (X + 1576 ≤ ah_R h (X + (1494 + t)) 0 ∧ ah_I h (X + (1494 + t)) 1 = ts t ∧ ∃ n, n ≤ 40 ∧ tm t = nI n ∧ ah_ln h (ah_R h (X + (1494 + t)) 0) = n ∧ CIr h t (ah_R h (X + (1494 + t)) 0) (ts t) n nu))
  ∧ ∀ t u, t < 4 → u < 4 → t ≠ u → ah_R h (X + (1494 + t)) 0 ≠ 0 → ah_R h (X + (1494 + t)) 0 ≠ ah_R h (X + (1494 + u)) 0
theorem CIr.k0 {t r n : Nat} {ts : Int32} {nu : Nat → Int64} (x : CIr h t r ts n nu) : ah_kd h r ≠ 0 := by
  rcases x with x | x | x | x <;> rw [x.2.1] <;> decide
theorem CIr.kk {t r n : Nat} {ts : Int32} {nu : Nat → Int64} (x : CIr h t r ts n nu) : 40 ≤ ah_kd h r ∧ ah_kd h r ≤ 43 := by
  rcases x with x | x | x | x <;> rw [x.2.1] <;> decide
theorem CIr.dy {t r n : Nat} {ts : Int32} {nu : Nat → Int64} (x : CIr h t r ts n nu) (zk : ah_kd h' r = ah_kd h r) (zI : ∀ k, ah_I h' r k = ah_I h r k ∧ ah_J h' r k = ah_J h r k) : CIr h' t r ts n nu := by
  rcases x with ⟨a1, a2, a3⟩ | ⟨a1, a2, a3⟩ | ⟨a1, a2, a3⟩ | ⟨a1, a2, a3⟩
  · exact Or.inl ⟨a1, by rw [zk]; exact a2, fun k hk => by rw [(zI k).1]; exact a3 k hk⟩
  · exact Or.inr (Or.inl ⟨a1, by rw [zk]; exact a2, fun k hk => by rw [(zI k).1]; exact a3 k hk⟩)
  · exact Or.inr (Or.inr (Or.inl ⟨a1, by rw [zk]; exact a2, fun k hk => by rw [(zI k).1]; exact a3 k hk⟩))
  · exact Or.inr (Or.inr (Or.inr ⟨a1, by rw [zk]; exact a2, fun k hk => by rw [(zI k).2]; exact a3 k hk⟩))
theorem CIt.dy {ts tm : Nat → Int32} {nu : Nat → Int64} (L : LY0 h X) (x : CIt h X ts tm nu) (z : dyn P e X h h') (hP : ∀ a k, a = 8 ∨ (40 ≤ a ∧ a ≤ 43) → P a k) (he : e.1 < X + 1494) : CIt h' X ts tm nu := by
  have kT : ∀ t, t < 4 → ah_kd h (X + (1494 + t)) ≠ 0 := fun t ht => by rw [ly0_TK L ht]; decide
  have eR : ∀ t, t < 4 → ah_R h' (X + (1494 + t)) 0 = ah_R h (X + (1494 + t)) 0 := fun t ht => z.2.1 _ 0 (by omega) (kT t ht) (fun q => by rw [← q] at he; simp only at he; omega)
  refine ⟨fun t ht => ?_, fun t u ht hu => by rw [eR t ht, eR u hu]; exact x.2 t u ht hu⟩
  rw [eR t ht, (z.2.2 _ 1 (by omega) (by omega) (kT t ht) (by rw [ly0_TK L ht]; exact hP 8 1 (Or.inl rfl))).1]
  rcases x.1 t ht with p | ⟨p1, p2, n, p3, p4, p5, p6⟩
  · exact Or.inl p
  · have n1 := p6.k0
    exact Or.inr ⟨p1, p2, n, p3, p4, by rw [(z.1 _ n1).2]; exact p5, p6.dy (z.1 _ n1).1 (fun k => z.2.2 _ k (by omega) (by omega) n1 (hP _ k (Or.inr p6.kk)))⟩
end

/-! ===== the model's runs: what they leave as it was ===== -/
/-- the head, kinds, lengths, references are as they were; ints and longs too but in the arrays A and the scalars Z of the model at M -/
def mch (A Z : List Nat) (M : Nat) (h h' : ah_T) : Prop :=
  (h'.1 = h.1 ∧ ah_kd h' = ah_kd h ∧ ah_ln h' = ah_ln h ∧ ah_R h' = ah_R h) ∧ ∀ b k, (∀ a, a ∈ A → b ≠ M + a) → (b = M → k ∉ Z) → ah_I h' b k = ah_I h b k ∧ ah_J h' b k = ah_J h b k
section
variable {A Z A' Z' : List Nat} {M : Nat} {h h' h'' : ah_T}
theorem mch.rf : mch A Z M h h := ⟨⟨rfl, rfl, rfl, rfl⟩, fun _ _ _ _ => ⟨rfl, rfl⟩⟩
theorem mch.tr (x : mch A Z M h h') (z : mch A Z M h' h'') : mch A Z M h h'' := by
  obtain ⟨⟨x1, x2, x3, x4⟩, x5⟩ := x
  obtain ⟨⟨z1, z2, z3, z4⟩, z5⟩ := z
  exact ⟨⟨z1.trans x1, z2.trans x2, z3.trans x3, z4.trans x4⟩, fun b k p q => ⟨(z5 b k p q).1.trans (x5 b k p q).1, (z5 b k p q).2.trans (x5 b k p q).2⟩⟩
theorem mch.mono (x : mch A Z M h h') (hA : ∀ a, a ∈ A → a ∈ A') (hZ : ∀ a, a ∈ Z → a ∈ Z') : mch A' Z' M h h' :=
  ⟨x.1, fun b k p q => x.2 b k (fun a ha => p a (hA a ha)) (fun e hk => q e (hZ k hk))⟩
theorem mch.wI (x : mch A Z M h h') {a k : Nat} {v : Int32} (ha : a ∈ A) : mch A Z M h (ah_wI h' (M + a) k v) :=
  ⟨x.1, fun b j p q => ⟨by
    show (if b = M + a ∧ j = k then v else ah_I h' b j) = _
    rw [if_neg (fun (e : b = M + a ∧ j = k) => p a ha e.1)]; exact (x.2 b j p q).1, (x.2 b j p q).2⟩⟩
theorem mch.wJ (x : mch A Z M h h') {a k : Nat} {v : Int64} (ha : a ∈ A) : mch A Z M h (ah_wJ h' (M + a) k v) :=
  ⟨x.1, fun b j p q => ⟨(x.2 b j p q).1, by
    show (if b = M + a ∧ j = k then v else ah_J h' b j) = _
    rw [if_neg (fun (e : b = M + a ∧ j = k) => p a ha e.1)]; exact (x.2 b j p q).2⟩⟩
theorem mch.zI (x : mch A Z M h h') {k : Nat} {v : Int32} (ha : k ∈ Z) : mch A Z M h (ah_wI h' M k v) :=
  ⟨x.1, fun b j p q => ⟨by
    show (if b = M ∧ j = k then v else ah_I h' b j) = _
    rw [if_neg (fun (e : b = M ∧ j = k) => q e.1 (e.2 ▸ ha))]; exact (x.2 b j p q).1, (x.2 b j p q).2⟩⟩
theorem mch.zJ (x : mch A Z M h h') {k : Nat} {v : Int64} (ha : k ∈ Z) : mch A Z M h (ah_wJ h' M k v) :=
  ⟨x.1, fun b j p q => ⟨(x.2 b j p q).1, by
    show (if b = M ∧ j = k then v else ah_J h' b j) = _
    rw [if_neg (fun (e : b = M ∧ j = k) => q e.1 (e.2 ▸ ha))]; exact (x.2 b j p q).2⟩⟩
theorem mch.ext (x : mch A Z M h h') : ah_ext h h' := by
  obtain ⟨⟨x1, x2, x3, x4⟩, -⟩ := x
  refine ⟨Nat.le_of_eq (by show h.1.1 = h'.1.1; rw [x1]), fun a _ => ⟨by rw [x2], by rw [x3], fun k _ _ => by rw [x4]⟩⟩
/-- an array that isn't touched -/
theorem mch.ar (x : mch A Z M h h') (a : Nat) (ha : a ∉ A) (h0 : a ≠ 0) (k : Nat) : ah_I h' (M + a) k = ah_I h (M + a) k :=
  (x.2 (M + a) k (fun b hb e => ha ((Nat.add_left_cancel e) ▸ hb)) (fun e => absurd e (by omega))).1
theorem mch.arJ (x : mch A Z M h h') (a : Nat) (ha : a ∉ A) (h0 : a ≠ 0) (k : Nat) : ah_J h' (M + a) k = ah_J h (M + a) k :=
  (x.2 (M + a) k (fun b hb e => ha ((Nat.add_left_cancel e) ▸ hb)) (fun e => absurd e (by omega))).2
/-- a scalar that isn't touched -/
theorem mch.sc (x : mch A Z M h h') (k : Nat) (hk : k ∉ Z) (h0 : 0 ∉ A) : ah_I h' M k = ah_I h M k :=
  (x.2 M k (fun b hb e => h0 (by have : b = 0 := by omega
                                 exact this ▸ hb)) (fun _ => hk)).1
theorem mch.scJ (x : mch A Z M h h') (k : Nat) (hk : k ∉ Z) (h0 : 0 ∉ A) : ah_J h' M k = ah_J h M k :=
  (x.2 M k (fun b hb e => h0 (by have : b = 0 := by omega
                                 exact this ▸ hb)) (fun _ => hk)).2
/-- outside the model -/
theorem mch.out (x : mch A Z M h h') (hA : ∀ a, a ∈ A → a < 78) (b : Nat) (hb : b < M ∨ M + 78 ≤ b) (k : Nat) : ah_I h' b k = ah_I h b k ∧ ah_J h' b k = ah_J h b k :=
  x.2 b k (fun a ha e => by have := hA a ha; omega) (fun e => by omega)
theorem mch.ly (x : mch A Z M h h') (L : LY8 h M) : LY8 h' M := L.ext x.ext
end
/-! reads through writes -/
section
variable {h : ah_T} {a k b j : Nat}
theorem rd_II {v : Int32} : ah_I (ah_wI h a k v) b j = if b = a ∧ j = k then v else ah_I h b j := rfl
theorem rd_JJ {v : Int64} : ah_J (ah_wJ h a k v) b j = if b = a ∧ j = k then v else ah_J h b j := rfl
theorem rd_RR {v : Nat} : ah_R (ah_wR h a k v) b j = if b = a ∧ j = k then v else ah_R h b j := rfl
theorem rd_IJ {v : Int64} : ah_I (ah_wJ h a k v) b j = ah_I h b j := rfl
theorem rd_IR {v : Nat} : ah_I (ah_wR h a k v) b j = ah_I h b j := rfl
theorem rd_JI {v : Int32} : ah_J (ah_wI h a k v) b j = ah_J h b j := rfl
theorem rd_JR {v : Nat} : ah_J (ah_wR h a k v) b j = ah_J h b j := rfl
theorem rd_RI {v : Int32} : ah_R (ah_wI h a k v) b j = ah_R h b j := rfl
theorem rd_RJ {v : Int64} : ah_R (ah_wJ h a k v) b j = ah_R h b j := rfl
theorem rd_kI {v : Int32} : ah_kd (ah_wI h a k v) b = ah_kd h b := rfl
theorem rd_kJ {v : Int64} : ah_kd (ah_wJ h a k v) b = ah_kd h b := rfl
theorem rd_kR {v : Nat} : ah_kd (ah_wR h a k v) b = ah_kd h b := rfl
theorem rd_lI {v : Int32} : ah_ln (ah_wI h a k v) b = ah_ln h b := rfl
theorem rd_lJ {v : Int64} : ah_ln (ah_wJ h a k v) b = ah_ln h b := rfl
theorem rd_lR {v : Nat} : ah_ln (ah_wR h a k v) b = ah_ln h b := rfl
/-- by place alone -/
theorem rd_Ik {v : Int32} (n : j ≠ k) : ah_I (ah_wI h a k v) b j = ah_I h b j := by rw [rd_II, if_neg (fun e => n e.2)]
theorem rd_Ia {v : Int32} (n : b ≠ a) : ah_I (ah_wI h a k v) b j = ah_I h b j := by rw [rd_II, if_neg (fun e => n e.1)]
theorem rd_Ih {v : Int32} : ah_I (ah_wI h a k v) a k = v := by rw [rd_II, if_pos ⟨rfl, rfl⟩]
theorem rd_Jk {v : Int64} (n : j ≠ k) : ah_J (ah_wJ h a k v) b j = ah_J h b j := by rw [rd_JJ, if_neg (fun e => n e.2)]
theorem rd_Ja {v : Int64} (n : b ≠ a) : ah_J (ah_wJ h a k v) b j = ah_J h b j := by rw [rd_JJ, if_neg (fun e => n e.1)]
theorem rd_Jh {v : Int64} : ah_J (ah_wJ h a k v) a k = v := by rw [rd_JJ, if_pos ⟨rfl, rfl⟩]
end
/-! ===== loops ===== -/
section
variable {G : ma_G} {y : ma_M} {d pc : Nat} {st : List ma_V} {Q : Option ma_V → ah_T → Prop} {E : Nat → ah_T → Prop}
/-- a loop: al says the locals by a state x; μ falls -/
theorem mx_ind {α : Type} (al : α → List (Option ma_V)) (I : α → ah_T → Prop) (μ : α → Nat) (step : ∀ x h, I x h → (∀ x' h', μ x' < μ x → I x' h' → MX G y d pc (al x') st h' Q E) → MX G y d pc (al x) st h Q E) (x : α) (h : ah_T) (hI : I x h) : MX G y d pc (al x) st h Q E := by
  have H : ∀ n x h, μ x < n → I x h → MX G y d pc (al x) st h Q E := by
    intro n
    induction n with
    | zero => intro x h hn; exact absurd hn (Nat.not_lt_zero _)
    | succ n ih => intro x h hn hx; exact step x h hx (fun x' h' hm hx' => ih x' h' (by omega) hx')
  exact H (μ x + 1) x h (by omega) hI
/-- a loop that counts k up to n -/
theorem mx_up {α : Type} (al : Nat → α → List (Option ma_V)) (n : Nat) (I : Nat → α → ah_T → Prop) (step : ∀ k x h, k < n → I k x h → (∀ x' h', I (k + 1) x' h' → MX G y d pc (al (k + 1) x') st h' Q E) → MX G y d pc (al k x) st h Q E) (last : ∀ x h, I n x h → MX G y d pc (al n x) st h Q E) (k : Nat) (x : α) (h : ah_T) (hk : k ≤ n) (hI : I k x h) : MX G y d pc (al k x) st h Q E := by
  refine mx_ind (α := Nat × α) (fun z => al z.1 z.2) (fun z h => z.1 ≤ n ∧ I z.1 z.2 h) (fun z => n - z.1) (fun z h hz K => ?_) (k, x) h ⟨hk, hI⟩
  rcases Nat.lt_or_ge z.1 n with c | c
  · exact step z.1 z.2 h c hz.2 (fun x' h' hx' => K (z.1 + 1, x') h' (by show n - (z.1 + 1) < n - z.1; omega) ⟨c, hx'⟩)
  · have e : z.1 = n := Nat.le_antisymm hz.1 c
    rw [e]
    exact last z.2 h (e ▸ hz.2)
end
/-! ===== comparisons ===== -/
theorem i3_lt {a b : Int32} : a < b ↔ a.toInt < b.toInt := Int32.lt_iff_toInt_lt
theorem i3_le {a b : Int32} : a ≤ b ↔ a.toInt ≤ b.toInt := Int32.le_iff_toInt_le
theorem i6_lt {a b : Int64} : a < b ↔ a.toInt < b.toInt := Int64.lt_iff_toInt_lt
theorem i6_le {a b : Int64} : a ≤ b ↔ a.toInt ≤ b.toInt := Int64.le_iff_toInt_le
theorem i3_eq {a b : Int32} : a = b ↔ a.toInt = b.toInt := Int32.toInt_inj.symm
theorem i6_eq {a b : Int64} : a = b ↔ a.toInt = b.toInt := Int64.toInt_inj.symm
theorem i3_l {a : Int32} : a.toInt64.toInt = a.toInt := Int32.toInt_toInt64 a
theorem i3_b (a : Int32) : -2147483648 ≤ a.toInt ∧ a.toInt < 2147483648 := ⟨Int32.le_toInt a, Int32.toInt_lt a⟩
theorem i6_b (a : Int64) : -9223372036854775808 ≤ a.toInt ∧ a.toInt < 9223372036854775808 := ⟨Int64.le_toInt a, Int64.toInt_lt a⟩
/-- an int that is one of 0 .. n -/
theorem i3_n {x : Int32} {n : Nat} (h0 : 0 ≤ x.toInt) (h1 : x.toInt ≤ n) : ∃ j : Nat, j ≤ n ∧ x = nI j := by
  refine ⟨x.toInt.toNat, by omega, ?_⟩
  have hb := i3_b x
  rw [i3_eq, nI_toInt (by omega)]
  omega
theorem nI_x {n : Nat} (h : n < 2147483648) : (nI n).toInt = n := nI_toInt (by omega)
theorem vp_x {x : Int32} {n : Nat} (h0 : 0 ≤ x.toInt) (h1 : x.toInt < n) : vp_in x n := vp_in_iff.mpr ⟨h0, h1⟩

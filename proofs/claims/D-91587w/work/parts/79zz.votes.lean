/-! ===== votes ===== -/
def vvt (S : MS) (x : Int32) (f : Nat) : Nat → Int64 := fun j => if j = 7 then (S.1 4 f).toInt64 else if j = 6 then (S.1 6 f).toInt64 else if j = 5 then (S.1 5 f).toInt64 else if j = 3 then (x / (52 : Int32)).toInt64 else if j = 2 then x.toInt64 else 0
def vtS (S : MS) (tx : Nat → List Nat × List PD) (x : Int32) (f : Nat) : Nat := (askS S tx (vvt S x f) x 23580851 1 0 1000).toInt.toNat
theorem wrd_votes : wrd 23580851 := ⟨fun j => [118, 111, 116, 101, 115].getD j 0, 0, 5, by decide, by decide, by decide, by decide⟩
theorem cst_votes : lN (n256 8 23580851) = (508676040051 : Int64) := by decide
def idv (S : MS) : Nat → Bool := fun f => decide (S.1 55 f = -1)
/-- of a district, those whose vote is c; those idle ones of a set -/
def fa0 (S : MS) (vt : Nat → Nat) (c : Int32) (d n : Nat) : Nat := sN (fun f => if S.1 4 f = nI d ∧ S.1 55 f = c then vt f else 0) n
def faI (S : MS) (vt : Nat → Nat) (s d n : Nat) : Nat := sN (fun f => if S.1 4 f = nI d ∧ S.1 55 f = -1 ∧ s / 2 ^ f % 2 = 1 then vt f else 0) n
/-- with a set that votes w -/
def faS (S : MS) (vt : Nat → Nat) (s : Nat) (w c : Int32) (d n : Nat) : Nat := fa0 S vt c d n + (if w = c then faI S vt s d n else 0)
/-- by how many districts the whole is for -/
def whI (F A : Nat → Nat) : Nat → Int
  | 0 => 0
  | d + 1 => whI F A d + (if A d < F d then 1 else if F d < A d then -1 else 0)
section
variable {G : ma_G} {d X M n s : Nat} {h g g2 : ah_T} {S : MS} {tx : Nat → List Nat × List PD} {x : Int32} {vt : Nat → Nat} {w : Int32} {Q : Option ma_V → ah_T → Prop} {E : Nat → ah_T → Prop} {F A : Nat → Nat}
theorem vtS_v {f : Nat} : askS S tx (vvt S x f) x 23580851 1 0 1000 = lN (vtS S tx x f) ∧ vtS S tx x f ≤ 1000 := by
  have q := jCut_b (v := tolS S tx (vvt S x f) x 23580851 1) (lo := 0) (hi := 1000) (by decide)
  have e : askS S tx (vvt S x f) x 23580851 1 0 1000 = jCut (tolS S tx (vvt S x f) x 23580851 1) 0 1000 := ask_cut (by decide) (by decide)
  rw [← e] at q
  have q1 : (0 : Int) ≤ (askS S tx (vvt S x f) x 23580851 1 0 1000).toInt := q.1
  have q2 : (askS S tx (vvt S x f) x 23580851 1 0 1000).toInt ≤ 1000 := q.2
  unfold vtS
  refine ⟨?_, by omega⟩
  rw [i6_eq, lN_p (by omega)]
  omega
theorem whI_b : ∀ n : Nat, -(n : Int) ≤ whI F A n ∧ whI F A n ≤ n
  | 0 => ⟨by show (-(0 : Int)) ≤ 0; omega, by show (0 : Int) ≤ 0; omega⟩
  | n + 1 => by
    have := whI_b n
    show -((n + 1 : Nat) : Int) ≤ whI F A n + (if A n < F n then 1 else if F n < A n then -1 else 0) ∧ whI F A n + (if A n < F n then 1 else if F n < A n then -1 else 0) ≤ ((n + 1 : Nat) : Int)
    split
    · omega
    · split <;> omega
theorem whI_cg {F' A' : Nat → Nat} : ∀ n, (∀ d, d < n → F d = F' d ∧ A d = A' d) → whI F A n = whI F' A' n
  | 0, _ => rfl
  | n + 1, h => by
    show whI F A n + (if A n < F n then 1 else if F n < A n then -1 else 0) = whI F' A' n + (if A' n < F' n then 1 else if F' n < A' n then -1 else 0)
    rw [whI_cg n (fun d hd => h d (by omega)), (h n (by omega)).1, (h n (by omega)).2]
theorem fa0_b {c : Int32} {d : Nat} (hv : ∀ f, vt f ≤ 1000) : fa0 S vt c d n ≤ n * 1000 := sN_c (fun f _ => by
  show (if _ then vt f else 0) ≤ 1000
  split
  · exact hv f
  · omega)
theorem faI_b {d : Nat} (hv : ∀ f, vt f ≤ 1000) : faI S vt s d n ≤ n * 1000 := sN_c (fun f _ => by
  show (if _ then vt f else 0) ≤ 1000
  split
  · exact hv f
  · omega)
theorem faS_b {c : Int32} {d : Nat} (hv : ∀ f, vt f ≤ 1000) : faS S vt s w c d n ≤ n * 2000 := by
  have a := fa0_b (S := S) (n := n) (c := c) (d := d) hv
  have b := faI_b (S := S) (s := s) (n := n) (d := d) hv
  unfold faS
  generalize fa0 S vt c d n = u at a ⊢
  generalize faI S vt s d n = z at b ⊢
  by_cases q : w = c
  · rw [if_pos q]; omega
  · rw [if_neg q]; exact Nat.le_trans a (Nat.mul_le_mul_left _ (by decide))
theorem faI_0 {d : Nat} : faI S vt 0 d n = 0 := sN_0 (fun f _ => by
  show (if _ ∧ _ ∧ 0 / 2 ^ f % 2 = 1 then vt f else 0) = 0
  rw [if_neg]
  rintro ⟨-, -, q⟩
  rw [Nat.zero_div] at q
  exact absurd q (by decide))
theorem faS_0 {c : Int32} {d : Nat} : faS S vt 0 w c d n = fa0 S vt c d n := by
  unfold faS
  rw [faI_0]
  split <;> rfl
/-- how a farm votes -/
def hwS (S : MS) (s : Nat) (w : Int32) (f : Nat) : Int32 := if S.1 55 f = -1 ∧ s / 2 ^ f % 2 = 1 then w else S.1 55 f
theorem faS_1 {c : Int32} {d f : Nat} (hc : c = 0 ∨ c = 1) (hw : w = 0 ∨ w = 1) : faS S vt s w c d (f + 1) = faS S vt s w c d f + (if S.1 4 f = nI d ∧ hwS S s w f = c then vt f else 0) := by
  have c1 : c ≠ -1 := by rcases hc with e | e <;> rw [e] <;> decide
  have cl : (if S.1 4 f = nI d ∧ hwS S s w f = c then vt f else 0) = (if S.1 4 f = nI d ∧ S.1 55 f = c then vt f else 0) + (if w = c then (if S.1 4 f = nI d ∧ S.1 55 f = -1 ∧ s / 2 ^ f % 2 = 1 then vt f else 0) else 0) := by
    by_cases a : S.1 4 f = nI d
    · by_cases be : S.1 55 f = -1 ∧ s / 2 ^ f % 2 = 1
      · have h1 : hwS S s w f = w := if_pos be
        rw [h1, if_neg (c := S.1 4 f = nI d ∧ S.1 55 f = c) (fun q => c1 (q.2.symm.trans be.1)), if_pos (c := S.1 4 f = nI d ∧ S.1 55 f = -1 ∧ s / 2 ^ f % 2 = 1) ⟨a, be⟩]
        by_cases k : w = c
        · rw [if_pos ⟨a, k⟩, if_pos k, Nat.zero_add]
        · rw [if_neg (fun q => k q.2), if_neg k]
      · have h1 : hwS S s w f = S.1 55 f := if_neg be
        rw [h1, if_neg (c := S.1 4 f = nI d ∧ S.1 55 f = -1 ∧ s / 2 ^ f % 2 = 1) (fun q => be q.2)]
        by_cases k : w = c
        · rw [if_pos k]; rfl
        · rw [if_neg k]; rfl
    · rw [if_neg (c := S.1 4 f = nI d ∧ hwS S s w f = c) (fun q => a q.1), if_neg (c := S.1 4 f = nI d ∧ S.1 55 f = c) (fun q => a q.1), if_neg (c := S.1 4 f = nI d ∧ S.1 55 f = -1 ∧ s / 2 ^ f % 2 = 1) (fun q => a q.1)]
      by_cases k : w = c
      · rw [if_pos k]
      · rw [if_neg k]
  rw [cl]
  show (fa0 S vt c d f + (if S.1 4 f = nI d ∧ S.1 55 f = c then vt f else 0)) + (if w = c then faI S vt s d f + (if S.1 4 f = nI d ∧ S.1 55 f = -1 ∧ s / 2 ^ f % 2 = 1 then vt f else 0) else 0) = fa0 S vt c d f + (if w = c then faI S vt s d f else 0) + _
  generalize (if S.1 4 f = nI d ∧ S.1 55 f = c then vt f else 0) = i1
  generalize (if S.1 4 f = nI d ∧ S.1 55 f = -1 ∧ s / 2 ^ f % 2 = 1 then vt f else 0) = i2
  generalize fa0 S vt c d f = u
  generalize faI S vt s d f = z
  by_cases k : w = c
  · rw [if_pos k, if_pos k, if_pos k]; omega
  · rw [if_neg k, if_neg k, if_neg k]; omega
def dI (a b : Nat) : Int32 := nI a - nI b
theorem dI_i {a b : Nat} (ha : a < 1073741824) (hb : b < 1073741824) : (dI a b).toInt = (a : Int) - b := pk_sub_toInt ha hb
theorem dI_p {a b c : Nat} : dI a b + nI c = dI (a + c) b := by
  unfold dI
  rw [← nI_add]
  simp only [Int32.sub_eq_add_neg]
  ac_rfl
theorem dI_m {a b c : Nat} : dI a b + -nI c = dI a (b + c) := by
  unfold dI
  rw [← nI_add]
  simp only [Int32.sub_eq_add_neg, Int32.neg_add]
  ac_rfl
/-! the class -/
theorem c_weigh (L : LY0 h X) (C : CI0 h X S) (T : CIk G h X S tx) (K : ∀ g, qfr X h g → (∀ f, f < nF S → ah_I g (X + 1449) f = nI (vtS S tx x f)) → Q none g) : MX G mi_X0_weigh (d + 51) 0 [some (rv X), some (iv x), none, none] [] h Q E := by
  have f20 := C.iF.2
  refine v_X0_weigh (d := d + 50) L ?_
  refine c_force L C T (fun v g6 e6 r6 _ => ?_)
  intro _ h3 e3 _
  rw [← e6] at e3
  subst e3
  have z3 : qfr X h h3 := by rw [e6]; exact qfr.rf.wR
  refine mx_up (α := Unit) (fun f _ => [some (rv X), some (iv x), some (iv (nI f)), none]) (nF S) (fun f _ g => qfr X h g ∧ frc S x g X ∧ ∀ j, j < f → ah_I g (X + 1449) j = nI (vtS S tx x j)) (fun f _ g hf hI KK => ?_) (fun _ g hI => ?_) 0 () h3 (Nat.zero_le _) ⟨z3, r6, fun j hj => by omega⟩
  · obtain ⟨z, r, i1⟩ := hI
    have Lg := z.ly L
    have Cg := C.qf L z
    refine v_X0_weigh_11 (d := d + 50) Lg ⟨fun c => ?_, fun _ => ?_⟩
    · exfalso; rw [Cg.iF.1, i3_le, nI_x (by omega), nI_x (by omega)] at c; omega
    refine c_clear Lg (fun g1 z1 rg zz => ?_)
    intro _
    have q1 := z.tr z1.qf
    have Lg1 := q1.ly L
    have Cg1 := C.qf L q1
    have A : ∀ k, k < 11 → aok g1 41 (X + 1434) (nI k) := fun k hk => ly0_A_1434 Lg1 (vp_in_nI hk (by decide))
    obtain ⟨f1, f2, f3, f4, f5, f6, f7, f8, f9, f10⟩ := (Cg1.2.1.2 f (by omega)).1 hf
    rw [nI_clamp (n := f) (by omega), f8, f9, f7]
    refine ⟨A 2 (by decide), fun h5 e5 _ => ⟨A 3 (by decide), fun h7 e7 _ => ⟨vp_in_nI (by omega) (by decide), f2, A 5 (by decide), fun h11 e11 _ => ⟨A 6 (by decide), fun h13 e13 _ => ⟨A 7 (by decide), fun h15 e15 _ => ?_⟩⟩⟩⟩⟩
    have z15 : efr X g h15 := by rw [e15, e13, e11, e7, e5]; exact z1.wJ.wJ.wJ.wJ.wJ
    have q15 := z.tr z15.qf
    have r15 : frc S x h15 X := by
      refine frc.r (g := g) r (fun a j => ?_)
      rw [e15, e13, e11, e7, e5]
      show ah_R g1 a j = _
      by_cases q : a = X ∧ j = 23
      · rw [q.1, q.2]; exact rg
      · exact z1.2.1 a j q
    rw [← cst_votes]
    refine c_ask4 (d := d) (x := x) (vs := vvt S x f) (q15.ly L) (C.qf L q15) (T.qf L q15) wrd_votes r15 (fun j hj => ?_) (by decide) (by decide) (fun g2 z2 => ?_)
    · rw [e15, e13, e11, e7, e5]
      simp only [rd_JJ, true_and, eq_self]
      rw [zz j hj]
      rfl
    · intro _ h25 e25 _
      rw [vtS_v.1, lN_i] at e25
      rw [nI_1]
      have q2 := q15.tr z2.ef.qf
      refine KK () h25 ⟨by rw [e25]; exact q2.wI (by decide) (ctA_c (by decide)) (ctZ_o (by decide) _), (r15.r (fun a j => by rw [z2.1.2.2.2])).r (fun a j => by rw [e25]; rfl), fun j hj => ?_⟩
      rw [e25, rd_II]
      by_cases c : j = f
      · rw [if_pos ⟨rfl, c⟩, c]
      · rw [if_neg (fun w => c w.2), (z15.tr z2.ef).2.2.1 _ _ (by omega)]; exact i1 j (by omega)
  · obtain ⟨z, r, i1⟩ := hI
    refine v_X0_weigh_11 (d := d + 50) (z.ly L) ⟨fun _ => K g z i1, fun c => absurd ?_ c⟩
    rw [(C.qf L z).iF.1, i3_le]; exact Int.le_refl _
theorem ifr.qv (z : ifr [X + 1450] h g) : qfr X h g := by
  have i1 : ∀ p, p ∈ ct_A → p.1 ≠ 1450 := by decide
  have i2 : ∀ p, p ∈ ct_Z → p.1 ≠ 1450 := by decide
  have o : ∀ a k, a ≠ X + 1450 → ah_I g a k = ah_I h a k := fun a k q => z.2.2 a k (by simp only [List.mem_cons, List.not_mem_nil, or_false]; exact q)
  exact ⟨⟨z.1.1, z.1.2.1, z.1.2.2.1⟩, fun a k _ => by rw [z.1.2.2.2], fun a k q _ => o a k (by omega), fun a k _ => by rw [z.2.1], fun c m q k => o _ k (by have := i1 _ q; simp only at this; omega), fun c k m q => o _ k (by have := i2 _ q; simp only at this; omega)⟩
theorem c_wholeFor (L : LY0 h X) (C : CI0 h X S) (hv : ∀ f, vt f ≤ 1000) (wt : ∀ f, f < nF S → ah_I h (X + 1449) f = nI (vt f)) (hs : s < 1048576) (hw : w = 0 ∨ w = 1) (K : ∀ g r, ifr [X + 1450] h g → (∀ d, d < 6 → ah_I g (X + 1450) d = dI (faS S vt s w 1 d (nF S)) (faS S vt s w 0 d (nF S))) → r.toInt = whI (fun d => faS S vt s w 1 d (nF S)) (fun d => faS S vt s w 0 d (nF S)) 6 → Q (some (iv r)) g) : MX G mi_X0_wholeFor d 0 [some (rv X), some (iv (nI s)), some (iv w), none, none] [] h Q E := by
  have f20 := C.iF.2
  have W := C.2.2.2.2.2
  refine v_X0_wholeFor L ?_
  refine mx_up (α := Unit) (fun k _ => [some (rv X), some (iv (nI s)), some (iv w), some (iv (nI k)), none]) 6 (fun k _ g => ifr [X + 1450] h g ∧ ∀ j, j < k → ah_I g (X + 1450) j = 0) (fun k _ g hk hI KK => ?_) (fun _ g hI => ?_) 0 () h (Nat.zero_le _) ⟨ifr.rf, fun j hj => by omega⟩
  · obtain ⟨z, i1⟩ := hI
    refine v_X0_wholeFor_2 (z.qv.ly L) ⟨fun c => ?_, fun _ => ⟨vp_in_nI hk (by decide), fun h3 e3 _ => ?_⟩⟩
    · exfalso; rw [i3_le, nI_x (by omega)] at c; have : (6 : Int) ≤ (k : Int) := c; omega
    · rw [nI_clamp (by omega)] at e3
      rw [nI_1]
      refine KK () h3 ⟨by rw [e3]; exact z.wI (by simp), fun j hj => ?_⟩
      rw [e3, rd_II]
      by_cases c : j = k
      · rw [if_pos ⟨rfl, c⟩]
      · rw [if_neg (fun q => c q.2)]; exact i1 j (by omega)
  obtain ⟨z0, i0⟩ := hI
  refine v_X0_wholeFor_2 (z0.qv.ly L) ⟨fun _ => ?_, fun c => absurd (by decide) c⟩
  refine mx_up (α := Unit) (fun f _ => [some (rv X), some (iv (nI s)), some (iv w), some (iv (nI f)), none]) (nF S) (fun f _ g => ifr [X + 1450] h g ∧ ∀ j, j < 6 → ah_I g (X + 1450) j = dI (faS S vt s w 1 j f) (faS S vt s w 0 j f)) (fun f _ g hf hI KK => ?_) (fun _ g hI => ?_) 0 () g (Nat.zero_le _) ⟨z0, fun j hj => by
    rw [i0 j hj]
    have e1 : faS S vt s w 1 j 0 = 0 := by show 0 + (if w = 1 then 0 else 0) = 0; split <;> rfl
    have e2 : faS S vt s w 0 j 0 = 0 := by show 0 + (if w = 0 then 0 else 0) = 0; split <;> rfl
    rw [e1, e2]; decide⟩
  · obtain ⟨z, i1⟩ := hI
    have Lg := z.qv.ly L
    have Cg := C.qf L z.qv
    obtain ⟨f1, f2, f3, f4, f5, f6, f7, f8, f9, f10, f11, f12, f13⟩ := (Cg.2.1.2 f (by omega)).1 hf
    have wf := W.2.1 f hf
    obtain ⟨d1, d2⟩ := wf.1.u (a := 5)
    have go : ∀ z0, z0 = hwS S s w f → MX G mi_X0_wholeFor d 66 [some (rv X), some (iv (nI s)), some (iv w), some (iv (nI f)), none] [iv z0] g Q E := fun z0 hz => by
      refine v_X0_wholeFor_66 Lg ?_
      have wg : ah_I g (X + 1449) f = nI (vt f) := by rw [z.2.2 _ _ (by simp)]; exact wt f hf
      rw [nI_clamp (n := f) (by omega), f7, wg, i1 _ (by omega : (S.1 4 f).toNatClampNeg < 6), nI_1, Int32.add_zero, dI_p, dI_m]
      generalize hd0 : (S.1 4 f).toNatClampNeg = d0 at d1 d2
      have stp : ∀ (h8 : ah_T) (a b : Nat), h8 = ah_wI g (X + 1450) d0 (dI a b) → a = faS S vt s w 1 d0 (f + 1) → b = faS S vt s w 0 d0 (f + 1) → MX G mi_X0_wholeFor d 23 [some (rv X), some (iv (nI s)), some (iv w), some (iv (nI (f + 1))), none] [] h8 Q E := fun h8 a b e8 ea eb => by
        refine KK () h8 ⟨by rw [e8]; exact z.wI (by simp), fun j hj => ?_⟩
        rw [e8, rd_II]
        by_cases c : j = d0
        · rw [if_pos ⟨rfl, c⟩, c, ea, eb]
        · have nj : ¬ S.1 4 f = nI j := fun q => c (by rw [d1, nI_eq (by omega) (by omega)] at q; exact q.symm)
          rw [if_neg (fun q => c q.2), i1 j hj, faS_1 (Or.inr rfl) hw, faS_1 (Or.inl rfl) hw, if_neg (fun q => nj q.1), if_neg (fun q => nj q.1)]; rfl
      refine ⟨vp_in_nI (by omega) (by decide), f2, by rw [d1]; exact vp_in_nI (by omega) (by decide), fun c1 => ⟨fun c0 h6 e6 _ => ?_, fun c0 h7 e7 _ => ?_⟩, fun c1 h8 e8 _ => ?_⟩
      · refine stp h6 _ _ e6 ?_ ?_
        · rw [faS_1 (Or.inr rfl) hw, if_neg (fun q => c1 (hz.trans q.2))]; rfl
        · rw [faS_1 (Or.inl rfl) hw, if_neg (fun q => c0 (hz.trans q.2))]; rfl
      · refine stp h7 _ _ e7 ?_ ?_
        · rw [faS_1 (Or.inr rfl) hw, if_neg (fun q => c1 (hz.trans q.2))]; rfl
        · rw [faS_1 (Or.inl rfl) hw, if_pos ⟨d1, hz.symm.trans c0⟩]
      · refine stp h8 _ _ e8 ?_ ?_
        · rw [faS_1 (Or.inr rfl) hw, if_pos ⟨d1, hz.symm.trans c1⟩]
        · rw [faS_1 (Or.inl rfl) hw, if_neg (fun q => absurd ((hz.symm.trans c1).symm.trans q.2) (by decide))]; rfl
    refine v_X0_wholeFor_23 Lg ⟨fun c => ?_, fun _ => ?_⟩
    · exfalso; rw [Cg.iF.1, i3_le, nI_x (by omega), nI_x (by omega)] at c; omega
    rw [nI_clamp (n := f) (by omega), f12]
    have bt := bit_1 (s := s) (k := f) (by omega) (by omega)
    refine ⟨vp_in_nI (by omega) (by decide), f2, fun c => ?_, fun c => ⟨fun c2 => ?_, fun c2 => ?_⟩⟩
    · exact go _ (by unfold hwS; rw [if_neg (fun q => c q.1)])
    · exact go _ (by unfold hwS; rw [if_neg (fun q => c2 (bt.1.mpr q.2))])
    · exact go _ (by unfold hwS; rw [if_pos ⟨c, bt.1.mp c2⟩])
  obtain ⟨z1, i1⟩ := hI
  refine v_X0_wholeFor_23 (z1.qv.ly L) ⟨fun _ => ?_, fun c => absurd (by rw [(C.qf L z1.qv).iF.1, i3_le]; exact Int.le_refl _) c⟩
  refine mx_up (α := Int32) (fun k r => [some (rv X), none, none, some (iv r), some (iv (nI k))]) 6 (fun k r g' => g' = g ∧ r.toInt = whI (fun d => faS S vt s w 1 d (nF S)) (fun d => faS S vt s w 0 d (nF S)) k) (fun k r g' hk hI KK => ?_) (fun r g' hI => ?_) 0 0 g (Nat.zero_le _) ⟨rfl, rfl⟩
  · obtain ⟨e, hr⟩ := hI
    subst e
    have b1 := faS_b (S := S) (s := s) (w := w) (c := 1) (d := k) (n := nF S) hv
    have b0 := faS_b (S := S) (s := s) (w := w) (c := 0) (d := k) (n := nF S) hv
    have wb := whI_b (F := fun d => faS S vt s w 1 d (nF S)) (A := fun d => faS S vt s w 0 d (nF S)) k
    have ei : (dI (faS S vt s w 1 k (nF S)) (faS S vt s w 0 k (nF S))).toInt = (faS S vt s w 1 k (nF S) : Int) - faS S vt s w 0 k (nF S) := dI_i (by omega) (by omega)
    refine v_X0_wholeFor_127 (z1.qv.ly L) ⟨fun c => ?_, fun _ => ?_⟩
    · exfalso; rw [i3_le, nI_x (by omega)] at c; have : (6 : Int) ≤ (k : Int) := c; omega
    rw [nI_clamp (n := k) (by omega), i1 k hk, nI_1, i3_le, i3_le, ei]
    have nx : whI (fun d => faS S vt s w 1 d (nF S)) (fun d => faS S vt s w 0 d (nF S)) (k + 1) = whI (fun d => faS S vt s w 1 d (nF S)) (fun d => faS S vt s w 0 d (nF S)) k + (if faS S vt s w 0 k (nF S) < faS S vt s w 1 k (nF S) then 1 else if faS S vt s w 1 k (nF S) < faS S vt s w 0 k (nF S) then -1 else 0) := rfl
    refine ⟨vp_in_nI hk (by decide), fun c => ⟨fun c2 => ?_, fun c2 => ?_⟩, fun c => ?_⟩
    · have c : (faS S vt s w 1 k (nF S) : Int) - faS S vt s w 0 k (nF S) ≤ 0 := c
      have c2 : (0 : Int) ≤ (faS S vt s w 1 k (nF S) : Int) - faS S vt s w 0 k (nF S) := c2
      rw [if_neg (by omega), if_neg (by omega)] at nx
      refine KK (r + 0) g' ⟨rfl, ?_⟩
      show (r + 0).toInt = _
      rw [Int32.add_zero, nx, hr]; omega
    · have c : (faS S vt s w 1 k (nF S) : Int) - faS S vt s w 0 k (nF S) ≤ 0 := c
      have c2 : ¬ (0 : Int) ≤ (faS S vt s w 1 k (nF S) : Int) - faS S vt s w 0 k (nF S) := c2
      rw [if_neg (by omega), if_pos (by omega)] at nx
      refine KK (r + (-1)) g' ⟨rfl, ?_⟩
      show (r + (-1)).toInt = _
      have m1 : (-1 : Int32).toInt = -1 := by decide
      rw [i3_ad (by rw [m1]; omega) (by rw [m1]; omega), nx, hr, m1]
    · have c : ¬ (faS S vt s w 1 k (nF S) : Int) - faS S vt s w 0 k (nF S) ≤ 0 := c
      rw [if_pos (by omega)] at nx
      refine KK (r + 1) g' ⟨rfl, ?_⟩
      show (r + 1).toInt = _
      have m1 : (1 : Int32).toInt = 1 := by decide
      rw [i3_ad (by rw [m1]; omega) (by rw [m1]; omega), nx, hr, m1]
  · obtain ⟨e, hr⟩ := hI
    subst e
    exact v_X0_wholeFor_127 (z1.qv.ly L) ⟨fun _ => K g' r z1 i1 hr, fun c => absurd (by decide) c⟩
end

/-! ===== multianewarray: two and three dimensions ===== -/
theorem mk2_old (h : ah_T) (t n t2 m : Nat) {b : Nat} (hb : b < ah_sz h) : ∀ i, ah_eq h (ah_mk2 h t n t2 m i) b
  | 0 => by
    have hne : ¬ b = h.1.1 := Nat.ne_of_lt hb
    exact ⟨if_neg hne, if_neg hne, fun _ => if_neg hne, fun _ => if_neg hne, fun _ => if_neg hne⟩
  | i + 1 => by
    have ih := mk2_old h t n t2 m hb i
    have hz := (mk2_1 h t n t2 m i).1
    have hne : ¬ b = (ah_mk2 h t n t2 m i).1.1 := by show ¬ b = ah_sz (ah_mk2 h t n t2 m i); omega
    refine ih.tr (ah_eq.tr (h' := ah_new (ah_mk2 h t n t2 m i) (40 + t2) m m) ⟨if_neg hne, if_neg hne, fun _ => if_neg hne, fun _ => if_neg hne, fun _ => if_neg hne⟩ (ah_eq.wR (by omega)))
/-- the rows that are made -/
theorem mk2_row (h : ah_T) (t n t2 m : Nat) : ∀ i j, j < i → ah_R (ah_mk2 h t n t2 m i) (ah_sz h) j = ah_sz h + (1 + j) ∧ ah_kd (ah_mk2 h t n t2 m i) (ah_sz h + (1 + j)) = 40 + t2 ∧ ah_ln (ah_mk2 h t n t2 m i) (ah_sz h + (1 + j)) = m ∧ (∀ k, ah_R (ah_mk2 h t n t2 m i) (ah_sz h + (1 + j)) k = 0) ∧ (∀ k, ah_I (ah_mk2 h t n t2 m i) (ah_sz h + (1 + j)) k = 0) ∧ ∀ k, ah_J (ah_mk2 h t n t2 m i) (ah_sz h + (1 + j)) k = 0
  | 0, j, hj => absurd hj (Nat.not_lt_zero _)
  | i + 1, j, hj => by
    have hz := (mk2_1 h t n t2 m i).1
    by_cases e : j = i
    · subst e
      have hs : ah_sz h + (1 + j) = (ah_mk2 h t n t2 m j).1.1 := by show _ = ah_sz _; omega
      have hne : ¬ (ah_sz h + (1 + j) = ah_sz h ∧ True) := fun q => by omega
      refine ⟨?_, ?_, ?_, fun k => ?_, fun k => ?_, fun k => ?_⟩
      · show (if ah_sz h = ah_sz h ∧ j = j then ah_sz (ah_mk2 h t n t2 m j) else _) = _
        rw [if_pos ⟨rfl, rfl⟩]; omega
      · exact if_pos hs
      · exact if_pos hs
      · show (if ah_sz h + (1 + j) = ah_sz h ∧ k = j then _ else if ah_sz h + (1 + j) = (ah_mk2 h t n t2 m j).1.1 then 0 else _) = 0
        rw [if_neg (fun q => by omega), if_pos hs]
      · exact if_pos hs
      · exact if_pos hs
    · obtain ⟨a1, a2, a3, a4, a5, a6⟩ := mk2_row h t n t2 m i j (by omega)
      have hs : ¬ ah_sz h + (1 + j) = (ah_mk2 h t n t2 m i).1.1 := by show ¬ _ = ah_sz _; omega
      have hs0 : ¬ ah_sz h = (ah_mk2 h t n t2 m i).1.1 := by show ¬ _ = ah_sz _; omega
      refine ⟨?_, (if_neg hs).trans a2, (if_neg hs).trans a3, fun k => ?_, fun k => (if_neg hs).trans (a5 k), fun k => (if_neg hs).trans (a6 k)⟩
      · show (if ah_sz h = ah_sz h ∧ j = i then _ else if ah_sz h = (ah_mk2 h t n t2 m i).1.1 then 0 else ah_R (ah_mk2 h t n t2 m i) (ah_sz h) j) = _
        rw [if_neg (fun q => e q.2), if_neg hs0]; exact a1
      · show (if ah_sz h + (1 + j) = ah_sz h ∧ k = i then _ else if ah_sz h + (1 + j) = (ah_mk2 h t n t2 m i).1.1 then 0 else ah_R (ah_mk2 h t n t2 m i) (ah_sz h + (1 + j)) k) = 0
        rw [if_neg (fun q => by omega), if_neg hs]; exact a4 k
theorem mk3_1 (h : ah_T) (n : Nat) : ∀ i, ah_sz (ah_mk3 h n i) = ah_sz h + 1 + 7 * i ∧ ah_rc (ah_mk3 h n i) = ah_rc h - (1 + 7 * i) ∧ ah_rs (ah_mk3 h n i) = ah_rs h - (n + i * 66) ∧ ah_kd (ah_mk3 h n i) (ah_sz h) = 53 ∧ ah_ln (ah_mk3 h n i) (ah_sz h) = n ∧ ∀ j, i ≤ j → ah_R (ah_mk3 h n i) (ah_sz h) j = 0
  | 0 => ⟨rfl, by show h.1.2.1 - 1 = _; rfl, by show h.1.2.2 - n = _; rw [Nat.zero_mul]; rfl, if_pos rfl, if_pos rfl, fun j _ => if_pos rfl⟩
  | i + 1 => by
    obtain ⟨a1, a2, a3, a4, a5, a6⟩ := mk3_1 h n i
    obtain ⟨b1, b2, b3, -⟩ := mk2_1 (ah_mk3 h n i) 12 6 11 10 6
    have ho := mk2_old (ah_mk3 h n i) 12 6 11 10 (b := ah_sz h) (by omega) 6
    refine ⟨by show ah_sz (ah_mk2 _ _ _ _ _ _) = _; omega, by show ah_rc (ah_mk2 _ _ _ _ _ _) = _; omega, by show ah_rs (ah_mk2 _ _ _ _ _ _) = _; omega, ho.1.trans a4, ho.2.1.trans a5, fun j hj => ?_⟩
    show (if ah_sz h = ah_sz h ∧ j = i then _ else ah_R (ah_mk2 (ah_mk3 h n i) 12 6 11 10 6) (ah_sz h) j) = 0
    rw [if_neg (fun q => by omega), ho.2.2.2.2 j]
    exact a6 j (by omega)
section
variable {G : ma_G} {y : ma_M} {d pc : Nat} {al : List (Option ma_V)} {st : List ma_V} {h : ah_T} {Q : Option ma_V → ah_T → Prop} {E : Nat → ah_T → Prop}
theorem mx_multi2 (t t2 : Nat) {ty : FieldType} {idx N M : Nat} {nm : String} {n k : Int32} (ht : 5 ≤ t ∧ t < 16) (ht2 : t2 < 16) (e1 : ma_aty t = .array ty) (e2 : ma_aty t2 = ty) (ho : Cond.arrayOver (.array ty) ∈ lw_tbl) (hq : Cond.classLink y.1.cls idx nm ∈ lw_all) (hnm : nm = "[" ++ (ma_aty t).toString) (hd : decode y.2.1 pc = .ok (.multianewarray idx 2, 4)) (hn : ¬ n < 0) (hN : n.toNatClampNeg = N) (hk : ¬ k < 0) (hM : k.toNatClampNeg = M) (h1 : 1 + N ≤ ah_rc h) (h2 : N + N * M ≤ ah_rs h) (h3 : N ≤ 1000000) (h4 : M ≤ 1000000)
    (K : ah_ext h (ah_mk2 h t N t2 M N) → ah_liv h → MX G y d (pc + 4) al (rv (ah_sz h) :: st) (ah_mk2 h t N t2 M N) Q E) : MX G y d pc al (iv k :: iv n :: st) h Q E :=
  mx_multi (cs := [n, k]) ht.2 hq hnm (fun C q => by rw [e1] at q; cases q) hd rfl (by decide) (fun p e R s m args below meth c EE dd acts T g QQ ok hW hP hq' => mm_mk2 ok hW ht ht2 e1 e2 ho hn hN hk hM hP h1 h2 h3 h4 hq') K
theorem mx_multi3 {idx N : Nat} {n : Int32} (ho1 : Cond.arrayOver (.array (.array (.object "PrairiePool$Heap"))) ∈ lw_tbl) (ho2 : Cond.arrayOver (.array (.object "PrairiePool$Heap")) ∈ lw_tbl) (hq : Cond.classLink y.1.cls idx "[[[LPrairiePool$Heap;" ∈ lw_all) (hd : decode y.2.1 pc = .ok (.multianewarray idx 3, 4)) (hn : ¬ n < 0) (hN : n.toNatClampNeg = N) (h1 : 1 + 7 * N ≤ ah_rc h) (h2 : N + N * 66 ≤ ah_rs h) (h3 : N ≤ 1000000)
    (K : ah_ext h (ah_mk3 h N N) → ah_liv h → MX G y d (pc + 4) al (rv (ah_sz h) :: st) (ah_mk3 h N N) Q E) : MX G y d pc al (iv 10 :: iv 6 :: iv n :: st) h Q E := by
  refine mx_multi (t := 13) (cs := [n, 6, 10]) (by decide) hq rfl (fun C q => by cases q) hd rfl (by decide) (fun p e R s m args below meth c EE dd acts T g QQ ok hW hP hq' => ?_) K
  refine mm_mkN ok hW (cc := 0) (cs := 0) (t2 := 12) (ah_mk3 h N) (by simp) (by decide) hn hN (by decide) (mm_comp ok hW (by decide) (by decide) rfl rfl ho1) hP (by omega) (by omega) h3 rfl (fun i => ah_sz (ah_mk3 h N i)) (fun i hi => ?_) hq'
  obtain ⟨a1, a2, a3, a4, a5, a6⟩ := mk3_1 h N i
  have ho := mk2_old (ah_mk3 h N i) 12 6 11 10 (b := ah_sz h) (by omega) 6
  refine ⟨ah_mk2 (ah_mk3 h N i) 12 6 11 10 6, rfl, ho.1.trans a4, ho.2.1.trans a5, (ho.2.2.2.2 i).trans (a6 i (Nat.le_refl _)), by show ah_sz _ ≠ 0; omega, fun T' d' acts' Q' hPi hq2 => ?_⟩
  exact mm_mk2 (t := 12) (t2 := 11) (ty := .object "PrairiePool$Heap") (N := 6) (M := 10) ok hW (by decide) (by decide) rfl rfl ho2 (by decide) (by decide) (by decide) (by decide) hPi (by omega) (by omega) (by decide) (by decide) hq2
end

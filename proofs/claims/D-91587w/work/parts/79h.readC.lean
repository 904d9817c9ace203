/-! ===== acts: the class's reader, whole ===== -/
section
variable {G : ma_G} {A R W n p q s c c1 d dp T lo : Nat} {h g g2 : ah_T} {t : Nat → Nat} {nm : List Nat} {Ds : List PD} {Q : Option ma_V → ah_T → Prop} {E : Nat → ah_T → Prop} {x : Int32} {D : PD}
theorem c_rdall (L : LY5 h R) (hT : tpe h (R + 1) n t) (hw : W + 1 = R) (h8 : ah_R h R 8 = W) (hk : ah_kd h W = 5) (hz : R + 1 < ah_sz h) (r1 : 4 * n + 10 ≤ ah_rc h) (r2 : 7 * (4 * n + 10) ≤ ah_rs h)
    (K1 : ∀ g nm Ds, pAll t n (n + 1) 0 [] [] = .inr (nm, Ds) → ah_ext h g → (∀ a, a < ah_sz h → ah_kd g a = ah_kd h a ∧ (∀ k, ¬ (a = R ∧ k = 7) → ah_R g a k = ah_R h a k) ∧ (∀ k, ¬ (a = R ∧ 2 ≤ k ∧ k ≤ 6) → ¬ (a = W ∧ 6 ≤ k) → ah_I g a k = ah_I h a k) ∧ ∀ k, ¬ (a = R ∧ 2 ≤ k ∧ k ≤ 6) → ah_J g a k = ah_J h a k) → nmC g (ah_sz h) nm → LDs G A W (ah_sz h) g nm Ds → ah_sz h + 2 < ah_sz g → ah_rc h ≤ ah_rc g + (4 * n + 10) → ah_rs h ≤ ah_rs g + 7 * (4 * n + 10) → Q (some (rv (ah_sz h))) g)
    (K2 : ∀ z g, pAll t n (n + 1) 0 [] [] = .inl z → ah_ext h g → (∀ a, a < ah_sz h → ah_kd g a = ah_kd h a ∧ (∀ k, ¬ (a = R ∧ k = 7) → ah_R g a k = ah_R h a k) ∧ (∀ k, ¬ (a = R ∧ 2 ≤ k ∧ k ≤ 6) → ¬ (a = W ∧ 6 ≤ k) → ah_I g a k = ah_I h a k) ∧ ∀ k, ¬ (a = R ∧ 2 ≤ k ∧ k ≤ 6) → ah_J g a k = ah_J h a k) → ah_I g W 6 = nI z.1 → ah_I g W 7 = nI z.2 → ah_rc h ≤ ah_rc g + (4 * n + 10) → ah_rs h ≤ ah_rs g + 7 * (4 * n + 10) → E W g) :
    MX G mi_X5_read (d + 70) 0 [some (rv R), some (iv (nI n))] [] h Q E := by
  have n5 := hT.1
  have kR := ly5_k L
  refine v_X5_read (d := d + 69) L ?_
  intro h1 e1 X1 h2 e2 X2
  have s2 : ah_sz h2 = ah_sz h ∧ ah_rc h2 = ah_rc h ∧ ah_rs h2 = ah_rs h := by rw [e2, e1]; exact ⟨rfl, rfl, rfl⟩
  refine ⟨⟨by omega, by omega⟩, fun h4 e4 X4 _ => ?_⟩
  rw [s2.1]
  have k4 : ah_kd h4 (ah_sz h) = 16 := by rw [e4, rn_k, if_pos s2.1.symm]
  have s4 : ah_sz h4 = ah_sz h + 1 ∧ ah_rc h4 = ah_rc h - 1 ∧ ah_rs h4 = ah_rs h - 4 := by rw [e4, e2, e1]; exact ⟨rfl, rfl, rfl⟩
  refine v_X17_init (d := d + 68) ⟨by rw [k4]; decide, ⟨by omega, by omega⟩, fun h6 e6 X6 _ => ⟨?_, ?_, fun h7 e7 X7 => ⟨?_, fun h9 e9 X9 _ => ⟨?_, fun h14 e14 X14 => ?_⟩⟩⟩⟩
  · rw [e6, rn_k, if_neg (by omega)]; exact k4
  · rw [e6, rn_R, if_neg (by omega), e4, rn_R, if_pos s2.1.symm]
  · have : ah_rc h7 = ah_rc h4 - 1 ∧ ah_rs h7 = ah_rs h4 - 10 := by rw [e7, e6]; exact ⟨rfl, rfl⟩
    omega
  · have s7 : ah_sz h7 = ah_sz h4 + 1 := by rw [e7, e6]; rfl
    rw [e9, rn_R, if_neg (by omega), e7, rd_RR, if_neg (by omega), e6, rn_R, if_neg (by omega), e4, rn_R, if_pos s2.1.symm]
  intro _
  intro h15 e15 X15
  have s7 : ah_sz h7 = ah_sz h4 + 1 := by rw [e7, e6]; rfl
  have s15 : ah_sz h15 = ah_sz h + 3 ∧ ah_rc h15 = ah_rc h - 3 ∧ ah_rs h15 = ah_rs h - 24 := by
    rw [e15, e14, e9, e7, e6, e4, e2, e1]
    refine ⟨rfl, ?_, ?_⟩
    · show ah_rc h - 1 - 1 - 1 = _; omega
    · show ah_rs h - 4 - 10 - 10 = _; omega
  have xt : ah_ext h h15 := X1.tr (X2.tr (X4.tr (X6.tr (X7.tr (X9.tr (X14.tr X15))))))
  have K15 : ∀ a, ah_kd h15 a = if a = ah_sz h + 2 then 50 else if a = ah_sz h + 1 then 41 else if a = ah_sz h then 16 else ah_kd h a := fun a => by
    rw [e15, rd_kR, e14, rd_kR, e9, rn_k, e7, rd_kR, e6, rn_k, e4, rn_k, e2, rd_kI, e1, rd_kI]
    rfl
  have I15 : ∀ a k, a < ah_sz h → ah_I h15 a k = if a = R ∧ k = 5 then 0 else if a = R ∧ k = 2 then nI n else ah_I h a k := fun a k ha => by
    rw [e15, rd_IR, e14, rd_IR, e9, rn_I, if_neg (by omega), e7, rd_IR, e6, rn_I, if_neg (by omega), e4, rn_I, if_neg (by omega), e2, rd_II, e1, rd_II]
  have J15 : ∀ a k, a < ah_sz h → ah_J h15 a k = ah_J h a k := fun a k ha => by
    rw [e15, rd_JR, e14, rd_JR, e9, rn_J, if_neg (by omega), e7, rd_JR, e6, rn_J, if_neg (by omega), e4, rn_J, if_neg (by omega), e2, rd_JI, e1, rd_JI]
  have R15 : ∀ a k, a < ah_sz h → ah_R h15 a k = if a = R ∧ k = 7 then ah_sz h else ah_R h a k := fun a k ha => by
    rw [e15, rd_RR]
    by_cases z : a = R ∧ k = 7
    · rw [if_pos z, if_pos z]
    · rw [if_neg z, if_neg z, e14, rd_RR, if_neg (by omega), e9, rn_R, if_neg (by omega), e7, rd_RR, if_neg (by omega), e6, rn_R, if_neg (by omega), e4, rn_R, if_neg (by omega), e2, rd_RI, e1, rd_RI]
  have l0 : ah_R h15 (ah_sz h) 0 = ah_sz h + 1 := by
    rw [e15, rd_RR, if_neg (by omega), e14, rd_RR, if_neg (by omega), e9, rn_R, if_neg (by omega), e7, rd_RR, if_pos ⟨rfl, rfl⟩, s4.1]
  have l1 : ah_R h15 (ah_sz h) 1 = ah_sz h + 2 := by
    rw [e15, rd_RR, if_neg (by omega), e14, rd_RR, if_pos ⟨rfl, rfl⟩, s7, s4.1]
  have l2 : ∀ k, ah_R h15 (ah_sz h + 2) k = 0 := fun k => by
    rw [e15, rd_RR, if_neg (by omega), e14, rd_RR, if_neg (by omega), e9, rn_R, if_pos (by rw [s7, s4.1])]
  have m2 : ah_I h15 (ah_sz h) 2 = 0 := by
    rw [e15, rd_IR, e14, rd_IR, e9, rn_I, if_neg (by omega), e7, rd_IR, e6, rn_I, if_neg (by omega), e4, rn_I, if_pos s2.1.symm]
  have n15 : ∀ a, ah_ln h15 a = if a = ah_sz h + 2 then 10 else if a = ah_sz h + 1 then 10 else if a = ah_sz h then 0 else ah_ln h a := fun a => by
    rw [e15, rd_lR, e14, rd_lR, e9, rn_l, e7, rd_lR, e6, rn_l, e4, rn_l, e2, rd_lI, e1, rd_lI]
    rfl
  clear e15 e14 e9 e7 e6 e4 e2 e1
  have LW : LY17 h15 (ah_sz h) := by
    refine ⟨by rw [K15, if_neg (by omega), if_neg (by omega), if_pos rfl], fun q hq => ?_⟩
    rw [show lyT17 = [(0, 16, 0, 1, 41, 10), (0, 16, 1, 2, 50, 10)] from rfl] at hq
    simp only [List.mem_cons, List.not_mem_nil, or_false] at hq
    rcases hq with hq | hq
    · rw [hq]
      exact ⟨by show ah_kd h15 (ah_sz h + 0) = 16; rw [Nat.add_zero, K15, if_neg (by omega), if_neg (by omega), if_pos rfl], by show ah_R h15 (ah_sz h + 0) 0 = _; rw [Nat.add_zero]; exact l0, by show ah_kd h15 (ah_sz h + 1) = 41; rw [K15, if_neg (by omega), if_pos rfl], by show ah_ln h15 (ah_sz h + 1) = 10; rw [n15, if_neg (by omega), if_pos rfl]⟩
    · rw [hq]
      exact ⟨by show ah_kd h15 (ah_sz h + 0) = 16; rw [Nat.add_zero, K15, if_neg (by omega), if_neg (by omega), if_pos rfl], by show ah_R h15 (ah_sz h + 0) 1 = _; rw [Nat.add_zero]; exact l1, by show ah_kd h15 (ah_sz h + 2) = 50; rw [K15, if_pos rfl], by show ah_ln h15 (ah_sz h + 2) = 10; rw [n15, if_pos rfl]⟩
  have T15 : tpe h15 (R + 1) n t := ⟨hT.1, fun k hk => by rw [I15 _ _ (by omega), if_neg (by omega), if_neg (by omega)]; exact hT.2 k hk⟩
  refine c_next (d := d + 68) (p := 0) (L.ext xt) T15 (Nat.zero_le _) (by rw [I15 _ _ (by omega), if_neg (by omega), if_pos ⟨rfl, rfl⟩]) (by rw [I15 _ _ (by omega), if_pos ⟨rfl, rfl⟩]; rfl) (fun g1 mr D1 => ?_)
  intro _
  have u1 := sz_r mr
  have q1 : pf (ah_sz h15) R W h15 g1 := mr.pf
  have P : CPre R W (ah_sz h) n t [] 4 0 g1 := by
    refine ⟨⟨hw, hz, by omega⟩, (L.ext xt).ext mr.ext, mr.tp T15, Nat.zero_le _, D1, ⟨?_, LW.ext mr.ext, by simp, ?_, fun i hi => by simp at hi⟩, ⟨?_, ?_⟩, by omega, by omega⟩
    · rw [(q1.2 R (by omega)).2.1, R15 _ _ (by omega), if_pos ⟨rfl, rfl⟩]
    · rw [(q1.2 (ah_sz h) (by omega)).2.2.1 2 (by omega) (by omega)]; exact m2
    · rw [(q1.2 R (by omega)).2.1, R15 _ _ (by omega), if_neg (by omega)]; exact h8
    · rw [(q1.2 W (by omega)).1, K15, if_neg (by omega), if_neg (by omega), if_neg (by omega)]; exact hk
  have X : LDs G A W (ah_sz h) g1 [] [] := ⟨rfl, fun i j hi => by simp at hi, fun i _ => by rw [(q1.2 (ah_sz h + 2) (by omega)).2.1]; exact l2 i, fun i hi => by simp at hi⟩
  have fr : ∀ g, pf (ah_sz h) R W g1 g → ∀ a, a < ah_sz h → ah_kd g a = ah_kd h a ∧ (∀ k, ¬ (a = R ∧ k = 7) → ah_R g a k = ah_R h a k) ∧ (∀ k, ¬ (a = R ∧ 2 ≤ k ∧ k ≤ 6) → ¬ (a = W ∧ 6 ≤ k) → ah_I g a k = ah_I h a k) ∧ ∀ k, ¬ (a = R ∧ 2 ≤ k ∧ k ≤ 6) → ah_J g a k = ah_J h a k := fun g m a ha => by
    obtain ⟨v1, v2, v3, v4⟩ := ((q1.mn (by omega)).tr m).2 a ha
    refine ⟨by rw [v1, K15, if_neg (by omega), if_neg (by omega), if_neg (by omega)], fun k hk => by rw [v2, R15 a k ha, if_neg hk], fun k h1 h2 => by rw [v3 k (by omega) h2, I15 a k ha, if_neg (by omega), if_neg (by omega)], fun k h1 => by rw [v4 k (by omega), J15 a k ha]⟩
  have x1 : ah_ext h g1 := xt.tr mr.ext
  refine c_read_25 (d := d) (n + 1) g1 0 [] [] (by omega) P X (fun g' nm Ds p' un m C X' e' b1 b2 => ?_) (fun z g' un C => ?_)
  · refine K1 g' nm Ds un (x1.tr m.1) (fr g' m) C.2.2.2.2.2.1.2 X' (by have := m.1.1; omega) (by omega) (by omega)
  · refine K2 z g' un (x1.tr C.1.1) (fr g' C.1) C.2.1 C.2.2.1 (by have := C.2.2.2.1; omega) (by have := C.2.2.2.2; omega)
end

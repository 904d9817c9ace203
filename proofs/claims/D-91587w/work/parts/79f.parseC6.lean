/-! ===== acts: the class's levels ===== -/
section
variable {G : ma_G} {A R W Lw n p q s c c1 d dp T lo : Nat} {h g g2 : ah_T} {t : Nat → Nat} {nm : List Nat} {Q : Option ma_V → ah_T → Prop} {E : Nat → ah_T → Prop} {x : Int32} {D : PD} {W' S U : Nat → PR}
theorem c_whole {m : Nat} (hm : m ≤ 8) (hW : ∀ d, ccon G A R W Lw n t nm mi_X5_whole [none, none] 1 4 (d + c + 2) (nI m + 1) (dp + 1) W') (hU : ∀ d, ccon G A R W Lw n t nm mi_X5_sum [none, none] 1 4 (d + c + 2) (nI m) (dp + 2) U) (hO : ∀ d, ccoB G A R W Lw n t nm 1 4 (d + c + 2) (nI m) dp (pOne t n U)) (hWp : pos n W') (hUp : pos n U) (hc : 5 ≤ c) :
    ccon G A R W Lw n t nm mi_X5_whole [none, none] 1 4 (d + c + 3) (nI m) (dp + 2) (fun p => if tK 0 t n p = 0 then pIf t n U W' (tE t n p) else U p) := by
  intro h p Q E P K1 K2
  have P' := P
  obtain ⟨⟨p1, p2, p3⟩, P2, P3, P4, P5, P6, P7, P8, P9⟩ := P'
  have xl : nI m ≤ (8 : Int32) := nI_le hm (by decide)
  obtain ⟨c', rfl⟩ : ∃ c', c = c' + 5 := ⟨c - 5, by omega⟩
  refine v_X5_whole (d := d + (c' + 5)) P2 ⟨fun _ => ?_, fun z => absurd xl z⟩
  refine c_isK (d := d + c') (k := 0) (by decide) P (fun r3 hr3 => ?_)
  intro _
  by_cases z0 : tK 0 t n p = 0
  rotate_left
  · rw [if_neg (show ¬ tK 0 t n p = ((0 : Nat) : Int) from z0)] at hr3
    rw [hr3]
    refine ⟨fun w => absurd rfl w, fun _ => ?_⟩
    simp only [if_neg z0] at K1 K2
    refine hU d h p _ _ P (fun q D g T un C => ?_) K2
    intro _
    exact K1 q D g T un C
  rw [if_pos (show tK 0 t n p = ((0 : Nat) : Int) from z0)] at hr3
  rw [hr3]
  refine ⟨fun _ => ?_, fun w => absurd w (by decide)⟩
  simp only [if_pos z0] at K1 K2
  have s2 := tK_2 (k := 0) z0
  have a := tE_s P4 (by rw [s2]; decide)
  refine c_nx (d := d + (c' + 6)) P (by rw [s2]; decide) (fun g1 m1 Pn => ?_)
  intro _
  have u1 := sz_r m1
  refine ⟨⟨by omega, by omega⟩, fun h8 e8 X8 _ => ?_⟩
  rw [u1.1]
  have k8 : ah_kd h8 (ah_sz h) = 20 := by rw [e8, rn_k, if_pos u1.1.symm]
  have r8 : ∀ k, ah_R h8 (ah_sz h) k = 0 := fun k => by rw [e8, rn_R, if_pos u1.1.symm]
  have s8 : ah_sz h8 = ah_sz g1 + 1 ∧ ah_rc h8 = ah_rc g1 - 1 ∧ ah_rs h8 = ah_rs g1 - 7 := by rw [e8]; exact ⟨rfl, rfl, rfl⟩
  have D8 : rdC h8 R n t (tE t n p) := by rw [e8]; exact Pn.2.2.2.2.1.nw (by omega)
  have f8 : pf (ah_sz h) R W h h8 := m1.pf.tr (by rw [e8]; exact pf.rf.nw (by omega) (by rw [← e8]; exact X8))
  clear e8
  refine v_X22_init (d := d + (c' + 6)) ⟨by rw [k8]; decide, v_X18_init ⟨by rw [k8]; decide, ?_⟩⟩
  intro _
  intro _
  have P8' : CPre R W Lw n t nm 4 (tE t n p) h8 := P.fr f8 p3 a.2 D8 (by omega) (by omega)
  have s3 : ah_sz h8 = ah_sz h + 1 := by omega
  refine hO d h8 _ _ _ P8' (fun qa B g2 C una Ca => ?_) (fun z g2 una Ca => K2 z g2 (pIf_l (by unfold pTst; rw [una])) (CFlt.tr f8 (Ca.mn (by omega)) (by omega) (by omega)))
  intro _
  obtain ⟨C0, C1, C2, C3, C4, C5, C6⟩ := Ca
  have pa := pos_one hUp a.2 una
  have sz2 := C0.1.1
  have t1 := C2.1
  have t2 := C2.2.1
  obtain ⟨v1, v2, v3, v4⟩ := C0.2 (ah_sz h) (by omega)
  have kf : ah_kd g2 (ah_sz h) = 20 := v1.trans k8
  have r0 : ∀ k, ah_R g2 (ah_sz h) k = 0 := fun k => (v2 k).trans (r8 k)
  refine v_X22_add ⟨kf, ?_⟩
  rw [r0 2]
  refine ⟨fun w => absurd rfl w, fun _ => ⟨rfl, fun g3 e3 X3 g4 e4 X4 => ?_⟩⟩
  intro _
  have rR : ∀ b k, ah_R g4 b k = if b = ah_sz h ∧ k = 3 then C else if b = ah_sz h ∧ k = 2 then C else ah_R g2 b k := fun b k => by
    rw [e4, rd_RR]
    by_cases z : b = ah_sz h ∧ k = 3
    · rw [if_pos z, if_pos z]
    · rw [if_neg z, if_neg z, e3, rd_RR]
  have rI : ∀ b k, ah_I g4 b k = ah_I g2 b k := fun b k => by rw [e4, e3]; rfl
  have rJ : ∀ b k, ah_J g4 b k = ah_J g2 b k := fun b k => by rw [e4, e3]; rfl
  have rk : ∀ b, ah_kd g4 b = ah_kd g2 b := fun b => by rw [e4, e3]; rfl
  have s4 : ah_sz g4 = ah_sz g2 ∧ ah_rc g4 = ah_rc g2 ∧ ah_rs g4 = ah_rs g2 := by rw [e4, e3]; exact ⟨rfl, rfl, rfl⟩
  have x24 : ah_ext g2 g4 := X3.tr X4
  clear e4 e3
  have f4 : pf (ah_sz h) R W h g4 := (f8.tr (C0.mn (by omega))).tr ⟨x24, fun b hb => ⟨rk b, fun k => by rw [rR, if_neg (by omega), if_neg (by omega)], fun k _ _ => rI b k, fun k _ => rJ b k⟩⟩
  have D4 : rdC g4 R n t qa := C1.sm (fun j _ => rI R j) (rJ R 6)
  have P4' : CPre R W Lw n t nm 4 qa g4 := P.fr f4 p3 pa.2 D4 (by omega) (by omega)
  refine c_isK (d := d + c') (k := 3) (by decide) P4' (fun r20 hr20 => ?_)
  intro _
  refine c_isK (d := d + c') (k := 4) (by decide) P4' (fun r23 hr23 => ?_)
  intro _
  refine ⟨?_, fun g5 e5 X5 => ?_⟩
  · by_cases w : tK 0 t n qa = ((4 : Nat) : Int)
    · rw [if_pos w] at hr23; exact Or.inr hr23
    · rw [if_neg w] at hr23; exact Or.inl hr23
  have r5 : ∀ b k, ah_R g5 b k = ah_R g4 b k := fun b k => by rw [e5, rd_RI]
  have i5 : ∀ b k, ah_I g5 b k = if b = ah_sz h ∧ k = 4 then r23 else ah_I g4 b k := fun b k => by rw [e5, rd_II]
  have j5 : ∀ b k, ah_J g5 b k = ah_J g4 b k := fun b k => by rw [e5, rd_JI]
  have k5 : ∀ b, ah_kd g5 b = ah_kd g4 b := fun b => by rw [e5, rd_kI]
  have s5 : ah_sz g5 = ah_sz g4 ∧ ah_rc g5 = ah_rc g4 ∧ ah_rs g5 = ah_rs g4 := by rw [e5]; exact ⟨rfl, rfl, rfl⟩
  clear e5
  have f5 : pf (ah_sz h) R W h g5 := f4.tr ⟨X5, fun b hb => ⟨k5 b, fun k => r5 b k, fun k _ _ => by rw [i5, if_neg (by omega)], fun k _ => j5 b k⟩⟩
  have D5 : rdC g5 R n t qa := D4.sm (fun j _ => by rw [i5, if_neg (by omega)]) (j5 R 6)
  have P5' : CPre R W Lw n t nm 4 qa g5 := P.fr f5 p3 pa.2 D5 (by omega) (by omega)
  have TC : CV G A W (ah_sz h8) (ah_sz g2) g5 C dp B := C2.ag (fun b b1 b2 _ => ⟨by rw [k5, rk], fun k _ => by rw [r5, rR, if_neg (by omega), if_neg (by omega)], fun k _ => by rw [i5, if_neg (by omega), rI], fun k => by rw [j5, rJ]⟩)
  have X5' : ∀ o, IFs G A W (ah_sz h) g5 C dp o B := fun o => ⟨CI.mk (Nat.le_refl _) (by omega) (by rw [k5, rk]; exact kf) (by rw [r5, rR, if_neg (by omega), if_pos ⟨rfl, rfl⟩]) (by rw [r5, rR, if_pos ⟨rfl, rfl⟩]) C4 TC (by omega) (by omega) (by omega) o, by rw [r5, rR, if_neg (by omega), if_neg (by omega)]; exact C3, by rw [r5, rR, if_neg (by omega), if_neg (by omega)]; exact r0 0, by rw [r5, rR, if_neg (by omega), if_neg (by omega)]; exact r0 5, by rw [r5, rR, if_neg (by omega), if_neg (by omega)]; exact r0 6⟩
  have un1 : pTst t n U (tE t n p) = pTest t n U (pJoin t n qa) (n + 1) qa B := by unfold pTst; rw [una]
  have fin : ∀ (k : Nat) (o : Bool), pJoin t n qa = k → ((k = 3 ∧ r20 = 1 ∧ o = false) ∨ (k = 4 ∧ r20 = 0 ∧ o = true) ∨ (k = 0 ∧ r20 = 0 ∧ o = false)) → r23 = (if o = true then 1 else 0) → MX G mi_X5_whole (d + (c' + 5) + 3) 86 [some (rv R), some (iv (nI m)), some (rv (ah_sz h)), some (iv r20)] [] g5 Q E := fun k o hj hk ho => by
    refine c_whole_86 (k := k) (o := o) (lo := ah_sz h) hk hO hUp (by omega) p3 (n + 1) g5 qa C B (by omega) P5' (X5' o) (by rw [i5, if_pos ⟨rfl, rfl⟩]; exact ho) (fun q' B' g' l' un2 m' D' X' e' b1 b2 => ?_) (fun z g' un2 C' => K2 z g' (pIf_l (by rw [un1, hj]; exact un2)) (CFlt.tr f5 C' (by omega) (by omega)))
    have pq2 := pos_test hUp pa.2 un2
    have uf := pIf_r (W := W') (show pTst t n U (tE t n p) = .inr (q', B') by rw [un1, hj]; exact un2)
    have f' : pf (ah_sz h) R W h g' := f5.tr m'
    have P'' : CPre R W Lw n t nm 4 q' g' := P.fr f' p3 pq2.2 D' (by omega) (by omega)
    refine c_whole_129 (lo := ah_sz h) hW hWp (by omega) p3 P'' X' e' (fun q2 D2 g6 un3 m6 D6 T6 e0 b3 b4 => ?_) (fun z g6 un3 C6 => K2 z g6 (uf.trans un3) (CFlt.tr f' C6 (by omega) (by omega)))
    have pq3 : q' ≤ q2 ∧ q2 ≤ n := by
      have := pos_if hUp hWp (tE t n p) q2 D2 a.2 (uf.trans un3)
      by_cases y1 : tK 0 t n q' = 1
      · rw [if_pos y1] at un3
        have a6 := tE_s pq2.2 (by rw [tK_2 (k := 1) y1]; decide)
        cases hy : W' (tE t n q') with
        | inl e => rw [hy] at un3; simp at un3
        | inr e =>
          obtain ⟨qx, Dx⟩ := e
          rw [hy] at un3
          simp only at un3
          have b6 := hWp _ _ _ a6.2 hy
          by_cases y2 : tK 0 t n qx = 2
          · rw [if_pos y2] at un3
            have a7 := tE_s b6.2 (by rw [tK_2 (k := 2) y2]; decide)
            cases hz : W' (tE t n qx) with
            | inl e => rw [hz] at un3; simp at un3
            | inr e =>
              obtain ⟨qy, Dy⟩ := e
              rw [hz] at un3
              simp only at un3
              have b7 := hWp _ _ _ a7.2 hz
              injection un3 with un3
              injection un3 with w1 w2
              omega
          · rw [if_neg y2] at un3; simp at un3
      · rw [if_neg y1] at un3; simp at un3
    refine K1 q2 D2 g6 (ah_sz h) (uf.trans un3) ⟨f'.tr m6, D6, T6, e0, by omega, by omega, by omega⟩
  by_cases w3 : tK 0 t n qa = 3
  · rw [if_pos (show tK 0 t n qa = ((3 : Nat) : Int) from w3)] at hr20
    rw [if_neg (show ¬ tK 0 t n qa = ((4 : Nat) : Int) from by omega)] at hr23
    exact fin 3 false (by unfold pJoin; rw [if_pos w3]) (Or.inl ⟨rfl, hr20, rfl⟩) hr23
  · rw [if_neg (show ¬ tK 0 t n qa = ((3 : Nat) : Int) from w3)] at hr20
    by_cases w4 : tK 0 t n qa = 4
    · rw [if_pos (show tK 0 t n qa = ((4 : Nat) : Int) from w4)] at hr23
      exact fin 4 true (by unfold pJoin; rw [if_neg w3, if_pos w4]) (Or.inr (Or.inl ⟨rfl, hr20, rfl⟩)) hr23
    · rw [if_neg (show ¬ tK 0 t n qa = ((4 : Nat) : Int) from w4)] at hr23
      exact fin 0 false (by unfold pJoin; rw [if_neg w3, if_neg w4]) (Or.inr (Or.inr ⟨rfl, hr20, rfl⟩)) hr23
theorem c_inner {m : Nat} (hm : m ≤ 8) (hU : ∀ d, ccon G A R W Lw n t nm mi_X5_sum [none, none] 1 4 (d + c + 2) (nI m) dp U) : ccon G A R W Lw n t nm mi_X5_inner [] 1 4 (d + c + 3) (nI m) dp U := by
  intro h p Q E P K1 K2
  refine v_X5_inner (d := d + c) P.2.1 ⟨fun z => absurd z (nI_nlt hm (by decide)), fun _ => ?_⟩
  refine hU d h p _ _ P (fun q D g T un C => ?_) K2
  intro _
  exact K1 q D g T un C
theorem tB_1 (hb : tB t n p) : tS t n p ≠ 1 := by
  rcases hb with b | b | b | b | b
  · omega
  · omega
  · have := tK_2 (k := 6) b; omega
  · have := tK_2 (k := 7) b; omega
  · omega
theorem c_W0 : ccon G A R W Lw n t nm mi_X5_whole [none, none] 1 4 (d + 12) (nI 9) dp (pL t n nm 0).1 ∧ ccon G A R W Lw n t nm mi_X5_inner [] 1 4 (d + 9) (nI 9) dp (pL t n nm 0).2 := by
  constructor
  · intro h p Q E P K1 K2
    refine v_X5_whole (d := d + 9) P.2.1 ⟨fun z => absurd z (by decide), fun _ => ?_⟩
    have f5 : (tK 0 t n p = 0 ∨ tB t n p) → _ := fun z => wc_ok (E := E) (y := (5 : Int32)) (k := 5) rfl P (K2 (pw t n p 5) _ (by
      have : tS t n p ≠ 1 := by
        rcases z with z | z
        · have := tK_2 (k := 0) z; omega
        · exact tB_1 z
      unfold pL pw
      simp only
      rw [if_pos z, if_neg this]) CFlt.w)
    have f2 : ¬ (tK 0 t n p = 0 ∨ tB t n p) → _ := fun z => wc_ok (E := E) (y := (2 : Int32)) (k := 2) rfl P (K2 (pw t n p 2) _ (by unfold pL; simp only; rw [if_neg z]) CFlt.w)
    refine c_isK (d := d + 4) (k := 0) (by decide) P (fun r3 hr3 => ?_)
    intro _
    by_cases z0 : tK 0 t n p = 0
    · rw [if_pos (show tK 0 t n p = ((0 : Nat) : Int) from z0)] at hr3
      rw [hr3]
      exact ⟨fun _ => f5 (Or.inl z0), fun w => absurd w (by decide)⟩
    · rw [if_neg (show ¬ tK 0 t n p = ((0 : Nat) : Int) from z0)] at hr3
      rw [hr3]
      refine ⟨fun w => absurd rfl w, fun _ => ?_⟩
      refine c_begins (d := d + 3) P.2.1 P.2.2.1 P.2.2.2.1 P.2.2.2.2.1 (fun b => ?_) (fun b => ?_)
      · intro _
        exact ⟨fun w => absurd w (by decide), fun _ => f5 (Or.inr b)⟩
      · intro _
        exact ⟨fun _ => f2 (fun w => by rcases w with w | w; exact z0 w; exact b w), fun w => absurd rfl w⟩
  · intro h p Q E P K1 K2
    refine v_X5_inner (d := d + 6) P.2.1 ⟨fun _ => ?_, fun z => absurd (by decide) z⟩
    refine c_begins (d := d) P.2.1 P.2.2.1 P.2.2.2.1 P.2.2.2.2.1 (fun b => ?_) (fun b => ?_)
    · intro _
      refine ⟨fun _ => wc_ok (k := 5) rfl P (K2 (pw t n p 5) _ ?_ CFlt.w), fun w => absurd w (by decide)⟩
      unfold pL pw
      simp only
      rw [if_pos b, if_neg (tB_1 b)]
    · intro _
      refine ⟨fun w => absurd rfl w, fun _ => wc_ok (k := 2) rfl P (K2 (pw t n p 2) _ ?_ CFlt.w)⟩
      unfold pL
      simp only
      rw [if_neg b]
/-- all levels -/
theorem c_L : ∀ l, l ≤ 8 → ∀ d, ccon G A R W Lw n t nm mi_X5_whole [none, none] 1 4 (d + 7 * l + 12) (nI (9 - l)) (6 * l) (pL t n nm l).1 ∧ ccon G A R W Lw n t nm mi_X5_inner [] 1 4 (d + 7 * l + 9) (nI (9 - l)) (6 * l) (pL t n nm l).2
  | 0, _, d => c_W0
  | l + 1, hl, d => by
    have ih := c_L l (by omega)
    obtain ⟨q1, q2⟩ := pos_L (t := t) (n := n) (nm := nm) l
    have e9 : nI (9 - (l + 1)) + 1 = nI (9 - l) := by rw [nI_1]; congr 1; omega
    have hW : ∀ d, ccon G A R W Lw n t nm mi_X5_whole [none, none] 1 4 (d + (7 * l + 9) + 3) (nI (9 - (l + 1)) + 1) (6 * l) (pL t n nm l).1 := fun d => by
      rw [e9]; have := (ih d).1; rwa [show d + (7 * l + 9) + 3 = d + 7 * l + 12 by omega]
    have hS : ∀ d, ccon G A R W Lw n t nm mi_X5_inner [] 1 4 (d + (7 * l + 9)) (nI (9 - (l + 1)) + 1) (6 * l) (pL t n nm l).2 := fun d => by
      rw [e9]; have := (ih d).2; rwa [show d + (7 * l + 9) = d + 7 * l + 9 by omega]
    have pa := pos_atom (t := t) (nm := nm) q1 q2
    have hA : ∀ d, ccon G A R W Lw n t nm mi_X5_atom [none, none] (2 + 1) 2 (d + (7 * l + 12) + 1) (nI (9 - (l + 1))) (6 * l + 1) (pAtom t n nm (pL t n nm l).1 (pL t n nm l).2) := fun d => by
      have := c_atom (d := d) hW hS q1 q2 (by omega)
      rwa [show d + (7 * l + 12) + 1 = d + (7 * l + 9) + 4 by omega]
    have hI : ∀ d, ccon G A R W Lw n t nm mi_X5_item [none, none] (1 + 1) 3 (d + (7 * l + 13) + 1) (nI (9 - (l + 1))) (6 * l + 1 + 1) (pItem t n nm (pL t n nm l).1 (pL t n nm l).2) := fun d => by
      have := c_item (d := d) (s := 2) hA pa (by omega) (by omega)
      rwa [show d + (7 * l + 13) + 1 = d + (7 * l + 12) + 2 by omega]
    have pi := pos_chain (t := t) (ops := [42, 47, 37]) pa
    have hU : ∀ d, ccon G A R W Lw n t nm mi_X5_sum [none, none] 1 4 (d + (7 * l + 13) + 2) (nI (9 - (l + 1))) (6 * l + 1 + 1 + 1) (pSum t n nm (pL t n nm l).1 (pL t n nm l).2) := fun d => c_sum (d := d) (s := 3) hI pi (by omega) (by omega)
    have pu := pos_sum (t := t) (nm := nm) q1 q2
    have hO : ∀ d, ccoB G A R W Lw n t nm 1 4 (d + (7 * l + 14) + 2) (nI (9 - (l + 1))) (6 * l + 1 + 1 + 1 + 1) (pOne t n (pSum t n nm (pL t n nm l).1 (pL t n nm l).2)) := fun d => by
      have := c_one (d := d) hU pu (by omega)
      rwa [show d + (7 * l + 14) + 2 = d + (7 * l + 13) + 3 by omega]
    constructor
    · have := c_whole (d := d + 2) (c := 7 * l + 14) (m := 9 - (l + 1)) (dp := 6 * l + 4) (W' := (pL t n nm l).1) (U := pSum t n nm (pL t n nm l).1 (pL t n nm l).2) (by omega) (fun d => by
        have := (hW (d + 4)).dm (dp' := 6 * l + 4 + 1) (by omega)
        rwa [show d + (7 * l + 14) + 2 = d + 4 + (7 * l + 9) + 3 by omega]) (fun d => by
        have := (hU (d + 1)).dm (dp' := 6 * l + 4 + 2) (by omega)
        rwa [show d + (7 * l + 14) + 2 = d + 1 + (7 * l + 13) + 2 by omega]) hO q1 pu (by omega)
      rw [show d + 7 * (l + 1) + 12 = d + 2 + (7 * l + 14) + 3 by omega, show 6 * (l + 1) = 6 * l + 4 + 2 by omega]
      exact this
    · have := (c_inner (d := d) (c := 7 * l + 13) (m := 9 - (l + 1)) (by omega) hU).dm (dp' := 6 * (l + 1)) (by omega)
      rw [show d + 7 * (l + 1) + 9 = d + (7 * l + 13) + 3 by omega]
      exact this
end

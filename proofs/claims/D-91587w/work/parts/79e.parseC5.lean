/-! ===== acts: the class reads wholes, by levels ===== -/
/-- as it was, below hi, but what the If f and its last compare l may change -/
def agf (lo hi f l : Nat) (h h' : ah_T) : Prop := ∀ a, lo ≤ a → a < hi → ah_kd h' a = ah_kd h a ∧ (∀ k, (a, k) ∉ [(f, 0), (f, 3), (f, 5), (f, 6), (l, 4)] → ah_R h' a k = ah_R h a k) ∧ (∀ k, a ≠ f → ah_I h' a k = ah_I h a k) ∧ ∀ k, ah_J h' a k = ah_J h a k
/-- an If under way -/
def IFs (G : ma_G) (A W lo : Nat) (g : ah_T) (l dp : Nat) (o : Bool) (B : PB) : Prop := CI G A W lo (ah_sz g) g lo l dp o B ∧ ah_R g l 4 = 0 ∧ ah_R g lo 0 = 0 ∧ ah_R g lo 5 = 0 ∧ ah_R g lo 6 = 0
section
variable {G : ma_G} {A R W Lw n p q s c c1 d dp T lo : Nat} {h g g2 : ah_T} {t : Nat → Nat} {nm : List Nat} {Q : Option ma_V → ah_T → Prop} {E : Nat → ah_T → Prop} {x : Int32} {D : PD} {W' S U : Nat → PR}
/-- one compare more, added -/
theorem c_iadd {l C dp : Nat} {o : Bool} {B B2 : PB} (X : IFs G A W lo g l dp o B) (hR : R < lo) (hW : W < lo) (m : pf (ah_sz g) R W g g2) (tc : CV G A W (ah_sz g) (ah_sz g2) g2 C dp B2) (r4 : ah_R g2 C 4 = 0) (hC : C ≠ 0)
    (K : ∀ h9, h9.1 = g2.1 → ah_ext g2 h9 → pf lo R W g2 h9 → (∀ a k, ah_I h9 a k = ah_I g2 a k) → (∀ a k, ah_J h9 a k = ah_J g2 a k) → IFs G A W lo h9 C dp o (fun v d => if o = true then B v d || B2 v d else B v d && B2 v d) → Q none h9) :
    ah_kd g2 lo = 20 ∧ MX G mi_X22_add d 0 [some (rv lo), some (rv C)] [] g2 Q E := by
  have X0 := X
  obtain ⟨⟨⟨x1, x2, x3, x4, x5⟩, ⟨x6, x7, x8, x9⟩, x10⟩, y1, y2, y3, y4⟩ := X0
  have sz := m.1.1
  have t1 := tc.1
  have t2 := tc.2.1
  obtain ⟨m1, m2, m3, m4⟩ := m.2 lo x2
  have kf : ah_kd g2 lo = 20 := m1.trans x3
  refine ⟨kf, v_X22_add ⟨kf, ?_⟩⟩
  rw [m2 2, m2 3, x5]
  refine ⟨fun _ => ⟨(m.2 l x7).1.trans x9, ((m.2 l x7).2.1 4).trans y1, fun h5 e5 X5 h6 e6 X6 => ?_⟩, fun z => absurd z x4⟩
  have rR : ∀ a k, ah_R h6 a k = if a = lo ∧ k = 3 then C else if a = l ∧ k = 4 then C else ah_R g2 a k := fun a k => by
    rw [e6, rd_RR]
    by_cases z : a = lo ∧ k = 3
    · rw [if_pos z, if_pos z]
    · rw [if_neg z, if_neg z, e5, rd_RR]
  have rI : ∀ a k, ah_I h6 a k = ah_I g2 a k := fun a k => by rw [e6, e5]; rfl
  have rJ : ∀ a k, ah_J h6 a k = ah_J g2 a k := fun a k => by rw [e6, e5]; rfl
  have rk : ∀ a, ah_kd h6 a = ah_kd g2 a := fun a => by rw [e6, e5]; rfl
  have rs : h6.1 = g2.1 := by rw [e6, e5]; rfl
  have sz6 : ah_sz h6 = ah_sz g2 := by unfold ah_sz; rw [rs]
  clear e6 e5
  have T6 : CV G A W (ah_sz g) (ah_sz g2) h6 C dp B2 := tc.ag (fun a b1 b2 _ => ⟨rk a, fun k _ => by rw [rR, if_neg (by omega), if_neg (by omega)], fun k _ => rI a k, fun k => rJ a k⟩)
  refine K h6 rs (X5.tr X6) ⟨X5.tr X6, fun a ha => ⟨rk a, fun k => by rw [rR, if_neg (by omega), if_neg (by omega)], fun k _ _ => rI a k, fun k _ => rJ a k⟩⟩ rI rJ ⟨?_, ?_, ?_, ?_, ?_⟩
  · refine CI.add X.1 (by omega) T6 (Nat.le_refl _) (by omega) hC (fun a b1 b2 => ?_) (by rw [rR, if_neg (by omega), if_pos ⟨rfl, rfl⟩]) (by rw [rR, if_pos ⟨rfl, rfl⟩])
    obtain ⟨v1, v2, v3, v4⟩ := m.2 a b2
    refine ⟨(rk a).trans v1, fun k hk => ?_, fun k _ => (rI a k).trans (v3 k (by omega) (by omega)), fun k => (rJ a k).trans (v4 k (by omega))⟩
    rw [rR, if_neg (fun z => hk (by rw [z.1, z.2]; simp)), if_neg (fun z => hk (by rw [z.1, z.2]; simp))]
    exact v2 k
  · rw [rR, if_neg (by omega), if_neg (by omega)]; exact r4
  · rw [rR, if_neg (by omega), if_neg (by omega), m2]; exact y2
  · rw [rR, if_neg (by omega), if_neg (by omega), m2]; exact y3
  · rw [rR, if_neg (by omega), if_neg (by omega), m2]; exact y4
/-- the tests joined -/
theorem c_whole_86 {k : Nat} {x3 : Int32} {o : Bool} (hk : (k = 3 ∧ x3 = 1 ∧ o = false) ∨ (k = 4 ∧ x3 = 0 ∧ o = true) ∨ (k = 0 ∧ x3 = 0 ∧ o = false)) (hO : ∀ d, ccoB G A R W Lw n t nm 1 4 (d + c + 2) x dp (pOne t n U)) (hUp : pos n U) (hc : 5 ≤ c) (hlo : Lw + 2 < lo) : ∀ (f : Nat) (g : ah_T) (q l : Nat) (B : PB), n - q < f → CPre R W Lw n t nm 4 q g → IFs G A W lo g l dp o B → ah_I g lo 4 = (if o = true then 1 else 0) →
    (∀ q' B' g' l', pTest t n U k f q B = .inr (q', B') → pf lo R W g g' → rdC g' R n t q' → IFs G A W lo g' l' dp o B' → ah_I g' lo 4 = (if o = true then 1 else 0) → ah_rc g ≤ ah_rc g' + 4 * (q' - q) → ah_rs g ≤ ah_rs g' + 28 * (q' - q) → MX G mi_X5_whole (d + c + 3) 129 [some (rv R), some (iv x), some (rv lo), none] [] g' Q E) →
    (∀ z g', pTest t n U k f q B = .inl z → CFlt lo R W n 4 q z g g' → E W g') →
    MX G mi_X5_whole (d + c + 3) 86 [some (rv R), some (iv x), some (rv lo), some (iv x3)] [] g Q E := by
  intro f
  induction f with
  | zero => intro g q l B hf; exact absurd hf (Nat.not_lt_zero _)
  | succ f ih =>
    intro g q l B hf P X e4 K1 K2
    have P' := P
    obtain ⟨⟨p1, p2, p3⟩, P2, P3, P4, P5, P6, P7, P8, P9⟩ := P'
    have lo2 : lo < ah_sz g := X.1.1.2.1
    have kf : ah_kd g lo = 20 := X.1.1.2.2.1
    have stop : ¬ ((k = 3 ∨ k = 4) ∧ tK 0 t n q = k) → MX G mi_X5_whole (d + c + 3) 129 [some (rv R), some (iv x), some (rv lo), none] [] g Q E := fun z => K1 q B g l (by rw [pTest, if_neg z]) pf.rf P5 X e4 (by omega) (by omega)
    have go : (k = 3 ∨ k = 4) → tK 0 t n q = k → MX G mi_X5_next (d + c + 2) 0 [some (rv R), none] [] g (Qv fun h5 => ah_ext g h5 → MX G mi_X5_one (d + c + 2) 0 [some (rv R), some (iv x), none, none, none] [] h5 (Qr fun r8 h7 => ah_ext h5 h7 → ah_kd h7 lo = 20 ∧ MX G mi_X22_add (d + c + 2) 0 [some (rv lo), some (rv r8)] [] h7 (Qv fun h10 => ah_ext h7 h10 → MX G mi_X5_whole (d + c + 3) 86 [some (rv R), some (iv x), some (rv lo), some (iv x3)] [] h10 Q E) E) E) E := fun hk2 hkk => by
      have hin : (k = 3 ∨ k = 4) ∧ tK 0 t n q = k := ⟨hk2, hkk⟩
      have s2 := tK_2 hkk
      have a := tE_s P4 (by rw [s2]; decide)
      refine c_nx (d := d + c + 1) P (by rw [s2]; decide) (fun g1 m1 Pn => ?_)
      intro _
      have u1 := sz_r m1
      have Pn' : CPre R W Lw n t nm 4 (tE t n q) g1 := P.fr (lo := lo) m1.pf hlo a.2 Pn.2.2.2.2.1 (by omega) (by omega)
      refine hO d g1 _ _ _ Pn' (fun q2 B2 g2 C un Cb => ?_) (fun z g2 un Cb => K2 z g2 (by rw [pTest, if_pos hin, un]) (CFlt.tr m1.pf (Cb.mn (by omega)) (by omega) (by omega)))
      intro _
      obtain ⟨C0, C1, C2, C3, C4, C5, C6⟩ := Cb
      have pq := pos_one hUp a.2 un
      have sz2 := C0.1.1
      have mg : pf (ah_sz g) R W g g2 := m1.pf.tr (C0.mn (by omega))
      rw [u1.1] at C2
      refine c_iadd X (by omega) (by omega) mg C2 C3 C4 (fun h9 rs9 xt m9 rI rJ X9 => ?_)
      intro _
      have s9 : ah_sz h9 = ah_sz g2 ∧ ah_rc h9 = ah_rc g2 ∧ ah_rs h9 = ah_rs g2 := by unfold ah_sz ah_rc ah_rs; rw [rs9]; exact ⟨rfl, rfl, rfl⟩
      have D9 : rdC h9 R n t q2 := C1.sm (fun j _ => rI R j) (rJ R 6)
      have f9 : pf lo R W g h9 := (mg.mn (by omega)).tr m9
      have Q9 : CPre R W Lw n t nm 4 q2 h9 := P.fr f9 hlo pq.2 D9 (by omega) (by omega)
      have ef : (fun (v : Nat → Int64) (d : Nat → Option Int64) => if o = true then B v d || B2 v d else B v d && B2 v d) = fun v d => if k = 3 then B v d && B2 v d else B v d || B2 v d := by
        funext v d
        rcases hk with z | z | z
        · rw [z.2.2, if_neg (by decide), if_pos z.1]
        · rw [z.2.2, if_pos rfl, if_neg (by omega)]
        · omega
      rw [ef] at X9
      refine ih h9 q2 C _ (by omega) Q9 X9 ?_ (fun q' B' g' l' un2 m' D' X' e' b1 b2 => ?_) (fun z g' un2 C' => ?_)
      · rw [rI, (mg.2 lo lo2).2.2.1 4 (by omega) (by omega)]; exact e4
      · have pq2 := pos_test hUp pq.2 un2
        refine K1 q' B' g' l' (by rw [pTest, if_pos hin, un]; exact un2) (f9.tr m') D' X' e' (by omega) (by omega)
      · exact K2 z g' (by rw [pTest, if_pos hin, un]; exact un2) (CFlt.tr f9 C' (by omega) (by omega))
    obtain ⟨c', rfl⟩ : ∃ c', c = c' + 5 := ⟨c - 5, by omega⟩
    have at98 : (k = 3 → tK 0 t n q ≠ 3) → (k = 3 ∨ k = 4 ∨ k = 0) → MX G mi_X5_whole (d + (c' + 5) + 3) 98 [some (rv R), some (iv x), some (rv lo), some (iv x3)] [] g Q E := fun n3 _ => by
      refine v_X5_whole_98 (d := d + (c' + 5)) P2 ⟨kf, ?_⟩
      rw [e4]
      rcases hk with z | z | z
      · rw [z.2.2]
        refine ⟨fun _ => stop (fun w => n3 z.1 (by rw [w.2, z.1]; rfl)), fun w => absurd rfl w⟩
      · rw [z.2.2]
        refine ⟨fun w => absurd w (by decide), fun _ => ?_⟩
        refine c_isK (d := d + c') (k := 4) (by decide) P (fun r4 hr4 => ?_)
        intro _
        by_cases w : tK 0 t n q = 4
        · rw [if_pos (show tK 0 t n q = ((4 : Nat) : Int) from w)] at hr4
          rw [hr4]
          refine ⟨fun y => absurd y (by decide), fun _ => ?_⟩
          have gg := go (Or.inr z.1) (by rw [z.1]; exact w)
          refine gg.mono (fun v h5 hq => ?_) (fun _ _ y => y)
          rcases v with _ | v
          · intro xt
            refine (hq xt).mono (fun v h7 hq2 => ?_) (fun _ _ y => y)
            rcases v with _ | v
            · exact hq2
            · rcases v with _ | _ | r
              · exact hq2
              · exact hq2
              · exact fun xt => (hq2 xt).2
          · exact hq
        · rw [if_neg (show ¬ tK 0 t n q = ((4 : Nat) : Int) from w)] at hr4
          rw [hr4]
          exact ⟨fun _ => stop (fun y => w (by rw [y.2, z.1]; rfl)), fun y => absurd rfl y⟩
      · rw [z.2.2]
        exact ⟨fun _ => stop (fun w => by omega), fun w => absurd rfl w⟩
    refine v_X5_whole_86 (d := d + (c' + 5)) P2 ?_
    rcases hk with z | z | z
    · rw [z.2.1]
      refine ⟨fun w => absurd w (by decide), fun _ => ?_⟩
      refine c_isK (d := d + c') (k := 3) (by decide) P (fun r3 hr3 => ?_)
      intro _
      by_cases w : tK 0 t n q = 3
      · rw [if_pos (show tK 0 t n q = ((3 : Nat) : Int) from w)] at hr3
        rw [hr3]
        refine ⟨fun _ => ?_, fun y => absurd y (by decide)⟩
        have gg := go (Or.inl z.1) (by rw [z.1]; exact w)
        rw [z.2.1] at gg
        exact gg
      · rw [if_neg (show ¬ tK 0 t n q = ((3 : Nat) : Int) from w)] at hr3
        rw [hr3]
        refine ⟨fun y => absurd rfl y, fun _ => ?_⟩
        have a98 := at98 (fun _ => w) (Or.inl z.1)
        rw [z.2.1] at a98
        exact a98
    · rw [z.2.1]
      have a98 := at98 (fun y => by omega) (Or.inr (Or.inl z.1))
      rw [z.2.1] at a98
      exact ⟨fun _ => a98, fun w => absurd rfl w⟩
    · rw [z.2.1]
      have a98 := at98 (fun y => by omega) (Or.inr (Or.inr z.1))
      rw [z.2.1] at a98
      exact ⟨fun _ => a98, fun w => absurd rfl w⟩
/-- behind the tests: then, else -/
theorem c_whole_129 {l : Nat} {o : Bool} {B : PB} (hW : ∀ d, ccon G A R W Lw n t nm mi_X5_whole [none, none] 1 4 (d + c + 2) (x + 1) (dp + 1) W') (hWp : pos n W') (hc : 5 ≤ c) (hlo : Lw + 2 < lo) (P : CPre R W Lw n t nm 4 q g) (X : IFs G A W lo g l dp o B) (e4 : ah_I g lo 4 = (if o = true then 1 else 0))
    (K1 : ∀ q' D' g', (if tK 0 t n q = 1 then (match W' (tE t n q) with
      | .inl e => (.inl e : PR)
      | .inr (q2, A) => if tK 0 t n q2 = 2 then (match W' (tE t n q2) with
        | .inl e => .inl e
        | .inr (q3, C) => .inr (q3, fun v d => if B v d then A v d else C v d)) else .inl (pw t n q2 2)) else .inl (pw t n q 2)) = .inr (q', D') → pf lo R W g g' → rdC g' R n t q' → TV G A W lo (ah_sz g') g' lo (dp + 2) D' → ah_R g' lo 0 = 0 → ah_rc g ≤ ah_rc g' + 4 * (q' - q) → ah_rs g ≤ ah_rs g' + 28 * (q' - q) → Q (some (rv lo)) g')
    (K2 : ∀ z g', (if tK 0 t n q = 1 then (match W' (tE t n q) with
      | .inl e => (.inl e : PR)
      | .inr (q2, A) => if tK 0 t n q2 = 2 then (match W' (tE t n q2) with
        | .inl e => .inl e
        | .inr (q3, C) => .inr (q3, fun v d => if B v d then A v d else C v d)) else .inl (pw t n q2 2)) else .inl (pw t n q 2)) = .inl z → CFlt lo R W n 4 q z g g' → E W g') :
    MX G mi_X5_whole (d + c + 3) 129 [some (rv R), some (iv x), some (rv lo), none] [] g Q E := by
  have P' := P
  obtain ⟨⟨p1, p2, p3⟩, P2, P3, P4, P5, P6, P7, P8, P9⟩ := P'
  obtain ⟨X1, y1, y2, y3, y4⟩ := X
  have X1' := X1
  obtain ⟨⟨x1, x2, x3, x4, x5⟩, ⟨x6, x7, x8, x9⟩, -⟩ := X1'
  obtain ⟨c', rfl⟩ : ∃ c', c = c' + 5 := ⟨c - 5, by omega⟩
  refine v_X5_whole_129 (d := d + (c' + 5)) P2 ?_
  refine c_isK (d := d + c') (k := 1) (by decide) P (fun r2 hr2 => ?_)
  intro _
  by_cases z1 : tK 0 t n q = 1
  rotate_left
  · rw [if_neg (show ¬ tK 0 t n q = ((1 : Nat) : Int) from z1)] at hr2
    rw [if_neg z1] at K2
    rw [hr2]
    exact ⟨fun w => absurd rfl w, fun _ => wc_ok (k := 2) rfl P (K2 (pw t n q 2) _ rfl CFlt.w)⟩
  rw [if_pos (show tK 0 t n q = ((1 : Nat) : Int) from z1)] at hr2
  rw [if_pos z1] at K1 K2
  rw [hr2]
  refine ⟨fun _ => ?_, fun w => absurd w (by decide)⟩
  have s2 := tK_2 (k := 1) z1
  have a := tE_s P4 (by rw [s2]; decide)
  refine c_nx (d := d + (c' + 6)) P (by rw [s2]; decide) (fun g1 m1 Pn => ?_)
  intro _
  have u1 := sz_r m1
  have Pn' : CPre R W Lw n t nm 4 (tE t n q) g1 := P.fr (lo := lo) m1.pf hlo a.2 Pn.2.2.2.2.1 (by omega) (by omega)
  refine hW d g1 _ _ _ Pn' (fun qa Da g2 Ta una Ca => ?_) (fun z g2 una Ca => K2 z g2 (by rw [una]) (CFlt.tr m1.pf (Ca.mn (by omega)) (by omega) (by omega)))
  intro _
  obtain ⟨A0, A1, A2, A3, A4, A5, A6⟩ := Ca
  have pa := hWp _ _ _ a.2 una
  have sz2 := A0.1.1
  have ta1 := A2.1
  have ta2 := A2.2.1
  have m2 : pf (ah_sz g) R W g g2 := m1.pf.tr (A0.mn (by omega))
  obtain ⟨v1, v2, v3, v4⟩ := m2.2 lo x2
  rw [una] at K1 K2
  simp only at K1 K2
  refine ⟨v1.trans x3, (v2 5).trans y3, fun g3 e3 X3 => ?_⟩
  have r3 : ∀ b k, ah_R g3 b k = if b = lo ∧ k = 5 then Ta else ah_R g2 b k := fun b k => by rw [e3, rd_RR]
  have i3 : ∀ b k, ah_I g3 b k = ah_I g2 b k := fun b k => by rw [e3, rd_IR]
  have j3 : ∀ b k, ah_J g3 b k = ah_J g2 b k := fun b k => by rw [e3, rd_JR]
  have k3 : ∀ b, ah_kd g3 b = ah_kd g2 b := fun b => by rw [e3, rd_kR]
  have s3 : ah_sz g3 = ah_sz g2 ∧ ah_rc g3 = ah_rc g2 ∧ ah_rs g3 = ah_rs g2 := by rw [e3]; exact ⟨rfl, rfl, rfl⟩
  clear e3
  have m3 : pf lo R W g g3 := (m2.mn (by omega)).tr ⟨X3, fun b hb => ⟨k3 b, fun k => by rw [r3, if_neg (by omega)], fun k _ _ => i3 b k, fun k _ => j3 b k⟩⟩
  have D3 : rdC g3 R n t qa := A1.sm (fun j _ => i3 R j) (j3 R 6)
  have Pa : CPre R W Lw n t nm 4 qa g3 := P.fr m3 hlo pa.2 D3 (by omega) (by omega)
  refine c_isK (d := d + c') (k := 2) (by decide) Pa (fun r12 hr12 => ?_)
  intro _
  by_cases z2 : tK 0 t n qa = 2
  rotate_left
  · rw [if_neg (show ¬ tK 0 t n qa = ((2 : Nat) : Int) from z2)] at hr12
    rw [if_neg z2] at K2
    rw [hr12]
    exact ⟨fun w => absurd rfl w, fun _ => wc_ok (k := 2) rfl Pa (K2 (pw t n qa 2) _ rfl (CFlt.tr m3 (CFlt.w (n := n) (s := 0) (p := n)) (by omega) (by omega)))⟩
  rw [if_pos (show tK 0 t n qa = ((2 : Nat) : Int) from z2)] at hr12
  rw [if_pos z2] at K1 K2
  rw [hr12]
  refine ⟨fun _ => ?_, fun w => absurd w (by decide)⟩
  have s2a := tK_2 (k := 2) z2
  have a2 := tE_s pa.2 (by rw [s2a]; decide)
  refine c_nx (d := d + (c' + 6)) Pa (by rw [s2a]; decide) (fun g4 m4 Pn4 => ?_)
  intro _
  have u4 := sz_r m4
  have f4 : pf lo R W g g4 := m3.tr m4.pf
  have Pn4' : CPre R W Lw n t nm 4 (tE t n qa) g4 := P.fr f4 hlo a2.2 Pn4.2.2.2.2.1 (by omega) (by omega)
  refine hW d g4 _ _ _ Pn4' (fun qb Db g5 Tb unb Cb => ?_) (fun z g5 unb Cb => K2 z g5 (by rw [unb]) (CFlt.tr f4 (Cb.mn (by omega)) (by omega) (by omega)))
  intro _
  obtain ⟨B0, B1, B2, B3, B4, B5, B6⟩ := Cb
  have pb := hWp _ _ _ a2.2 unb
  have sz5 := B0.1.1
  have tb1 := B2.1
  have tb2 := B2.2.1
  rw [unb] at K1
  simp only at K1
  have m35 : pf (ah_sz g3) R W g3 g5 := m4.pf.tr (B0.mn (by omega))
  obtain ⟨w1, w2, w3, w4⟩ := m35.2 lo (by omega)
  refine ⟨by rw [w2, r3, if_neg (by omega), v2]; exact y4, fun g6 e6 X6 => ?_⟩
  have r6 : ∀ b k, ah_R g6 b k = if b = lo ∧ k = 6 then Tb else ah_R g5 b k := fun b k => by rw [e6, rd_RR]
  have i6 : ∀ b k, ah_I g6 b k = ah_I g5 b k := fun b k => by rw [e6, rd_IR]
  have j6 : ∀ b k, ah_J g6 b k = ah_J g5 b k := fun b k => by rw [e6, rd_JR]
  have k6 : ∀ b, ah_kd g6 b = ah_kd g5 b := fun b => by rw [e6, rd_kR]
  have s6 : ah_sz g6 = ah_sz g5 ∧ ah_rc g6 = ah_rc g5 ∧ ah_rs g6 = ah_rs g5 := by rw [e6]; exact ⟨rfl, rfl, rfl⟩
  clear e6
  have m6 : pf lo R W g g6 := ((m3.tr (m35.mn (by omega)))).tr ⟨X6, fun b hb => ⟨k6 b, fun k => by rw [r6, if_neg (by omega)], fun k _ _ => i6 b k, fun k _ => j6 b k⟩⟩
  have D6 : rdC g6 R n t qb := B1.sm (fun j _ => i6 R j) (j6 R 6)
  have TA : TV G A W (ah_sz g1) (ah_sz g2) g6 Ta (dp + 1) Da := A2.ag (fun b b1 b2 _ => by
    obtain ⟨n1, n2, n3, n4⟩ := m35.2 b (by omega)
    exact ⟨by rw [k6, n1, k3], fun k _ => by rw [r6, if_neg (by omega), n2, r3, if_neg (by omega)], fun k _ => by rw [i6, n3 k (by omega) (by omega), i3], fun k => by rw [j6, n4 k (by omega), j3]⟩)
  have TB : TV G A W (ah_sz g4) (ah_sz g5) g6 Tb (dp + 1) Db := B2.ag (fun b b1 b2 _ => ⟨k6 b, fun k _ => by rw [r6, if_neg (by omega)], fun k _ => i6 b k, fun k => j6 b k⟩)
  have agI : agf lo (ah_sz g) lo l g g6 := fun b b1 b2 => by
    obtain ⟨n1, n2, n3, n4⟩ := m2.2 b b2
    obtain ⟨o1, o2, o3, o4⟩ := m35.2 b (by omega)
    refine ⟨by rw [k6, o1, k3, n1], fun k hk => ?_, fun k hk => by rw [i6, o3 k (by omega) (by omega), i3, n3 k (by omega) (by omega)], fun k => by rw [j6, o4 k (by omega), j3, n4 k (by omega)]⟩
    rw [r6, if_neg (fun z => hk (by rw [z.1, z.2]; simp)), o2, r3, if_neg (fun z => hk (by rw [z.1, z.2]; simp)), n2]
  have X6' : CI G A W lo (ah_sz g) g6 lo l dp o B := by
    obtain ⟨⟨q1, q2, q3, q4, q5⟩, ⟨q6, q7, q8, q9⟩, q10⟩ := X1
    have h2 : ah_R g6 lo 2 = ah_R g lo 2 := (agI lo q1 q2).2.1 2 (by simp [q8.symm])
    have h3 : ah_R g6 lo 3 = l := by rw [r6, if_neg (by omega), w2, r3, if_neg (by omega), v2]; exact q5
    refine ⟨⟨q1, q2, (agI lo q1 q2).1.trans q3, by rw [h2]; exact q4, h3⟩, ⟨q6, q7, q8, (agI l q6 q7).1.trans q9⟩, fun gg d Q E ag e as KA KB => q10 gg d Q E (fun b b1 b2 b3 => ?_) e as KA KB⟩
    obtain ⟨n1, n2, n3, n4⟩ := agI b b1 b2
    obtain ⟨o1, o2, o3, o4⟩ := ag b b1 b2 (by unfold tk; rw [n1]; exact b3)
    exact ⟨o1.trans n1, fun k hk => (o2 k hk).trans (n2 k hk), fun k hk => (o3 k hk).trans (n3 k hk), fun k => (o4 k).trans (n4 k)⟩
  have l4 : ah_R g6 l 4 = 0 := by
    rw [r6, if_neg (by omega), (m35.2 l (by omega)).2.1, r3, if_neg (by omega), (m2.2 l x7).2.1]; exact y1
  refine K1 qb _ g6 rfl m6 D6 (CI.tv X6' (by omega) l4 (by rw [i6, w3 4 (by omega) (by omega), i3, v3 4 (by omega) (by omega)]; exact e4) (by rw [r6, if_neg (by omega), w2, r3, if_pos ⟨rfl, rfl⟩]) (by rw [r6, if_pos ⟨rfl, rfl⟩]) TA TB (by omega) (by omega) (by omega) (by omega) (by omega) (by omega)) (by rw [r6, if_neg (by omega), w2, r3, if_neg (by omega), v2]; exact y2) (by omega) (by omega)
end

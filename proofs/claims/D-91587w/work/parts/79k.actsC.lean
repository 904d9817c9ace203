/-! ===== acts: the class ===== -/
/-- what acts leaves if the text stands -/
def cpt (G : ma_G) (X : Nat) (h h1 : ah_T) (S : MS) (x2 : Int32) (nm : List Nat) (Ds : List PD) : Prop := LY0 h1 X ∧ cfr X h h1 ∧ ah_ext h h1 ∧ ah_rc h ≤ ah_rc h1 + 4000 ∧ ah_rs h ≤ ah_rs h1 + 40000 ∧ CIx h1 X ∧ ∀ S2, txt S S2 x2 nm Ds → CI0 h1 X S2 ∧ CIl G h1 X S2
section
variable {G : ma_G} {A W X L d u : Nat} {h h' : ah_T} {S S' S2 : MS} {nm : List Nat} {Ds : List PD} {Q : Option ma_V → ah_T → Prop} {E : Nat → ah_T → Prop} {x1 x2 : Int32}
theorem CIt.lv {ts tm : Nat → Int32} {nu : Nat → Int64} {t : Nat} (x : CIt h X ts tm nu) (ht : t < 4) (h0 : ah_R h (X + (1494 + t)) 0 ≠ 0) : ah_kd h (ah_R h (X + (1494 + t)) 0) ≠ 0 := by
  rcases x.1 t ht with ⟨p1, -⟩ | ⟨-, -, m, -, -, -, p6⟩
  · exact absurd p1 h0
  · exact p6.k0
theorem MDs.cg {m m' bg bg' : Nat → Int32} {b : Nat} (x : MDs m bg nm Ds b) (hl : nm.length ≤ 10) (hb : b ≤ 500) (hm : ∀ k, k < 500 → m' k = m k) (hg : ∀ k, k ≤ 10 → bg' k = bg k) : MDs m' bg' nm Ds b := by
  obtain ⟨y1, y2, bs, y3, y4, y5, y6⟩ := x
  have up : ∀ j i, i + j = nm.length → bs i ≤ b := fun j => by
    induction j with
    | zero => intro i e; rw [show i = nm.length by omega, y4]; exact Nat.le_refl _
    | succ j ih => intro i e; exact Nat.le_trans (y6 i (by omega)).1 (ih (i + 1) (by omega))
  refine ⟨y1, y2, bs, y3, y4, fun i hi => by rw [hg i (by omega)]; exact y5 i hi, fun i hi => ⟨(y6 i hi).1, (y6 i hi).2.ag (fun j h1 h2 => (hm j ?_).symm)⟩⟩
  have := up (nm.length - (i + 1)) (i + 1) (by omega)
  omega
theorem ly0_L5 (L : LY0 h X) : LY5 h (X + 1431) := by
  refine ⟨ly0_K_1431 L, fun q hq => ?_⟩
  rw [show lyT5 = [(0, 6, 0, 1, 42, 500)] from rfl, List.mem_singleton] at hq
  rw [hq]
  exact ⟨ly0_K_1431 L, ly0_R_1431_0 L, ly0_K_1432 L, ly0_N_1432 L⟩
/-- what the reader leaves -/
def rfr (X : Nat) (h g : ah_T) : Prop := ∀ a, a < ah_sz h → ah_kd g a = ah_kd h a ∧ (∀ k, ¬ (a = X + 1431 ∧ k = 7) → ah_R g a k = ah_R h a k) ∧ (∀ k, ¬ (a = X + 1431 ∧ 2 ≤ k ∧ k ≤ 6) → ¬ (a = X + 1430 ∧ 6 ≤ k) → ah_I g a k = ah_I h a k) ∧ ∀ k, ¬ (a = X + 1431 ∧ 2 ≤ k ∧ k ≤ 6) → ah_J g a k = ah_J h a k
theorem rfr.dy {g : ah_T} {P : Nat → Nat → Prop} (x : rfr X h g) (xt : ah_ext h g) (lv : ah_liv h) : dyn P (X + 1431, 7) X h g := by
  refine ⟨fun a ha => ⟨(xt.2 a ha).1, (xt.2 a ha).2.1⟩, fun a k _ ha he => (x a (lv a ha)).2.1 k (fun z => he (by rw [z.1, z.2])), fun a k h1 h2 ha _ => ?_⟩
  exact ⟨(x a (lv a ha)).2.2.1 k (by omega) (by omega), (x a (lv a ha)).2.2.2 k (by omega)⟩
theorem rfr.cf {g : ah_T} (x : rfr X h g) (hs : X + 1576 ≤ ah_sz h) : cfr X h g := fun a k ha =>
  ⟨(x a (by omega)).2.2.1 k (by omega) (by omega), (x a (by omega)).2.2.2 k (by omega)⟩
theorem c_acts (L : LY0 h X) (C : CI0 h X S) (T : CIl G h X S) (CX : CIx h X) (RM : X + 1576 ≤ ah_sz h ∧ 4000 ≤ ah_rc h ∧ 40000 ≤ ah_rs h) (lv : ah_liv h)
    (Kf : wy_acts S x1 x2 ≠ 0 → ∀ h1, cpo X h h1 (uI S 0 0 (wy_acts S x1 x2)) → Q (some (iv (-1))) h1)
    (Ke : wy_acts S x1 x2 = 0 → ∀ z, rActs S x1 = .inl z → ∀ h1, cpo X h h1 (se_acts S z) → Q (some (iv (-1))) h1)
    (Kg : wy_acts S x1 x2 = 0 → ∀ nm Ds, rActs S x1 = .inr (nm, Ds) → ∀ h1, cpt G X h h1 S x2 nm Ds → Q (some (iv (nI nm.length))) h1) :
    MX G mi_X0_acts (d + 71) 0 [some (rv X), some (iv x1), some (iv x2), none, none] [] h Q E := by
  have iP := C.iP
  have iT := C.iT
  have fail : ∀ c : Int32, c ≠ 0 → wy_acts S x1 x2 = c → ∀ h2 : ah_T, h2 = ah_wI h X 20 c → ah_ext h h2 → Q (some (iv (-1))) h2 := fun c hc w h2 e2 X2 => by
    subst e2
    exact Kf (by rw [w]; exact hc) _ (by rw [w]; exact cpo.st L C X2)
  refine v_X0_acts (d := d + 70) L ?_
  rw [iP.1, iT.1]
  have p5 := iP.2
  have t4 := iT.2
  have eP : (nI (nP S)).toInt = nP S := nI_x (by omega)
  refine ⟨fun c1 => fail 5 (by decide) ?_, fun c1 => ⟨fun c2 => fail 5 (by decide) ?_, fun c2 => ⟨fun c3 => fail 5 (by decide) ?_, fun c3 => ⟨fun c4 => fail 5 (by decide) ?_, fun c4 => ⟨fun c5 => ?_, fun c5 => fail 7 (by decide) ?_⟩⟩⟩⟩⟩
  · simp only [i3_lt, i3_le, i6_lt, i6_le, i3_eq, i3_l, Int32.reduceToInt, Int64.reduceToInt, tm_1, tl_1] at c1
    unfold wy_acts; rw [if_neg (by omega)]
  · simp only [i3_lt, i3_le, i6_lt, i6_le, i3_eq, i3_l, Int32.reduceToInt, Int64.reduceToInt, tm_1, tl_1] at c1 c2
    unfold wy_acts; rw [if_neg (by omega)]
  · simp only [i3_lt, i3_le, i6_lt, i6_le, i3_eq, i3_l, Int32.reduceToInt, Int64.reduceToInt, tm_1, tl_1] at c3
    unfold wy_acts; rw [if_neg (by omega)]
  · simp only [i3_lt, i3_le, i6_lt, i6_le, i3_eq, i3_l, Int32.reduceToInt, Int64.reduceToInt, tm_1, tl_1] at c4
    unfold wy_acts; rw [if_neg (by omega)]
  rotate_left
  · have e4 : nT S = 4 := by
      rw [show (4 : Int32) = nI 4 from rfl, nI_eq (by omega) (by omega)] at c5; exact c5
    simp only [i3_lt, i3_le, i6_lt, i6_le, i3_eq, i3_l, Int32.reduceToInt, Int64.reduceToInt, tm_1, tl_1] at c1 c2 c3 c4
    unfold wy_acts; rw [if_pos (by omega), if_pos e4]
  have hT : nT S < 4 := by
    rw [show (4 : Int32) = nI 4 from rfl, nI_eq (by omega) (by omega)] at c5; omega
  simp only [i3_lt, i3_le, i6_lt, i6_le, i3_eq, i3_l, Int32.reduceToInt, Int64.reduceToInt, tm_1, tl_1] at c1 c2 c3 c4
  have w_ : wy_acts S x1 x2 = 0 := by unfold wy_acts; rw [if_pos (by omega), if_neg (by omega)]
  obtain ⟨b1, b2⟩ := x_nI (x := x1) (n := nP S) (by omega) (by omega)
  have hs := RM.1
  intro h10 e10 X10 h11 e11 X11 h12 e12 X12
  have I12 : ∀ a k, ah_I h12 a k = if a = X ∧ k = 22 then -1 else if a = X ∧ k = 21 then 0 else if a = X + 1431 ∧ k = 1 then 0 else ah_I h a k := fun a k => by rw [e12, rd_II, e11, rd_II, e10, rd_II]
  have z12 : dyn pT (X + 1431, 7) X h h12 := by rw [e12, e11, e10]; exact ((dyn.rf.wI (by decide)).zI).zI
  have cf12 : cfr X h h12 := by rw [e12, e11, e10]; exact ((cfr.rf.wI (by omega)).zI).zI
  have s12 : h12.1 = h.1 ∧ ah_kd h12 = ah_kd h ∧ ah_R h12 = ah_R h ∧ ah_J h12 = ah_J h := by rw [e12, e11, e10]; exact ⟨rfl, rfl, rfl, rfl⟩
  have x12 : ah_ext h h12 := X10.tr (X11.tr X12)
  clear e10 e11 e12
  have sz12 : ah_sz h12 = ah_sz h ∧ ah_rc h12 = ah_rc h ∧ ah_rs h12 = ah_rs h := by unfold ah_sz ah_rc ah_rs; rw [s12.1]; exact ⟨rfl, rfl, rfl⟩
  have L12 := L.ext x12
  have lv12 : ah_liv h12 := fun b hb => by rw [sz12.1]; exact lv b (by rw [← s12.2.1]; exact hb)
  rw [b1]
  refine c_rdall (A := X + 1433) (W := X + 1430) (t := tbS S) (d := d) (ly0_L5 L12) (tbS_ok (by omega) (fun k => by rw [I12, if_neg (by omega), if_neg (by omega), if_neg (by omega)]; exact C.1.1 1432 35 (by decide) k)) rfl (ly0_R_1431_8 L12) (ly0_K_1430 L12) (by omega) (by omega) (by omega) (fun g nm Ds un xt fr nc ld sz rc rs => ?_) (fun z g un xt fr w6 w7 rc rs => ?_)
  · intro _
    have fr : rfr X h12 g := fr
    rw [sz12.1] at nc ld sz
    rw [sz12.1]
    have kX : ∀ k, k ≠ 20 → ah_I g X k = ah_I h12 X k := fun k _ => (fr X (by omega)).2.2.1 k (by omega) (by omega)
    have e18 : ah_I g X 18 = nI (nT S) := by rw [kX 18 (by decide), I12, if_neg (by omega), if_neg (by omega), if_neg (by omega)]; exact iT.1
    rw [e18, nI_clamp (by omega)]
    refine ⟨ly17_k nc.1, fun h16 e16 X16 => ⟨vp_in_nI (by omega) (by decide), ?_, fun h19 e19 X19 h20 e20 X20 h21 e21 X21 => ?_⟩⟩
    · rw [e16, rd_RI, (fr _ (by omega)).2.1 _ (by omega), s12.2.2.1]; exact (T _ hT).2 (Nat.le_refl _)
    rw [nc.2.2.1]
    have R21 : ∀ a k, ah_R h21 a k = if a = X + 1437 ∧ k = nT S then ah_sz h else ah_R g a k := fun a k => by rw [e21, rd_RI, e20, rd_RI, e19, rd_RR, e16, rd_RI]
    have I21 : ∀ a k, ah_I h21 a k = if a = X ∧ k = 20 then 0 else if a = X ∧ k = 18 then nI (nT S + 1) else if a = ah_sz h ∧ k = 3 then x2 else ah_I g a k := fun a k => by
      rw [e21, rd_II, e20, rd_II, e19, rd_IR, e16, rd_II, nI_1]
    have s21 : h21.1 = g.1 ∧ ah_kd h21 = ah_kd g ∧ ah_ln h21 = ah_ln g ∧ ah_J h21 = ah_J g := by rw [e21, e20, e19, e16]; exact ⟨rfl, rfl, rfl, rfl⟩
    have xg : ah_ext g h21 := X16.tr (X19.tr (X20.tr X21))
    clear e21 e20 e19 e16
    have Lg := L12.ext xt
    have z1 : dyn pT (X + 1431, 7) X h g := z12.tr (fr.dy xt lv12)
    have z2 : dyn (fun a _ => a ≠ 16) (X + 1437, nT S) X g h21 := ⟨fun a _ => ⟨by rw [s21.2.1], by rw [s21.2.2.1]⟩, fun a k _ _ he => by rw [R21, if_neg (fun z => he (by rw [z.1, z.2]))], fun a k h1 h2 _ hp => ⟨by rw [I21, if_neg (by omega), if_neg (by omega), if_neg (fun z => hp (by rw [z.1]; exact ly17_k nc.1))], by rw [s21.2.2.2]⟩⟩
    have cg : cfr X h g := cf12.tr (fr.cf (by omega))
    have xh : ah_ext h h21 := x12.tr (xt.tr xg)
    have ro : ∀ a k, a < ah_sz h → ¬ (a = X + 1431 ∧ k = 7) → ah_R g a k = ah_R h a k := fun a k ha hk => by rw [(fr a (by omega)).2.1 k hk, s12.2.2.1]
    refine Kg w_ nm Ds ?_ h21 ⟨L.ext xh, cg.tr (fun a k ha => ⟨by rw [I21, if_neg (by omega), if_neg (by omega), if_neg (by omega)], by rw [s21.2.2.2]⟩), xh, ?_, ?_, ?_, fun S2 tx => ?_⟩
    · unfold rActs; exact un
    · have : ah_rc h21 = ah_rc g := by unfold ah_rc; rw [s21.1]
      omega
    · have : ah_rs h21 = ah_rs g := by unfold ah_rs; rw [s21.1]
      omega
    · intro t u ht hu h0 h1
      have eT : ah_R h21 (X + (1494 + t)) 0 = ah_R h (X + (1494 + t)) 0 := by rw [R21, if_neg (fun z => absurd z.1 (by omega)), ro _ _ (by omega) (by omega)]
      rw [eT] at h0 ⊢
      by_cases c : u = nT S
      · have eu : ah_R h21 (X + 1437) u = ah_sz h := by rw [R21, if_pos ⟨rfl, c⟩]
        rw [eu]
        intro e
        have k0 := CIt.lv C.2.2.2.2.1 ht h0
        have := lv _ k0
        omega
      · have eu : ah_R h21 (X + 1437) u = ah_R h (X + 1437) u := by rw [R21, if_neg (fun z => c z.2), ro _ _ (by omega) (by omega)]
        rw [eu] at h1 ⊢
        exact CX t u ht hu h0 h1
    obtain ⟨t1, t2, ⟨t3, t4', t5, t6, t7⟩, t8, t9, t10, t11, t12, ⟨t13, t14⟩, b, t15, t16⟩ := tx
    have ke : kt S S2 := ⟨t1, t2⟩
    have nT2 : nT S2 = nT S + 1 := by unfold nT; rw [t7, nI_clamp (by omega)]; rfl
    have nP2 : nP S2 = 0 := by unfold nP; rw [t4']; rfl
    have W2 : WF S2 := C.2.2.2.2.2.kt ke ⟨by rw [nT2]; exact t7, by omega⟩ ⟨by rw [nP2]; exact t4', by omega⟩
    refine ⟨CI0.tx ((C.2.1.dy L z1 (fun _ => ⟨trivial, trivial⟩) ⟨by show X + 1431 < _; omega, by show X + 1431 ≠ _; omega⟩).dy Lg z2 (fun _ => ⟨by decide, by decide⟩) ⟨by show X + 1437 < _; omega, by show X + 1437 ≠ _; omega⟩)
      ((C.2.2.1.dy L z1 (fun _ => trivial) ⟨by show X + 1431 < _; omega, by show X + 1431 ≠ _; omega⟩).dy Lg z2 (fun _ => by decide) ⟨by show X + 1437 < _; omega, by show X + 1437 ≠ _; omega⟩)
      ((C.2.2.2.1.dy L z1 (fun _ _ _ _ _ => trivial) ⟨by show X + 1431 < _; omega, by show X + 1431 ≠ _; omega⟩ (fun q => absurd q (by show X + 1431 ≠ _; omega))).dy Lg z2 (fun a _ h1 h2 _ => by show a ≠ 16; omega) ⟨by show X + 1437 < _; omega, by show X + 1437 ≠ _; omega⟩ (fun q => absurd q (by show X + 1437 ≠ _; omega)))
      ((C.2.2.2.2.1.dy L z1 (fun _ _ _ => trivial) (by show X + 1431 < _; omega)).dy Lg z2 (fun a _ ha => by show a ≠ 16; omega) (by show X + 1437 < _; omega)) ?_ W2 ke, fun u hu => ?_⟩
    · refine C.1.tx ke (fun c k h1 h2 h3 h4 => ?_) ?_ ?_ ?_ ?_ ?_
      · rw [I21, if_neg (by omega), if_neg (by omega), if_neg (by omega), (fr _ (by omega)).2.2.1 k (by omega) (by omega), I12, if_neg (by omega), if_neg (by omega), if_neg (by omega)]
      · rw [I21, if_neg (by omega), if_pos ⟨rfl, rfl⟩]; exact t7.symm
      · rw [I21, if_pos ⟨rfl, rfl⟩]; exact t3.symm
      · rw [I21, if_neg (by omega), if_neg (by omega), if_neg (by omega), kX 21 (by decide), I12, if_neg (by omega), if_pos ⟨rfl, rfl⟩]; exact t5.symm
      · rw [I21, if_neg (by omega), if_neg (by omega), if_neg (by omega), kX 22 (by decide), I12, if_pos ⟨rfl, rfl⟩]; exact t6.symm
      · rw [I21, if_neg (by omega), if_neg (by omega), if_neg (by omega), (fr _ (by omega)).2.2.1 1 (by omega) (by omega), I12, if_neg (by omega), if_neg (by omega), if_pos ⟨rfl, rfl⟩]; exact t4'.symm
    rw [nT2]
    rcases Nat.lt_trichotomy u (nT S) with c | c | c
    · refine ⟨fun _ => ?_, fun z => by omega⟩
      obtain ⟨nm', Ds', ⟨y1, y2, y3, y4⟩, y5, y6, y7, y8, b', y9, y10⟩ := (T u hu).1 c
      have er : ah_R h21 (X + 1437) u = ah_R h (X + 1437) u := by rw [R21, if_neg (by omega), ro _ _ (by omega) (by omega)]
      rw [er]
      have kL := ly17_k y2.1
      have k1 := lv _ (show ah_kd h (ah_R h (X + 1437) u) ≠ 0 by omega)
      have k2 := lv _ (show ah_kd h (ah_R h (X + 1437) u + 1) ≠ 0 by rw [ly17_K_1 y2.1]; decide)
      have k3 := lv _ (show ah_kd h (ah_R h (X + 1437) u + 2) ≠ 0 by rw [ly17_K_2 y2.1]; decide)
      have Io : ∀ a k, X + 1576 ≤ a → a < ah_sz h → ah_I h21 a k = ah_I h a k := fun a k q1 q2 => by
        rw [I21, if_neg (by omega), if_neg (by omega), if_neg (by omega), (fr _ (by omega)).2.2.1 k (by omega) (by omega), I12, if_neg (by omega), if_neg (by omega), if_neg (by omega)]
      have Jo : ∀ a k, X + 1576 ≤ a → a < ah_sz h → ah_J h21 a k = ah_J h a k := fun a k q1 q2 => by
        rw [s21.2.2.2, (fr _ (by omega)).2.2.2 k (by omega), s12.2.2.2]
      have Ro : ∀ a k, X + 1576 ≤ a → a < ah_sz h → ah_R h21 a k = ah_R h a k := fun a k q1 q2 => by
        rw [R21, if_neg (by omega), ro _ _ q2 (by omega)]
      have a36 : S2.1 36 u = S.1 36 u := by rw [t8, if_neg (by omega)]
      have a37 : S2.1 37 u = S.1 37 u := by rw [t9, if_neg (by omega)]
      refine ⟨nm', Ds', ⟨y1, y2.st xh (Io _ _ y1 k1) (fun k => Jo _ _ (by omega) k2), y3.st y1 xh (fun a k q1 q2 q3 => ?_) (fun k => Ro _ _ (by omega) k3), ?_⟩, by rw [a36]; exact y5, by rw [a37]; exact y6, fun i hi => ?_, y8, b', y9, ?_⟩
      · have := lv a (by omega)
        exact ⟨Ro a k q1 this, fun _ => Io a k q1 this, Jo a k q1 this⟩
      · rw [Io _ _ y1 k1, a36]; exact y4
      · have := y2.2.1
        rw [t12 _ (by omega)]; exact y7 i hi
      · exact y10.cg (y2.2.1) y9 (fun k hk => t10 _ (by omega)) (fun k hk => t11 _ (by omega))
    · subst c
      refine ⟨fun _ => ?_, fun z => by omega⟩
      have er : ah_R h21 (X + 1437) (nT S) = ah_sz h := by rw [R21, if_pos ⟨rfl, rfl⟩]
      rw [er]
      have dp := dps_all _ _ _ _ _ _ rfl (fun i hi => by simp at hi) un
      refine ⟨nm, Ds, ⟨hs, nc.st xg ?_ (fun k => by rw [s21.2.2.2]), ld.st hs xg (fun a k q1 q2 q3 => ⟨?_, fun q4 => ?_, by rw [s21.2.2.2]⟩) (fun k => ?_), ?_⟩, ?_, ?_, t14, dp.2, b, t15, t16⟩
      · rw [I21, if_neg (by omega), if_neg (by omega), if_neg (by omega)]
      · rw [R21, if_neg (by omega)]
      · rw [I21, if_neg (by omega), if_neg (by omega), if_neg (by omega)]
      · rw [R21, if_neg (by omega)]
      · rw [I21, if_neg (by omega), if_neg (by omega), if_pos ⟨rfl, rfl⟩, t8, if_pos rfl]
      · rw [t8, if_pos rfl]; exact ⟨by omega, by omega⟩
      · rw [t9, if_pos rfl]
    · refine ⟨fun z => by omega, fun _ => ?_⟩
      rw [R21, if_neg (by omega), ro _ _ (by omega) (by omega)]
      exact (T u hu).2 (by omega)
  · intro _
    have fr : rfr X h12 g := fr
    have Lg := L12.ext xt
    refine ⟨ly0_K_1430 Lg, v_X0_acts_73 (d := d + 70) Lg ⟨ly0_K_1430 Lg, fun h2 e2 X2 h3 e3 X3 h4 e4 X4 => ?_⟩⟩
    have I4 : ∀ a k, ah_I h4 a k = if a = X ∧ k = 20 then 10 else if a = X ∧ k = 22 then nI z.2 else if a = X ∧ k = 21 then nI z.1 else ah_I g a k := fun a k => by rw [e4, rd_II, e3, rd_II, e2, rd_II, w6, w7]
    have z1 : dyn pT (X + 1431, 7) X h g := z12.tr (fr.dy xt lv12)
    have z4 : dyn pT (X + 1431, 7) X h h4 := by rw [e4, e3, e2]; exact z1.zI.zI.zI
    have cg : cfr X h h4 := by rw [e4, e3, e2]; exact (cf12.tr (fr.cf (by omega))).zI.zI.zI
    have s4 : h4.1 = g.1 := by rw [e4, e3, e2]; rfl
    have xh : ah_ext h h4 := x12.tr (xt.tr (X2.tr (X3.tr X4)))
    clear e2 e3 e4
    have ke : kt S (se_acts S z) := by
      refine ⟨fun a ha hb => ?_, fun k hk hb => ?_⟩
      · have a0 : a ≠ 0 := fun q => by rw [q] at ha; exact absurd ha (by decide)
        exact ⟨by unfold se_acts; funext j; rw [uI_e, if_neg (fun q => a0 q.1), uI_e, if_neg (fun q => a0 q.1), uI_e, if_neg (fun q => a0 q.1), uI_e, if_neg (fun q => a0 q.1)], rfl⟩
      · simp only [List.mem_cons, List.not_mem_nil, or_false, not_or] at hb
        unfold se_acts; rw [uI_e, if_neg (by omega), uI_e, if_neg (by omega), uI_e, if_neg (by omega), uI_e, if_neg (by omega)]
    have W2 : WF (se_acts S z) := C.2.2.2.2.2.kt ke ⟨C.2.2.2.2.2.1.2.2.2.2.1, t4⟩ ⟨rfl, Nat.zero_le _⟩
    refine Ke w_ z (by unfold rActs; exact un) h4 ⟨L.ext xh, CI0.tx (C.2.1.dy L z4 (fun _ => ⟨trivial, trivial⟩) ⟨by show X + 1431 < _; omega, by show X + 1431 ≠ _; omega⟩)
      (C.2.2.1.dy L z4 (fun _ => trivial) ⟨by show X + 1431 < _; omega, by show X + 1431 ≠ _; omega⟩)
      (C.2.2.2.1.dy L z4 (fun _ _ _ _ _ => trivial) ⟨by show X + 1431 < _; omega, by show X + 1431 ≠ _; omega⟩ (fun q => absurd q (by show X + 1431 ≠ _; omega)))
      (C.2.2.2.2.1.dy L z4 (fun _ _ _ => trivial) (by show X + 1431 < _; omega)) ?_ W2 ke, cg, xh, ?_, ?_, z4.lf L ⟨by show X + 1431 < _; omega, by show X + 1431 ≠ _; omega, by show ah_kd h (X + 1431) ≠ 50; rw [ly0_K_1431 L]; decide⟩ (fun _ _ _ => trivial)⟩
    · refine C.1.tx ke (fun c k h1 h2 h3 h4 => ?_) ?_ ?_ ?_ ?_ ?_
      · rw [I4, if_neg (by omega), if_neg (by omega), if_neg (by omega), (fr _ (by omega)).2.2.1 k (by omega) (by omega), I12, if_neg (by omega), if_neg (by omega), if_neg (by omega)]
      · rw [I4, if_neg (by omega), if_neg (by omega), if_neg (by omega), (fr _ (by omega)).2.2.1 18 (by omega) (by omega), I12, if_neg (by omega), if_neg (by omega), if_neg (by omega)]
        exact C.1.2 0 18 56 (by decide)
      · rw [I4, if_pos ⟨rfl, rfl⟩]; rfl
      · rw [I4, if_neg (by omega), if_neg (by omega), if_pos ⟨rfl, rfl⟩]; rfl
      · rw [I4, if_neg (by omega), if_pos ⟨rfl, rfl⟩]; rfl
      · rw [I4, if_neg (by omega), if_neg (by omega), if_neg (by omega), (fr _ (by omega)).2.2.1 1 (by omega) (by omega), I12, if_neg (by omega), if_neg (by omega), if_pos ⟨rfl, rfl⟩]; rfl
    · have : ah_rc h4 = ah_rc g := by unfold ah_rc; rw [s4]
      omega
    · have : ah_rs h4 = ah_rs g := by unfold ah_rs; rw [s4]
      omega
end

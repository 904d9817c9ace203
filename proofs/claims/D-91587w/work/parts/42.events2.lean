/-! ===== an event made and added ===== -/
section
variable {G : ma_G} {d X M V : Nat} {h : ah_T} {S : MS} {Q : Option ma_V → ah_T → Prop} {E : Nat → ah_T → Prop}
theorem c_X11_init {x1 x2 x3 : Int32} (hk : ma_ks h V [11, 12, 13, 14]) (K : ∀ h', fre [V] h h' → h'.1 = h.1 → ah_kd h' V = ah_kd h V → (∀ k, ah_R h' V k = ah_R h V k) → ah_I h' V 0 = x1 → ah_I h' V 1 = x2 → ah_I h' V 2 = x3 → Q none h') : MX G mi_X11_init (d + 1) 0 [some (rv V), some (iv x1), some (iv x2), some (iv x3)] [] h Q E := by
  refine v_X11_init ⟨ma_ks_n0 hk, hk, ?_⟩
  intro g3 q3 _ g4 q4 _ g5 q5 _
  subst q3; subst q4; subst q5
  exact K _ (((fre.rf.wI List.mem_cons_self).wI List.mem_cons_self).wI List.mem_cons_self) rfl rfl (fun _ => rfl) (by rw [rd_Ik (by decide), rd_Ik (by decide), rd_Ih]) (by rw [rd_Ik (by decide), rd_Ih]) rd_Ih
theorem c_X12_init {a1 : Nat} {x2 x3 x4 x5 x6 : Int32} (hk : ah_kd h V = 12) (h3 : ah_R h V 3 = 0) (K : ∀ h', fre [V] h h' → h'.1 = h.1 → ah_kd h' V = 12 → ah_I h' V 0 = x5 → ah_I h' V 1 = x6 → ah_I h' V 2 = x3 → ah_R h' V 3 = a1 → ah_I h' V 4 = x2 → ah_I h' V 5 = x4 → Q none h') : MX G mi_X12_init (d + 2) 0 [some (rv V), some (rv a1), some (iv x2), some (iv x3), some (iv x4), some (iv x5), some (iv x6)] [] h Q E := by
  refine v_X12_init (d := d + 1) ⟨by rw [hk]; decide, c_X11_init (ma_ks_of hk (by decide)) ?_⟩
  intro g f1 f2 f3 f4 f5 f6 f7 _
  refine ⟨f3.trans hk, (f4 3).trans h3, ?_⟩
  intro g3 q3 _ g4 q4 _ g5 q5 _
  subst q3; subst q4; subst q5
  exact K _ (((f1.wR List.mem_cons_self).wI List.mem_cons_self).wI List.mem_cons_self) f2 (f3.trans hk) (by rw [rd_Ik (by decide), rd_Ik (by decide), rd_IR, f5]) (by rw [rd_Ik (by decide), rd_Ik (by decide), rd_IR, f6]) (by rw [rd_Ik (by decide), rd_Ik (by decide), rd_IR, f7]) (by rw [rd_RI, rd_RI, rd_RR, if_pos ⟨rfl, rfl⟩]) (by rw [rd_Ik (by decide), rd_Ih]) rd_Ih
theorem c_X13_init {x1 x2 x3 x4 x5 x6 : Int32} (hk : ma_ks h V [12, 13, 14]) (K : ∀ h', fre [V] h h' → h'.1 = h.1 → ah_kd h' V = ah_kd h V → ah_I h' V 0 = x5 → ah_I h' V 1 = x6 → ah_I h' V 2 = x4 → ah_I h' V 3 = x1 → ah_I h' V 4 = x2 → ah_I h' V 5 = x3 → Q none h') : MX G mi_X13_init (d + 2) 0 [some (rv V), some (iv x1), some (iv x2), some (iv x3), some (iv x4), some (iv x5), some (iv x6)] [] h Q E := by
  refine v_X13_init (d := d + 1) ⟨ma_ks_n0 hk, c_X11_init (ma_ks_mono hk (by decide)) ?_⟩
  intro g f1 f2 f3 f4 f5 f6 f7 _
  refine ⟨by obtain ⟨ci, c1, c2⟩ := hk; exact ⟨ci, c1, f3.trans c2⟩, ?_⟩
  intro g3 q3 _ g4 q4 _ g5 q5 _
  subst q3; subst q4; subst q5
  exact K _ (((f1.wI List.mem_cons_self).wI List.mem_cons_self).wI List.mem_cons_self) f2 f3 (by rw [rd_Ik (by decide), rd_Ik (by decide), rd_Ik (by decide), f5]) (by rw [rd_Ik (by decide), rd_Ik (by decide), rd_Ik (by decide), f6]) (by rw [rd_Ik (by decide), rd_Ik (by decide), rd_Ik (by decide), f7]) (by rw [rd_Ik (by decide), rd_Ik (by decide), rd_Ih]) (by rw [rd_Ik (by decide), rd_Ih]) rd_Ih
theorem c_X14_init {x1 x2 x3 x4 x5 x6 : Int32} (hk : ma_ks h V [12, 13]) (K : ∀ h', fre [V] h h' → h'.1 = h.1 → ah_kd h' V = ah_kd h V → ah_I h' V 0 = x5 → ah_I h' V 1 = x6 → ah_I h' V 2 = x4 → ah_I h' V 3 = x1 → ah_I h' V 4 = x2 → ah_I h' V 5 = x3 → Q none h') : MX G mi_X14_init (d + 3) 0 [some (rv V), some (iv x1), some (iv x2), some (iv x3), some (iv x4), some (iv x5), some (iv x6)] [] h Q E :=
  v_X14_init (d := d + 2) ⟨ma_ks_n0 hk, c_X13_init (ma_ks_mono hk (by decide)) (fun g f1 f2 f3 f4 f5 f6 f7 f8 f9 _ => K g f1 f2 f3 f4 f5 f6 f7 f8 f9)⟩
theorem c_X15_init {x1 x2 x3 x4 x5 x6 x7 : Int32} (hk : ah_kd h V = 14) (K : ∀ h', fre [V] h h' → h'.1 = h.1 → ah_kd h' V = 14 → ah_I h' V 0 = x6 → ah_I h' V 1 = x7 → ah_I h' V 2 = x5 → ah_I h' V 3 = x1 → ah_I h' V 4 = x3 → ah_I h' V 5 = x4 → ah_I h' V 6 = x2 → Q none h') : MX G mi_X15_init (d + 4) 0 [some (rv V), some (iv x1), some (iv x2), some (iv x3), some (iv x4), some (iv x5), some (iv x6), some (iv x7)] [] h Q E := by
  refine v_X15_init (d := d + 3) ⟨by rw [hk]; decide, c_X14_init (ma_ks_of hk (by decide)) ?_⟩
  intro g f1 f2 f3 f4 f5 f6 f7 f8 f9 _
  refine ⟨f3.trans hk, ?_⟩
  intro g3 q3 _
  subst q3
  exact K _ (f1.wI List.mem_cons_self) f2 (f3.trans hk) (by rw [rd_Ik (by decide), f4]) (by rw [rd_Ik (by decide), f5]) (by rw [rd_Ik (by decide), f6]) (by rw [rd_Ik (by decide), f7]) (by rw [rd_Ik (by decide), f8]) (by rw [rd_Ik (by decide), f9]) rd_Ih
theorem c_X16_init {x1 x2 x3 x4 x5 x6 x7 : Int32} (hk : ah_kd h V = 15) (K : ∀ h', fre [V] h h' → h'.1 = h.1 → ah_kd h' V = 15 → ah_I h' V 0 = x6 → ah_I h' V 1 = x7 → ah_I h' V 2 = x4 → ah_I h' V 3 = x1 → ah_I h' V 4 = x2 → ah_I h' V 5 = x3 → ah_I h' V 6 = x5 → Q none h') : MX G mi_X16_init (d + 3) 0 [some (rv V), some (iv x1), some (iv x2), some (iv x3), some (iv x4), some (iv x5), some (iv x6), some (iv x7)] [] h Q E := by
  refine v_X16_init (d := d + 2) ⟨by rw [hk]; decide, c_X13_init (ma_ks_of hk (by decide)) ?_⟩
  intro g f1 f2 f3 f4 f5 f6 f7 f8 f9 _
  refine ⟨f3.trans hk, ?_⟩
  intro g3 q3 _
  subst q3
  exact K _ (f1.wI List.mem_cons_self) f2 (f3.trans hk) (by rw [rd_Ik (by decide), f4]) (by rw [rd_Ik (by decide), f5]) (by rw [rd_Ik (by decide), f6]) (by rw [rd_Ik (by decide), f7]) (by rw [rd_Ik (by decide), f8]) (by rw [rd_Ik (by decide), f9]) rd_Ih
theorem CIw.vx {h' : ah_T} {a b e f g i k : Int32} (q : CIw h X V a b e f g i k) (zk : ah_kd h' V = ah_kd h V) (zR : ∀ k, ah_R h' V k = ah_R h V k) (z2 : ∀ k, ah_R h' (X + 2) k = ah_R h (X + 2) k) (zI : ∀ k, ah_I h' V k = ah_I h V k) : CIw h' X V a b e f g i k := by
  rcases q with ⟨a1, a2, a3, a4, a5⟩ | ⟨a1, a2, a3, a4, a5, a6⟩ | ⟨a1, a2, a3, a4, a5, a6⟩ | ⟨a1, a2, a3, a4, a5⟩
  · exact Or.inl ⟨a1, by rw [zk]; exact a2, by rw [zR, z2]; exact a3, by rw [zI]; exact a4, by rw [zI]; exact a5⟩
  · exact Or.inr (Or.inl ⟨a1, by rw [zk]; exact a2, by rw [zI]; exact a3, by rw [zI]; exact a4, by rw [zI]; exact a5, by rw [zI]; exact a6⟩)
  · exact Or.inr (Or.inr (Or.inl ⟨a1, by rw [zk]; exact a2, by rw [zI]; exact a3, by rw [zI]; exact a4, by rw [zI]; exact a5, by rw [zI]; exact a6⟩))
  · exact Or.inr (Or.inr (Or.inr ⟨a1, by rw [zk]; exact a2, by rw [zI]; exact a3, by rw [zI]; exact a4, by rw [zI]; exact a5⟩))
/-- the event that was made (at ah_sz h) comes into the row -/
theorem c_adds {g0 : ah_T} {c0 : Nat} {a b e f g i j k w o : Int32} (L : LY0 h X) (C : CI0 h X S) (lv : ah_liv h) (hs : X + 1576 ≤ ah_sz h) (xg : ah_ext h g0) (fr : fre [ah_sz h] h g0) (e1 : g0.1 = (ah_sz h + 1, ah_rc h - 1, ah_rs h - c0)) (hc : c0 ≤ 7) (hlt : nV S < 120) (i0 : ah_I g0 (ah_sz h) 0 = w) (i1 : ah_I g0 (ah_sz h) 1 = o) (i2 : ah_I g0 (ah_sz h) 2 = j) (q : CIw g0 X (ah_sz h) a b e f g i k) (W : WFw (nF S) (nE S) a b e f g i j k w o)
    (K : ∀ h1, cpo X h h1 (sgE (uI S 0 0 0) (nV S) (S.1 0 7 + 1) a b e f g i j k w o) → Q (some (iv (S.1 0 7 + 1 - 1))) h1) : MX G mi_X0_adds (d + 1) 0 [some (rv X), some (rv (ah_sz h))] [] g0 Q E := by
  have F0 := liv_0 lv
  have nX : ∀ c, c < 1576 → X + c ∉ [ah_sz h] := fun c hc => by simp only [List.mem_cons, List.not_mem_nil, or_false]; omega
  have n0 : X ∉ [ah_sz h] := nX 0 (by decide)
  have cv : S.1 0 7 = nI (nV S) := C.2.2.2.2.2.1.2.2.1
  have cz : ah_I g0 X 16 = S.1 0 7 := (fr.I n0 16).trans (C.1.2 0 16 7 (by decide))
  have en : (S.1 0 7).toNatClampNeg = nV S := rfl
  have ks : ma_ks g0 (ah_sz h) [11, 12, 13, 14] := by
    rcases q with z | z | z | z <;> exact ma_ks_of z.2.1 (by decide)
  refine v_X0_adds (L.ext xg) ⟨ks, ?_⟩
  rw [cz, en, i1]
  intro h2 q2 X2
  refine ⟨vp_x (by rw [cv, nI_x (by omega)]; omega) (by rw [cv, nI_x (by omega)]; omega), ?_, ?_⟩
  · subst q2
    rw [rd_RI, fr.R (nX 4 (by decide))]
    exact (C.2.2.2.1.2.1 (nV S) hlt).2 (Nat.le_refl _)
  intro h5 q5 X5 h6 q6 X6 h7 q7 X7
  subst q2; subst q5; subst q6; subst q7
  have z0 : dyn pT (X + 4, nV S) X h g0 := fr.dy (fun b hb => by rw [List.mem_singleton.mp hb]; exact F0)
  have z : dyn pT (X + 4, nV S) X h _ := (((z0.zI (k := 19) (v := o)).oR' (a := X + 4) (k := nV S) (v := ah_sz h) rfl).zI (k := 16) (v := S.1 0 7 + 1)).zI (k := 20) (v := 0)
  have xt := ((((xg.tr X2).tr X5).tr X6).tr X7)
  have e_ := (((((C.1.sm (h' := g0) (fun c k hc => fr.I (nX c (by omega)) k)).pX (v := o) 19 9 (by decide)).sR (a := X + 4) (k := nV S) (v := ah_sz h)).pX (v := S.1 0 7 + 1) 16 7 (by decide)).pX (v := 0) 20 0 (by decide))
  rw [uI_cm (a := 0) (k := 7) (b := 0) (j := 0) (Or.inr (by decide)), uI_cm (a := 0) (k := 9) (b := 0) (j := 0) (Or.inr (by decide)), uI_cm (a := 0) (k := 9) (b := 0) (j := 7) (Or.inr (by decide))] at e_
  have e_ := e_.cZ (k := 10) (v := w) (ctZ_n rfl)
  rw [uI_cm (a := 0) (k := 9) (b := 0) (j := 10) (Or.inr (by decide))] at e_
  have e_ := e_.cA (m := 9) (k := nV S) (v := a) (ctA_n rfl) (by decide)
  rw [uI_cm (a := 0) (k := 9) (b := 9) (Or.inl (by decide)), uI_cm (a := 0) (k := 10) (b := 9) (Or.inl (by decide)), uI_cm (a := 0) (k := 7) (b := 9) (Or.inl (by decide))] at e_
  have e_ := e_.cA (m := 10) (k := nV S) (v := b) (ctA_n rfl) (by decide)
  rw [uI_cm (a := 0) (k := 9) (b := 10) (Or.inl (by decide)), uI_cm (a := 0) (k := 10) (b := 10) (Or.inl (by decide)), uI_cm (a := 0) (k := 7) (b := 10) (Or.inl (by decide))] at e_
  have e_ := e_.cA (m := 11) (k := nV S) (v := e) (ctA_n rfl) (by decide)
  rw [uI_cm (a := 0) (k := 9) (b := 11) (Or.inl (by decide)), uI_cm (a := 0) (k := 10) (b := 11) (Or.inl (by decide)), uI_cm (a := 0) (k := 7) (b := 11) (Or.inl (by decide))] at e_
  have e_ := e_.cA (m := 12) (k := nV S) (v := f) (ctA_n rfl) (by decide)
  rw [uI_cm (a := 0) (k := 9) (b := 12) (Or.inl (by decide)), uI_cm (a := 0) (k := 10) (b := 12) (Or.inl (by decide)), uI_cm (a := 0) (k := 7) (b := 12) (Or.inl (by decide))] at e_
  have e_ := e_.cA (m := 13) (k := nV S) (v := g) (ctA_n rfl) (by decide)
  rw [uI_cm (a := 0) (k := 9) (b := 13) (Or.inl (by decide)), uI_cm (a := 0) (k := 10) (b := 13) (Or.inl (by decide)), uI_cm (a := 0) (k := 7) (b := 13) (Or.inl (by decide))] at e_
  have e_ := e_.cA (m := 14) (k := nV S) (v := i) (ctA_n rfl) (by decide)
  rw [uI_cm (a := 0) (k := 9) (b := 14) (Or.inl (by decide)), uI_cm (a := 0) (k := 10) (b := 14) (Or.inl (by decide)), uI_cm (a := 0) (k := 7) (b := 14) (Or.inl (by decide))] at e_
  have e_ := e_.cA (m := 15) (k := nV S) (v := j) (ctA_n rfl) (by decide)
  rw [uI_cm (a := 0) (k := 9) (b := 15) (Or.inl (by decide)), uI_cm (a := 0) (k := 10) (b := 15) (Or.inl (by decide)), uI_cm (a := 0) (k := 7) (b := 15) (Or.inl (by decide))] at e_
  have e_ := e_.cA (m := 16) (k := nV S) (v := k) (ctA_n rfl) (by decide)
  rw [uI_cm (a := 0) (k := 9) (b := 16) (Or.inl (by decide)), uI_cm (a := 0) (k := 10) (b := 16) (Or.inl (by decide)), uI_cm (a := 0) (k := 7) (b := 16) (Or.inl (by decide))] at e_
  have e_ := e_.cA (m := 17) (k := nV S) (v := w) (ctA_n rfl) (by decide)
  rw [uI_cm (a := 0) (k := 9) (b := 17) (Or.inl (by decide)), uI_cm (a := 0) (k := 10) (b := 17) (Or.inl (by decide)), uI_cm (a := 0) (k := 7) (b := 17) (Or.inl (by decide))] at e_
  have e_ := e_.cA (m := 18) (k := nV S) (v := o) (ctA_n rfl) (by decide)
  rw [uI_cm (a := 0) (k := 9) (b := 18) (Or.inl (by decide)), uI_cm (a := 0) (k := 10) (b := 18) (Or.inl (by decide)), uI_cm (a := 0) (k := 7) (b := 18) (Or.inl (by decide))] at e_
  have wf := wfE (i := i) C.2.2.2.2.2 hlt W
  have nF4 : ah_sz h ≠ X + 4 := by omega
  have nF0 : ah_sz h ≠ X := by omega
  refine K _ ⟨L.ext xt, ⟨e_, ?_, ?_, ?_, ?_, wf.1⟩, ?_, xt, ?_, ?_, ?_⟩
  · exact C.2.1.dy L z (fun _ => ⟨trivial, trivial⟩) ⟨by show X + 4 < _; omega, by show X + 4 ≠ _; omega⟩
  · exact C.2.2.1.dy L z (fun _ => trivial) ⟨by show X + 4 < _; omega, by show X + 4 ≠ _; omega⟩
  · rw [wf.2]
    refine C.2.2.2.1.add L hlt z hs F0 ?_ ?_ ?_ ?_ ?_
    · rw [rd_RI, rd_RI, rd_RR, if_pos ⟨rfl, rfl⟩]
    · rw [rd_Ia nF0, rd_Ia nF0, rd_IR, rd_Ia nF0, i0]
    · rw [rd_Ia nF0, rd_Ia nF0, rd_IR, rd_Ia nF0, i1]
    · rw [rd_Ia nF0, rd_Ia nF0, rd_IR, rd_Ia nF0, i2]
    · exact q.vx rfl (fun k => by rw [rd_RI, rd_RI, rd_RR, if_neg (fun q => nF4 q.1), rd_RI]) (fun k => by rw [rd_RI, rd_RI, rd_RR, if_neg (fun q => by omega), rd_RI]) (fun k => by rw [rd_Ia nF0, rd_Ia nF0, rd_IR, rd_Ia nF0])
  · exact C.2.2.2.2.1.dy L z (fun _ _ _ => trivial) (by show X + 4 < _; omega)
  · exact (((((fr.mn (l' := [ah_sz h, X, X + 4]) (fun b hb => by simp only [List.mem_cons, List.not_mem_nil, or_false] at hb ⊢; omega)).wI (by simp)).wR (by simp)).wI (by simp)).wI (by simp)).cfr (fun b hb => by simp only [List.mem_cons, List.not_mem_nil, or_false] at hb; omega)
  · show h.1.2.1 ≤ g0.1.2.1 + 4000
    rw [e1]; show h.1.2.1 ≤ h.1.2.1 - 1 + 4000; omega
  · show h.1.2.2 ≤ g0.1.2.2 + 40000
    rw [e1]; show h.1.2.2 ≤ h.1.2.2 - c0 + 40000; omega
  · exact z.lf L ⟨by show X + 4 < _; omega, by show X + 4 ≠ _; omega, by show ah_kd h (X + 4) ≠ 50; rw [ly0_K_4 L]; decide⟩ (fun _ _ _ => trivial)
end
/-- a run behind a run -/
theorem mpo.tr {A Z : List Nat} {M : Nat} {h h1 h2 : ah_T} {S1 S2 : MS} (m : mch A Z M h h1) (hA : ∀ a, a ∈ A → a < 78) (p : mpo M h1 h2 S1) (k : kept S2 S1) : mpo M h h2 S2 := by
  obtain ⟨⟨A', Z', hA', m'⟩, k'⟩ := p
  exact ⟨⟨A ++ A', Z ++ Z', fun a ha => (List.mem_append.mp ha).elim (hA a) (hA' a), (m.mono (fun a ha => List.mem_append.mpr (Or.inl ha)) (fun a ha => List.mem_append.mpr (Or.inl ha))).tr (m'.mono (fun a ha => List.mem_append.mpr (Or.inr ha)) (fun a ha => List.mem_append.mpr (Or.inr ha)))⟩, k.tr k'⟩

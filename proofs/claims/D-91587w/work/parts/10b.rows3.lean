/-! ===== fields of objects of several classes, instanceof, casts, calls by the receiver's class ===== -/
/-- the cell at a is an object of one of the classes cs -/
def ma_ks (h : ah_T) (a : Nat) (cs : List Nat) : Prop := ∃ ci ∈ cs, ah_kd h a = ci + 1
theorem ma_ksk {h h' : ah_T} (e : ah_kd h' = ah_kd h) {a : Nat} {cs : List Nat} (k : ma_ks h a cs) : ma_ks h' a cs := by
  obtain ⟨ci, h1, h2⟩ := k
  exact ⟨ci, h1, by rw [e]; exact h2⟩
theorem ma_ksx {h h' : ah_T} (x : ah_ext h h') {a : Nat} {cs : List Nat} (k : ma_ks h a cs) : ma_ks h' a cs := by
  obtain ⟨ci, h1, h2⟩ := k
  exact ⟨ci, h1, x.kd h2⟩
theorem ma_ks_of {h : ah_T} {a ci : Nat} {cs : List Nat} (k : ah_kd h a = ci + 1) (hm : ci ∈ cs) : ma_ks h a cs := ⟨ci, hm, k⟩
theorem ma_ks_mono {h : ah_T} {a : Nat} {cs cs' : List Nat} (k : ma_ks h a cs) (hm : ∀ c ∈ cs, c ∈ cs') : ma_ks h a cs' := by
  obtain ⟨ci, h1, h2⟩ := k
  exact ⟨ci, hm ci h1, h2⟩
theorem ma_ks_ne {h : ah_T} {a b n : Nat} {cs : List Nat} (k : ma_ks h a cs) (kb : ah_kd h b = n) (hn : ∀ c ∈ cs, c + 1 ≠ n) : a ≠ b := by
  obtain ⟨ci, h1, h2⟩ := k
  intro e
  exact hn ci h1 (by rw [← h2, ← kb, e])
def ma_fall (cs : List Nat) (k : Nat) (f : String × String × String × Bool) (ty : FieldType) : Prop := ∀ ci ∈ cs, ∃ C T N, ma_cl[ci]? = some (C, T, N) ∧ k < N ∧ T k = f ∧ ma_fty ci k = ty
section
variable {G : ma_G} {y : ma_M} {d pc : Nat} {al : List (Option ma_V)} {st : List ma_V} {h : ah_T} {Q : Option ma_V → ah_T → Prop} {E : Nat → ah_T → Prop}
theorem mx_getP (cs : List Nat) (k : Nat) {f : String × String × String × Bool} {ty : FieldType} {idx a : Nat} {ref : String} {v : ma_V} (hall : ma_fall cs k f ty) (hq : ma_lk y.1.cls idx ref f.2.1 f.2.2.1) (hs : ma_same ref f) (hd : decode y.2.1 pc = .ok (.getfield idx, 3)) (hv : ah_val ty h a k = v) (hkd : ma_ks h a cs) (K : MX G y d (pc + 3) al (v :: st) h Q E) : MX G y d pc al (rv a :: st) h Q E := by
  obtain ⟨ci, hm, hk⟩ := hkd
  obtain ⟨C, T, N, hc, hkN, hT, hty⟩ := hall ci hm
  exact mx_get ci k hc hkN (by rw [hT]; exact hq) (by rw [hT]; exact hs) hd (by rw [hty]; exact hv) hk K
theorem mx_putIP (cs : List Nat) (k : Nat) {f : String × String × String × Bool} {idx a : Nat} {ref : String} {x : Int32} (hall : ma_fall cs k f .int) (hq : ma_lk y.1.cls idx ref f.2.1 f.2.2.1) (hs : ma_same ref f) (hd : decode y.2.1 pc = .ok (.putfield idx, 3)) (hfin : ma_fin y idx ref f) (hkd : ma_ks h a cs) (K : MX G y d (pc + 3) al st (ah_wI h a k x) Q E) : MX G y d pc al (iv x :: rv a :: st) h Q E := by
  obtain ⟨ci, hm, hk⟩ := hkd
  obtain ⟨C, T, N, hc, hkN, hT, hty⟩ := hall ci hm
  exact mx_putI ci k hc hkN (by rw [hT]; exact hq) (by rw [hT]; exact hs) hd (by rw [hT]; exact hfin) hty hk K
theorem mx_putOP (cs : List Nat) (k : Nat) {f : String × String × String × Bool} {idx a : Nat} {ref n : String} {x : Nat} (hall : ma_fall cs k f (.object n)) (hq : ma_lk y.1.cls idx ref f.2.1 f.2.2.1) (hs : ma_same ref f) (hd : decode y.2.1 pc = .ok (.putfield idx, 3)) (hfin : ma_fin y idx ref f) (hz : ah_R h a k = 0) (hkd : ma_ks h a cs) (K : MX G y d (pc + 3) al st (ah_wR h a k x) Q E) : MX G y d pc al (rv x :: rv a :: st) h Q E := by
  obtain ⟨ci, hm, hk⟩ := hkd
  obtain ⟨C, T, N, hc, hkN, hT, hty⟩ := hall ci hm
  exact mx_putO ci k hc hkN (by rw [hT]; exact hq) (by rw [hT]; exact hs) hd (by rw [hT]; exact hfin) hty (Or.inr hz) hk K
theorem ma_recv {s : State} {H : Heap} (ok : ma_ok G) (hW : G.2.1.WarmedH s.vm) (r0 : ma_rel G h H) {a ci : Nat} {r : vw_C} (hk : ah_kd h a = ci + 1) (hc : ma_cl[ci]? = some r) : a ≠ 0 ∧ ∃ cell : Cell, H[a - 1]? = some cell ∧ cell.vm = .none ∧ s.vm.findClass r.1 = some cell.cls := by
  obtain ⟨ha0, hba, cell, q1, q2, q3, -⟩ := r0.obj hk hc
  exact ⟨ha0, cell, q1, q3, by rw [q2]; exact ((ok.2.1.moved hW.alike).1 ci _ hc).2.1⟩
/-- instanceof a class that it is -/
theorem mx_instY (ci : Nat) {C : String} {T : u_T} {N idx a : Nat} (hc : ma_cl[ci]? = some (C, T, N)) (hq : Cond.classLink y.1.cls idx C ∈ lw_all) (hd : decode y.2.1 pc = .ok (.instanceof idx, 3)) (hk : ah_kd h a = ci + 1) (K : MX G y d (pc + 3) al (iv 1 :: st) h Q E) : MX G y d pc al (rv a :: st) h Q E := by
  intro p e R s m args below meth c ok cx H locs cells slots ls nw hl
  have hW := cx.2.2.2.2.2.2.2.1
  obtain ⟨ha0, cell, q1, q2, q3⟩ := ma_recv ok hW nw.1 hk hc
  show W p G.1 e R s m args below meth c H locs cells slots _ (F0 m pc ls (ma_rf a :: st.map ma_v))
  rw [ma_rf_pos ha0]
  exact va_instS cx.1 cx.2.1 cx.2.2.2.2.2.1 (ma_wd ok hW args _ hq) (((ok.2.1.moved hW.alike).1 ci _ hc).2) ⟨cell, q1, by rw [q2]; rfl, q3⟩ hd (K p e R s m args below meth c ok cx H locs cells slots ls nw hl)
/-- instanceof a class that it isn't -/
theorem mx_instN (ci : Nat) {C C' : String} {T : u_T} {N idx a : Nat} (hc : ma_cl[ci]? = some (C, T, N)) (hn : ∀ G : ma_G, ma_ok G → va_Nc C C' G.2.1) (hq : Cond.classLink y.1.cls idx C' ∈ lw_all) (hd : decode y.2.1 pc = .ok (.instanceof idx, 3)) (hk : ah_kd h a = ci + 1) (K : MX G y d (pc + 3) al (iv 0 :: st) h Q E) : MX G y d pc al (rv a :: st) h Q E := by
  intro p e R s m args below meth c ok cx H locs cells slots ls nw hl
  have hW := cx.2.2.2.2.2.2.2.1
  obtain ⟨ha0, cell, q1, q2, q3⟩ := ma_recv ok hW nw.1 hk hc
  show W p G.1 e R s m args below meth c H locs cells slots _ (F0 m pc ls (ma_rf a :: st.map ma_v))
  rw [ma_rf_pos ha0]
  exact va_instNo cx.1 cx.2.1 cx.2.2.2.2.2.1 (ma_wd ok hW args _ hq) ((hn G ok).moved hW.alike) ⟨cell, q1, by rw [q2]; rfl, q3⟩ hd (K p e R s m args below meth c ok cx H locs cells slots ls nw hl)
theorem mx_castY (ci : Nat) {C : String} {T : u_T} {N idx a : Nat} (hc : ma_cl[ci]? = some (C, T, N)) (hq : Cond.classLink y.1.cls idx C ∈ lw_all) (hd : decode y.2.1 pc = .ok (.checkcast idx, 3)) (hk : ah_kd h a = ci + 1) (K : MX G y d (pc + 3) al (rv a :: st) h Q E) : MX G y d pc al (rv a :: st) h Q E := by
  intro p e R s m args below meth c ok cx H locs cells slots ls nw hl
  have hW := cx.2.2.2.2.2.2.2.1
  obtain ⟨ha0, cell, q1, q2, q3⟩ := ma_recv ok hW nw.1 hk hc
  have hK := K p e R s m args below meth c ok cx H locs cells slots ls nw hl
  have e1 : ∀ n, F0 m n ls ((rv a :: st).map ma_v) = F0 m n ls (.ref (a - 1) :: st.map ma_v) := fun n => by
    show F0 m n ls (ma_rf a :: st.map ma_v) = _
    rw [ma_rf_pos ha0]
  rw [e1] at hK ⊢
  exact va_castS cx.1 cx.2.1 cx.2.2.2.2.2.1 (ma_wd ok hW args _ hq) (((ok.2.1.moved hW.alike).1 ci _ hc).2) ⟨cell, q1, by rw [q2]; rfl, q3⟩ hd hK
/-- a cast to an array class, of null or of such an array -/
theorem mx_castA (t : Nat) {nm : String} {idx a : Nat} (ht : t < 5) (hnm : nm = "[" ++ (ma_aty t).toString) (hq : Cond.classLink y.1.cls idx nm ∈ lw_all) (hd : decode y.2.1 pc = .ok (.checkcast idx, 3)) (hk : a = 0 ∨ ah_kd h a = 40 + t) (K : MX G y d (pc + 3) al (rv a :: st) h Q E) : MX G y d pc al (rv a :: st) h Q E := by
  rcases hk with rfl | hk
  · exact fun p e R s m args below meth c ok cx H locs cells slots ls nw hl => lv_castN cx.1 cx.2.1 hd (K p e R s m args below meth c ok cx H locs cells slots ls nw hl)
  · intro p e R s m args below meth c ok cx H locs cells slots ls nw hl
    have hW := cx.2.2.2.2.2.2.2.1
    obtain ⟨ha0, hba, hcell⟩ := nw.1.arr (t := t) hk (by omega)
    have hK := K p e R s m args below meth c ok cx H locs cells slots ls nw hl
    have e1 : ∀ n, F0 m n ls ((rv a :: st).map ma_v) = F0 m n ls (.ref (a - 1) :: st.map ma_v) := fun n => by
      show F0 m n ls (ma_rf a :: st.map ma_v) = _
      rw [ma_rf_pos ha0]
    rw [e1] at hK ⊢
    have hRA := ((ok.2.1.moved hW.alike).2 t _ (ma_tys_at G (show t < 16 by omega))).2
    have hfc : s.vm.findClass nm = some (G.2.2.2.2.1 t) := by
      rw [hnm]
      rcases (show t = 0 ∨ t = 1 ∨ t = 2 ∨ t = 3 ∨ t = 4 by omega) with rfl | rfl | rfl | rfl | rfl <;> exact hRA
    obtain ⟨x, hx⟩ : ∃ x : vp_A, ma_arr G h a t = vp_cell (G.2.2.2.2.1 t) x := by
      rcases (show t = 0 ∨ t = 1 ∨ t = 2 ∨ t = 3 ∨ t = 4 by omega) with rfl | rfl | rfl | rfl | rfl
      · exact ⟨(ah_ln h a, .inl (fun j => ah_I h a j)), rfl⟩
      · exact ⟨(ah_ln h a, .inr (.inl (fun j => ah_J h a j))), rfl⟩
      · exact ⟨(ah_ln h a, .inl (fun j => ah_I h a j)), rfl⟩
      · exact ⟨(ah_ln h a, .inl (fun j => ah_I h a j)), rfl⟩
      · exact ⟨(ah_ln h a, .inl (fun j => ah_I h a j)), rfl⟩
    have hP : va_P G.2.2.2.1 ma_cl [(a - 1, .inl (G.2.2.2.2.1 t, x))] H := by
      intro k q hkq
      have hz : k = 0 := by
        have := (List.getElem?_eq_some_iff.mp hkq).1
        simp at this
        omega
      subst hz
      cases hkq
      show H[a - 1]? = some (vp_cell _ _)
      rw [hcell, hx]
    exact va_castA cx.1 cx.2.1 cx.2.2.2.2.2.1 (ma_wd ok hW args _ hq) hP 0 rfl hfc hd hK
/-! a call of a method that the receiver's class overrides or inherits -/
def ma_up (x y' : MethodName) (C owner : String) : Prop := (Cond.sameMethod x.cls owner x.name x.desc ∈ lw_all ∨ Cond.sameMethod x.cls owner x.name x.desc ∈ defaultWords_1) ∧ (Cond.declares ⟨owner, x.name, x.desc⟩ ∈ lw_tbl ∨ ∃ yo : ma_M, yo.1 = ⟨owner, x.name, x.desc⟩ ∧ ma_cal yo ∧ Cond.instanceMethod yo.1 ∈ lw_all) ∧ (Cond.selects C x y' ∈ lw_all ∨ Cond.selects C ⟨owner, x.name, x.desc⟩ y' ∈ lw_all) ∧ Cond.instanceMethod y' ∈ lw_all ∧ (owner ≠ "java/lang/invoke/MethodHandle" ∧ owner ≠ "java/lang/invoke/VarHandle")
theorem ma_dflw {s : State} (ok : ma_ok G) (hW : G.2.1.WarmedH s.vm) (args : Array Value) {w : Cond} (hw : w ∈ defaultWords_1) (hc : (w.onTables && w.keeps) = true) : w.before args s = true := by
  refine word_at (args := G.2.2.1) hW (Or.inl hc) (flat_of_before _ ok.2.2.2 w ?_)
  simp only [defaultWords_1, List.mem_cons, List.not_mem_nil, or_false] at hw
  rcases hw with rfl | rfl | rfl <;> decide +kernel
theorem mx_callU (ci : Nat) {y' : ma_M} {x : MethodName} {vs st0 : List ma_V} {a idx : Nat} {al' : List (Option ma_V)} {C owner : String} {T : u_T} {N : Nat} (hc : ma_cl[ci]? = some (C, T, N)) (hcal : ma_cal y') (hU : ma_up x y'.1 C owner) (hnp : (parseMethodDescriptor x.desc).map (fun d => d.parameters.length) = some vs.length) (hk : Cond.methodLink y.1.cls idx x ∈ lw_all ∨ Cond.methodLink y.1.cls idx x ∈ defaultWords_1) (hd : decode y.2.1 pc = .ok (.invokevirtual idx, 3)) (hst : vs.reverse ++ rv a :: st = st0) (hal : al_ent y'.2.2.1 (rv a :: vs) = al') (hle : (al_in (rv a :: vs)).length ≤ y'.2.2.1) (hw : 2 * st.length + y'.2.2.1 + 11 ≤ 300) (hkd : ah_kd h a = ci + 1)
    (K : MX G y' d 0 al' [] h (fun v h' => ah_ext h h' → MX G y (d + 1) (pc + 3) al (v.toList ++ st) h' Q E) (fun x h' => ah_ext h h' → MT G y (d + 1) pc al x h' Q E)) : MX G y (d + 1) pc al st0 h Q E := by
  subst hst
  intro p e R s m args below meth c ok cx H locs cells slots ls nw hl TT hT X
  have cx0 := cx
  obtain ⟨hx, hb, hml, hr, hlk, hown, hhd, hW, hfr, hlo, hnm⟩ := cx
  obtain ⟨hsm, hdc, hse, hi, hmh⟩ := hU
  have hts := ma_wd ok hW args
  obtain ⟨ha0, hba, cell, q1, q2, q3, -⟩ := nw.1.obj hkd hc
  have hcls : s.vm.findClass C = some cell.cls := by rw [q2]; exact ((ok.2.1.moved hW.alike).1 ci _ hc).2.1
  obtain ⟨r0, r, hn, hrm, hstR, hsigR⟩ : ∃ r0 r, s.methodNamed? ⟨owner, x.name, x.desc⟩ = some r0 ∧ s.vm.method? r0 = some r ∧ r.isStatic = false ∧ parseMethodDescriptor x.desc = some r.sig := by
    rcases hdc with hdc | ⟨yo, ho, hco, hio⟩
    · exact va_Decl.abs (va_Nw.warmD hW (va_Nw.of rfl (ok.1 _ hdc)))
    · obtain ⟨mo, methO, hnO, hmO, hstO, -⟩ := Cond.instanceMethod_spec (hts _ hio)
      obtain ⟨methO', cO, e1, -, -, -, -, -, -, hsO⟩ := hco.spec hts hnO
      cases hmO.symm.trans e1
      rw [ho] at hnO hsO
      exact ⟨mo, methO, hnO, hmO, hstO, hsO⟩
  have hsm : (Cond.sameMethod x.cls owner x.name x.desc).before args s = true := hsm.elim (hts _) (fun q => ma_dflw ok hW args q rfl)
  have hk : (Cond.methodLink y.1.cls idx x).before args s = true := hk.elim (hts _) (fun q => ma_dflw ok hW args q rfl)
  obtain ⟨cn, ck, r1, hcn, hck, hni, hf, hn1⟩ := Cond.sameMethod_found hsm
  cases hn.symm.trans hn1
  obtain ⟨mk, methM, hnamed, hmethM, -, habM⟩ := Cond.instanceMethod_spec (hts _ hi)
  obtain ⟨hselP, kP, hkP, hkPi⟩ : selectMethod e.platform s.vm cell.cls r0 = .method mk ∧ ∃ kP, s.vm.classes[mk.cls]? = some kP ∧ kP.isInterface = false := by
    rcases hse with hse | hse
    · obtain ⟨c2, r2, m2, p1, p2, p3, p4, kP, hkP, hkPi⟩ := Cond.selects_spec (hts _ hse)
      cases hcls.symm.trans p1
      cases hf.symm.trans p2
      cases hnamed.symm.trans p3
      exact ⟨by rw [Launch.admits_selectMethod X.admits]; exact p4, kP, hkP, hkPi⟩
    · obtain ⟨c2, r2, m2, p1, p2, p3, p4, kP, hkP, hkPi⟩ := Cond.selects_spec (hts _ hse)
      cases hcls.symm.trans p1
      cases (State.methodFound?_of_named hn hmh).symm.trans p2
      cases hnamed.symm.trans p3
      exact ⟨by rw [Launch.admits_selectMethod X.admits]; exact p4, kP, hkP, hkPi⟩
  have hstack : (F0 m pc ls ((vs.reverse ++ rv a :: st).map ma_v)).stack = (vs.map ma_v).reverse ++ .ref (a - 1) :: st.map ma_v := ma_stk vs st a ha0
  have hlen : (vs.map ma_v).length = r.sig.parameters.length := by
    rw [List.length_map]
    rw [hsigR] at hnp
    exact (Option.some.inj hnp).symm
  have hobj : ∀ z, cell.vm ≠ .statics z := fun z q => by rw [q3] at q; cases q
  have harg : ((rv a :: vs).map ma_v).toArray = (Value.ref (a - 1) :: vs.map ma_v).toArray := by
    show (ma_rf a :: vs.map ma_v).toArray = _
    rw [ma_rf_pos ha0]
  obtain ⟨vm₁, X₁, hs1⟩ := X.invokevirtualUp hx hown hk hsm hmh hn hrm hstR (a := a - 1) (cell := cell) (by rw [hT]; exact q1) hobj hselP hmethM habM hkP hkPi (g := F0 m pc ls ((vs.reverse ++ rv a :: st).map ma_v)) rfl hlen hstack (by rw [hb]; exact hd)
  obtain ⟨t, f1, f2⟩ := ma_enter (vs := rv a :: vs) hcal hal hle hw hd K ok cx0 nw hl (T := TT.setVm vm₁) hT X₁ hnamed
  exact ⟨t, hs1 t (by rw [← harg]; exact f1), f2⟩
/-! references into arrays -/
theorem mx_astq (t ci : Nat) {C E0 : String} {T : u_T} {N a v n : Nat} {i : Int32} (ht : 5 ≤ t ∧ t < 12) (hE0 : ma_aty t = .object E0) (hc : ma_cl[ci]? = some (C, T, N)) (hca : C = E0 ∨ Cond.castable C E0 ∈ lw_tbl) (hd : decode y.2.1 pc = .ok (.aastore, 1)) (hn : i.toNatClampNeg = n) (hk : aok h (40 + t) a i) (hv : ah_kd h v = ci + 1) (hm : ah_R h a n = 0) (K : MX G y d (pc + 1) al st (ah_wR h a n v) Q E) : MX G y d pc al (rv v :: iv i :: rv a :: st) h Q E := by
  subst hn
  intro p e R s m args below meth c ok cx H locs cells slots ls nw hl
  have hW := cx.2.2.2.2.2.2.2.1
  obtain ⟨ha0, hba, hcell⟩ := nw.1.arr (t := t) hk.1 (by omega)
  obtain ⟨hv0, cellV, g1, g2, g3⟩ := ma_recv ok hW nw.1 hv hc
  have hKK := ok.2.1.moved hW.alike
  have hcls := (hKK.1 ci _ hc).2
  have hRA := (hKK.2 t _ (ma_tys_at G (show t < 16 by omega))).2
  rw [hE0] at hRA
  obtain ⟨kA, comp, k1, k2, k3, -⟩ := hRA
  have hin := hk.2
  have hlt : i.toNatClampNeg < ah_ln h a := Nat.not_le.mp fun q => hin (Or.inr q)
  have h0 : ¬ i < 0 := fun q => hin (Or.inl q)
  have hcV : cellV.cls = G.2.2.2.1.1 ci := Option.some.inj (g3.symm.trans hcls.1)
  obtain ⟨kC, hkC, -⟩ := hcls.2
  have hcomp : ∃ kc, s.vm.classes[comp]? = some kc := by
    obtain ⟨kc, hkc, -⟩ := Vm.findClass_spec k3
    exact ⟨kc, hkc⟩
  obtain ⟨kc, hkc⟩ := hcomp
  have hasg : s.vm.assignable cellV.cls comp = true := by
    rw [hcV]
    rcases hca with rfl | hca
    · have hco : comp = G.2.2.2.1.1 ci := Option.some.inj (k3.symm.trans hcls.1)
      rw [hco]
      exact va_assign hcls
    · obtain ⟨c0, t1, f1, f2, f3⟩ := Cond.castable_spec (va_Nw.use (A := args) rfl (va_Nw.warmC hW (va_Nw.of rfl (ok.1 _ hca))))
      cases hcls.1.symm.trans f1
      cases k3.symm.trans f2
      exact f3
  show W p G.1 e R s m args below meth c H locs cells slots _ (F0 m pc ls (ma_rf v :: .int i :: ma_rf a :: st.map ma_v))
  rw [ma_rf_pos ha0, ma_rf_pos hv0]
  refine W.aast cx.1 cx.2.1 hcell (fun q h => by cases h) (fun h => by cases h) k1 k2 rfl hkc ⟨h0, by show _ < (arrV _ _ _).slots.size; rw [arrV_size]; exact hlt⟩ g1 (fun q h => by rw [g2] at h; cases h) (by rw [hcV]; exact hkC) hasg rfl rfl hd fun H1 e1 z oq => ?_
  have hvr : ma_v (rv v) = .ref (v - 1) := ma_rf_pos hv0
  have htv : ∀ j : Nat, ah_val (ma_aty t) (ah_wR h a i.toNatClampNeg v) a i.toNatClampNeg = rv v := fun _ => by
    rw [hE0]
    exact congrArg rv ah_R_same
  exact ma_Wmono (K p e R s m args below meth c ok cx H1 _ cells slots ls ⟨nw.1.ast (t := t) (v := rv v) hk.1 (by omega) (by rw [hvr]; exact e1) z oq rfl (fun b hb => ah_eq.wR hb) rfl rfl (htv 0) (fun j hj => ah_val_wR _ hj), fun q hq => by
    rcases List.mem_append.mp hq with hq | hq
    · exact nw.2.1 q hq
    · rw [List.mem_singleton.mp hq]; exact hba, nw.2.2.1, nw.2.2.2⟩ hl) (fun t => ma_end_ext (ah_ext.wR (Or.inr (Or.inl hm))))
theorem mx_anew (t : Nat) {C : String} {x : Int32} {n idx : Nat} (ht : 5 ≤ t ∧ t < 12) (hE0 : ma_aty t = .object C) (hq : Cond.classLink y.1.cls idx C ∈ lw_all) (ho : Cond.arrayOver (.object C) ∈ lw_tbl) (hd : decode y.2.1 pc = .ok (.anewarray idx, 3)) (hx : x.toNatClampNeg = n) (h0 : ¬ x < 0) (h1 : 1 ≤ ah_rc h) (h2 : n ≤ ah_rs h) (h3 : n ≤ 1000000) (K : ah_ext h (ah_new h (40 + t) n n) → ah_liv h → MX G y d (pc + 3) al (rv (ah_sz h) :: st) (ah_new h (40 + t) n n) Q E) : MX G y d pc al (iv x :: st) h Q E := by
  subst hx
  intro p e R s m args below meth c ok cx H locs cells slots ls nw hl
  have hW := cx.2.2.2.2.2.2.2.1
  have hts := ma_wd ok hW args
  have e1 := nw.2.2.1
  have e2 := nw.2.2.2
  have hp := ok.2.2.1.1
  have hz : ah_sz h ≠ 0 := by have := nw.1.2.1; omega
  have hRA := ((ok.2.1.moved hW.alike).2 t _ (ma_tys_at G (show t < 16 by omega))).2
  rw [hE0] at hRA
  obtain ⟨kA0, comp0, k1, k2, k3, k4⟩ := hRA
  refine W.anew cx.1 cx.2.1 cx.2.2.2.2.2.1 (hts _ hq) (va_AO.use ((va_AO.of (ok.1 _ ho)).moved hW.alike)) rfl hd rfl h0 (by omega) (by omega) (by omega) fun cA kA comp f1 f2 f3 f4 => ?_
  have hcA : cA = G.2.2.2.2.1 t := Option.some.inj (f1.symm.trans k4)
  generalize hH1 : H.push ({ cls := cA, slots := Array.replicate x.toNatClampNeg .null, vm := .none } : Cell) = H1
  have z1 : H1.size = H.size + 1 := by rw [← hH1, Array.size_push]
  have g1 : H1[H.size]? = some (arrV cA x.toNatClampNeg (fun _ => .null)) := by rw [← hH1, Array.getElem?_push_size, ← arrV_new]
  have o1 : ∀ q : Nat, q < H.size → H1[q]? = H[q]? := fun q hq => by rw [← hH1, Array.getElem?_push, if_neg (Nat.ne_of_lt hq)]
  have hext : ah_ext h (ah_new h (40 + t) x.toNatClampNeg x.toNatClampNeg) := ah_new_ext nw.1
  have hK := ma_Wmono (K hext nw.1.liv p e R s m args below meth c ok cx H1 locs (cells + 1) (slots + x.toNatClampNeg) ls ⟨?_, nw.2.1, by show cells + 1 + (ah_rc h - 1) ≤ _; omega, by show slots + x.toNatClampNeg + (ah_rs h - x.toNatClampNeg) ≤ _; omega⟩ hl) (fun t => ma_end_ext hext)
  · have e3 : F0 m (pc + 3) ls ((rv (ah_sz h) :: st).map ma_v) = F0 m (pc + 3) ls (.ref H.size :: st.map ma_v) := by
      show F0 m (pc + 3) ls (ma_rf (ah_sz h) :: st.map ma_v) = _
      rw [ma_rf_pos hz, ← nw.1.1]
    rw [e3] at hK
    exact hK
  · refine nw.1.grow z1 o1 rfl (fun b hb => ⟨if_neg hb, if_neg hb, fun k => if_neg hb, fun k => if_neg hb, fun k => if_neg hb⟩) hp (Or.inr ⟨by have := nw.1.2.1; omega, Or.inr (Or.inl ⟨t, if_pos rfl, by omega, ?_⟩)⟩)
    rw [← nw.1.1, g1, hcA]
    have hln : ah_ln (ah_new h (40 + t) x.toNatClampNeg x.toNatClampNeg) (ah_sz h) = x.toNatClampNeg := if_pos rfl
    unfold ma_arr
    rw [hln]
    congr 2
    funext j
    have := ma_dflt (ty := ma_aty t) (by rw [hE0]; rfl) (h := ah_new h (40 + t) x.toNatClampNeg x.toNatClampNeg) (a := ah_sz h) (k := j) (if_pos rfl) (if_pos rfl) (if_pos rfl)
    rw [← this, hE0]
    rfl
end

/-! ===== more rows: event or not, stores and calls by several classes, super's method, athrow, catch ===== -/
theorem vp_c {i : Int32} {n : Nat} (h : ¬ (i < 0 ∨ n ≤ i.toNatClampNeg)) : vp_in i n := h
section
variable {G : ma_G} {y : ma_M} {d pc : Nat} {al : List (Option ma_V)} {st : List ma_V} {h : ah_T} {Q : Option ma_V → ah_T → Prop} {E : Nat → ah_T → Prop}
theorem ma_nc {C C' : String} (hw : (Cond.not (.castable C C')) ∈ flatC (Cond.and given_1 narrow_1)) : ∀ G : ma_G, ma_ok G → va_Nc C C' G.2.1 := fun G ok => va_Nc.of (args := G.2.2.1) (flat_of_before _ ok.2.2.2 _ hw)
theorem mx_instL {idx a : Nat} (hq : Cond.classLink y.1.cls idx "PrairiePool$Load" ∈ lw_all) (hd : decode y.2.1 pc = .ok (.instanceof idx, 3)) (hk : ma_ks h a [11, 12, 13, 14]) (K1 : ah_kd h a = 12 → MX G y d (pc + 3) al (iv 1 :: st) h Q E) (K0 : ¬ ah_kd h a = 12 → MX G y d (pc + 3) al (iv 0 :: st) h Q E) : MX G y d pc al (rv a :: st) h Q E := by
  obtain ⟨ci, hm, hk⟩ := hk
  simp only [List.mem_cons, List.not_mem_nil, or_false] at hm
  rcases hm with rfl | rfl | rfl | rfl
  · exact mx_instY 11 (C := "PrairiePool$Load") rfl hq hd hk (K1 hk)
  · exact mx_instN 12 (C := "PrairiePool$Spoil") rfl (ma_nc (by decide +kernel)) hq hd hk (K0 (by rw [hk]; decide))
  · exact mx_instN 13 (C := "PrairiePool$Car") rfl (ma_nc (by decide +kernel)) hq hd hk (K0 (by rw [hk]; decide))
  · exact mx_instN 14 (C := "PrairiePool$Sale") rfl (ma_nc (by decide +kernel)) hq hd hk (K0 (by rw [hk]; decide))
theorem mx_astqP (t : Nat) (cs : List Nat) {E0 : String} {a v n : Nat} {i : Int32} (ht : 5 ≤ t ∧ t < 12) (hE0 : ma_aty t = .object E0) (hall : ∀ ci ∈ cs, ∃ C T N, ma_cl[ci]? = some (C, T, N) ∧ (C = E0 ∨ Cond.castable C E0 ∈ lw_tbl)) (hd : decode y.2.1 pc = .ok (.aastore, 1)) (hn : i.toNatClampNeg = n) (hk : aok h (40 + t) a i) (hv : ma_ks h v cs) (hm : ah_R h a n = 0) (K : MX G y d (pc + 1) al st (ah_wR h a n v) Q E) : MX G y d pc al (rv v :: iv i :: rv a :: st) h Q E := by
  obtain ⟨ci, hci, hv⟩ := hv
  obtain ⟨C, T, N, hc, hca⟩ := hall ci hci
  exact mx_astq t ci ht hE0 hc hca hd hn hk hv hm K
/-- a call by the receiver's class: the method is tgt of its kind -/
theorem mx_callP (cs : List Nat) (tgt : Nat → ma_M) {x : MethodName} {owner : String} {nv : Nat} {vs st0 : List ma_V} {a idx : Nat} (hall : ∀ ci ∈ cs, ∃ C T N, ma_cl[ci]? = some (C, T, N) ∧ ma_cal (tgt (ci + 1)) ∧ ma_up x (tgt (ci + 1)).1 C owner ∧ nv + 1 ≤ (tgt (ci + 1)).2.2.1 ∧ (tgt (ci + 1)).2.2.1 ≤ 40) (hnp : (parseMethodDescriptor x.desc).map (fun d => d.parameters.length) = some vs.length) (hnv : vs.length = nv) (hin : (al_in vs).length = vs.length) (hw : 2 * st.length + 51 ≤ 300) (hk : Cond.methodLink y.1.cls idx x ∈ lw_all ∨ Cond.methodLink y.1.cls idx x ∈ defaultWords_1) (hd : decode y.2.1 pc = .ok (.invokevirtual idx, 3)) (hst : vs.reverse ++ rv a :: st = st0) (hkd : ma_ks h a cs)
    (K : MX G (tgt (ah_kd h a)) d 0 (al_ent (tgt (ah_kd h a)).2.2.1 (rv a :: vs)) [] h (fun v h' => ah_ext h h' → MX G y (d + 1) (pc + 3) al (v.toList ++ st) h' Q E) (fun x h' => ah_ext h h' → MT G y (d + 1) pc al x h' Q E)) : MX G y (d + 1) pc al st0 h Q E := by
  obtain ⟨ci, hci, hkd⟩ := hkd
  obtain ⟨C, T, N, hc, hcal, hup, hl, hm⟩ := hall ci hci
  rw [hkd] at K
  exact mx_callU ci hc hcal hup hnp hk hd hst rfl (by show (some (rv a) :: al_in vs).length ≤ _; rw [List.length_cons, hin]; omega) (by omega) hkd K
/-- super's own method, on an object of class ci -/
theorem mx_callX (ci : Nat) {y' : ma_M} {vs st0 : List ma_V} {a idx : Nat} {al' : List (Option ma_V)} {C : String} {T : u_T} {N : Nat} (hc : ma_cl[ci]? = some (C, T, N)) (hcal : ma_cal y') (hi : Cond.instanceMethod y'.1 ∈ lw_all) (hsm : Cond.sameMethod y'.1.cls y'.1.cls y'.1.name y'.1.desc ∈ lw_all) (hsu : Cond.superclass y.1.cls y'.1.cls ∈ lw_all) (hno : y'.1.name ≠ "<init>") (hnp : ma_np y' vs.length) (hk : Cond.methodLink y.1.cls idx y'.1 ∈ lw_all) (hd : decode y.2.1 pc = .ok (.invokespecial idx, 3)) (hst : vs.reverse ++ rv a :: st = st0) (hal : al_ent y'.2.2.1 (rv a :: vs) = al') (hle : (al_in (rv a :: vs)).length ≤ y'.2.2.1) (hw : 2 * st.length + y'.2.2.1 + 11 ≤ 300) (hkd : ah_kd h a = ci + 1)
    (K : MX G y' d 0 al' [] h (fun v h' => ah_ext h h' → MX G y (d + 1) (pc + 3) al (v.toList ++ st) h' Q E) (fun x h' => ah_ext h h' → MT G y (d + 1) pc al x h' Q E)) : MX G y (d + 1) pc al st0 h Q E := by
  subst hst
  intro p e R s m args below meth c ok cx H locs cells slots ls nw hl TT hT X
  have cx0 := cx
  obtain ⟨hx, hb, hml, hr, hlk, hown, hhd, hW, hfr, hlo, hnm⟩ := cx
  have hts := ma_wd ok hW args
  obtain ⟨ha0, hba, cell, q1, q2, q3, -⟩ := nw.1.obj hkd hc
  obtain ⟨kB, hkB, -⟩ := ((ok.2.1.moved hW.alike).1 ci _ hc).2.2
  obtain ⟨mk, methM, hnamed, hmethM, hstM, habM⟩ := Cond.instanceMethod_spec (hts _ hi)
  obtain ⟨methM', cM, e1, -, -, -, -, -, -, hsig⟩ := hcal.spec hts hnamed
  cases hmethM.symm.trans e1
  obtain ⟨ps, dk, kp, hps, hdk, hkp, hsuper, -, -, hnid⟩ := Cond.superclass_spec hown (hts _ hsu)
  have hn : s.methodNamed? ⟨y'.1.cls, y'.1.name, y'.1.desc⟩ = some mk := hnamed
  have hpm : ps = mk.cls := Option.some.inj (hps.symm.trans (findClass_of_methodNamed hnamed))
  have hsub : s.vm.isSubclass ps mk.cls = true := by rw [hpm]; simp [Vm.isSubclass, Vm.isSubclassAux]
  have hstack : (F0 m pc ls ((vs.reverse ++ rv a :: st).map ma_v)).stack = (vs.map ma_v).reverse ++ .ref (a - 1) :: st.map ma_v := ma_stk vs st a ha0
  have hlen : (vs.map ma_v).length = methM.sig.parameters.length := by rw [List.length_map]; exact hnp.len hsig
  have hobj : ∀ z, cell.vm ≠ .statics z := fun z q => by rw [q3] at q; cases q
  have harg : ((rv a :: vs).map ma_v).toArray = (Value.ref (a - 1) :: vs.map ma_v).toArray := by
    show (ma_rf a :: vs.map ma_v).toArray = _
    rw [ma_rf_pos ha0]
  obtain ⟨vm₁, X₁, hs1⟩ := X.invokespecialUp hx hown (hts _ hk) (hts _ hsm) hn hmethM hstM habM hno hdk hnid hps hsuper hsub (a := a - 1) (cell := cell) (by rw [hT]; exact q1) hobj (by rw [q2]; exact hkB) (g := F0 m pc ls ((vs.reverse ++ rv a :: st).map ma_v)) rfl hlen hstack (by rw [hb]; exact hd)
  obtain ⟨t, f1, f2⟩ := ma_enter (vs := rv a :: vs) hcal hal hle hw hd K ok cx0 nw hl (T := TT.setVm vm₁) hT X₁ hnamed
  exact ⟨t, hs1 t (by rw [← harg]; exact f1 []), f2⟩
theorem mx_athrow {a : Nat} (hd : decode y.2.1 pc = .ok (.athrow, 1)) (hk : ah_kd h a ≠ 0) (K : MT G y d pc al a h Q E) : MX G y d pc al (rv a :: st) h Q E := by
  intro p e R s m args below meth c ok cx H locs cells slots ls nw hl T hT X
  have ha0 : a ≠ 0 := fun q => hk (by rw [q]; exact nw.1.2.2.2.1)
  obtain ⟨t, b1, b2⟩ := K p e R s m args below meth c ok cx H locs cells slots ls (st.map ma_v) nw hl ha0 T hT X
  refine ⟨t, ?_, b2⟩
  have hx := cx.1
  have hdg : decode c.code pc = .ok (.athrow, 1) := by rw [cx.2.1]; exact hd
  show Steps p.tables e below (T.setTop (F0 m pc ls (ma_rf a :: st.map ma_v))) t
  rw [ma_rf_pos ha0]
  have hdg' : decode c.code (F0 m pc ls (.ref (a - 1) :: st.map ma_v)).pc = .ok (.athrow, 1) := hdg
  have hstack : (F0 m pc ls (.ref (a - 1) :: st.map ma_v)).stack = .ref (a - 1) :: st.map ma_v := rfl
  jvm_step X.here [hx, hdg', athrow.wp_sem, hstack]
  exact b1
end

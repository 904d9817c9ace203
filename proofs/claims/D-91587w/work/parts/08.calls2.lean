/-! ===== the kinds of call ===== -/
def ma_noMH (y' : ma_M) : Prop := y'.1.cls ≠ "java/lang/invoke/MethodHandle" ∧ y'.1.cls ≠ "java/lang/invoke/VarHandle"
def ma_np (y' : ma_M) (n : Nat) : Prop := (parseMethodDescriptor y'.1.desc).map (fun d => d.parameters.length) = some n
theorem ma_np.len {y' : ma_M} {n : Nat} (h : ma_np y' n) {sig : MethodDescriptor} (hs : parseMethodDescriptor y'.1.desc = some sig) : n = sig.parameters.length := by
  unfold ma_np at h
  rw [hs] at h
  exact (Option.some.inj h).symm
def ma_vir (y' : ma_M) (C : String) (n : Nat) : Prop := ma_cal y' ∧ Cond.instanceMethod y'.1 ∈ lw_all ∧ Cond.selects C y'.1 y'.1 ∈ lw_all ∧ ma_noMH y' ∧ ma_np y' n
def ma_sta (y' : ma_M) (n : Nat) : Prop := ma_cal y' ∧ Cond.static y'.1 ∈ lw_all ∧ Cond.initialized y'.1.cls ∈ lw_all ∧ ma_noMH y' ∧ ma_np y' n
def ma_ini (y' : ma_M) (n : Nat) : Prop := ma_cal y' ∧ y'.1.name = "<init>" ∧ Cond.instanceMethod y'.1 ∈ lw_all ∧ Cond.code y'.1 y'.2.1 y'.2.2.1 none ∈ lw_all ∧ ma_noMH y' ∧ ma_np y' n
def ma_ml (own : String) (idx : Nat) (x : MethodName) : Prop := Cond.methodLink own idx x ∈ lw_all ∨ ∃ host, Cond.methodLinkNest own idx x host ∈ lw_tbl
section
variable {G : ma_G} {y : ma_M} {d pc : Nat} {al : List (Option ma_V)} {st : List ma_V} {h : ah_T} {Q : Option ma_V → ah_T → Prop} {E : Nat → ah_T → Prop}
theorem ma_stk (vs st : List ma_V) (a : Nat) (ha : a ≠ 0) : (vs.reverse ++ rv a :: st).map ma_v = (vs.map ma_v).reverse ++ .ref (a - 1) :: st.map ma_v := by
  rw [List.map_append, List.map_reverse, List.map_cons]
  show _ ++ ma_rf a :: _ = _
  rw [ma_rf_pos ha]
theorem mx_callV (ci : Nat) {y' : ma_M} {vs st0 : List ma_V} {a idx : Nat} {al' : List (Option ma_V)} {C : String} {T : u_T} {N : Nat} (hc : ma_cl[ci]? = some (C, T, N)) (hV : ma_vir y' C vs.length) (hk : ma_ml y.1.cls idx y'.1) (hd : decode y.2.1 pc = .ok (.invokevirtual idx, 3)) (hst : vs.reverse ++ rv a :: st = st0) (hal : al_ent y'.2.2.1 (rv a :: vs) = al') (hle : (al_in (rv a :: vs)).length ≤ y'.2.2.1) (hw : 2 * st.length + y'.2.2.1 + 11 ≤ 300) (hkd : ah_kd h a = ci + 1)
    (K : MX G y' d 0 al' [] h (fun v h' => ah_ext h h' → MX G y (d + 1) (pc + 3) al (v.toList ++ st) h' Q E) (fun x h' => ah_ext h h' → MT G y (d + 1) pc al x h' Q E)) : MX G y (d + 1) pc al st0 h Q E := by
  subst hst
  intro p e R s m args below meth c ok cx H locs cells slots ls nw hl TT hT X
  have cx0 := cx
  obtain ⟨hx, hb, hml, hr, hlk, hown, hhd, hW, hfr, hlo, hnm⟩ := cx
  obtain ⟨hcal, hi, hse, hmh, hnp⟩ := hV
  have hts := ma_wd ok hW args
  obtain ⟨ha0, hba, cell, q1, q2, q3, -⟩ := nw.1.obj hkd hc
  have hcls : s.vm.findClass C = some cell.cls := by rw [q2]; exact ((ok.2.1.moved hW.alike).1 ci _ hc).2.1
  obtain ⟨mk, methM, hnamed, hmethM, hstM, habM⟩ := Cond.instanceMethod_spec (hts _ hi)
  obtain ⟨methM', cM, e1, -, -, -, -, -, -, hsig⟩ := hcal.spec hts hnamed
  cases hmethM.symm.trans e1
  obtain ⟨c2, r2, m2, p1, p2, p3, p4, kP, hkP, hkPi⟩ := Cond.selects_spec (hts _ hse)
  cases hcls.symm.trans p1
  cases (State.methodFound?_of_named hnamed hmh).symm.trans p2
  cases hnamed.symm.trans p3
  have hselP : selectMethod e.platform s.vm cell.cls mk = .method mk := by rw [Launch.admits_selectMethod X.admits]; exact p4
  have hstack : (F0 m pc ls ((vs.reverse ++ rv a :: st).map ma_v)).stack = (vs.map ma_v).reverse ++ .ref (a - 1) :: st.map ma_v := ma_stk vs st a ha0
  have hlen : (vs.map ma_v).length = methM.sig.parameters.length := by rw [List.length_map]; exact hnp.len hsig
  have hobj : ∀ z, cell.vm ≠ .statics z := fun z q => by rw [q3] at q; cases q
  have harg : ((rv a :: vs).map ma_v).toArray = (Value.ref (a - 1) :: vs.map ma_v).toArray := by
    show (ma_rf a :: vs.map ma_v).toArray = _
    rw [ma_rf_pos ha0]
  rcases hk with hk | ⟨host, hk⟩
  · obtain ⟨vm₁, X₁, hs1⟩ := X.invokevirtual hx hown (hts _ hk) hnamed hmethM hstM hkP hkPi hmh (a := a - 1) (cell := cell) (by rw [hT]; exact q1) hobj hselP hmethM habM hkP hkPi (g := F0 m pc ls ((vs.reverse ++ rv a :: st).map ma_v)) rfl hlen hstack (by rw [hb]; exact hd)
    obtain ⟨t, f1, f2⟩ := ma_enter (vs := rv a :: vs) hcal hal hle hw hd K ok cx0 nw hl (T := TT.setVm vm₁) hT X₁ hnamed
    exact ⟨t, hs1 t (by rw [← harg]; exact f1), f2⟩
  · obtain ⟨vm₁, X₁, hs1⟩ := X.invokevirtualNest hx hown (ma_nestM ok hW args hk) hnamed hmethM hstM hkP hkPi hmh (a := a - 1) (cell := cell) (by rw [hT]; exact q1) hobj hselP hmethM habM hkP hkPi (g := F0 m pc ls ((vs.reverse ++ rv a :: st).map ma_v)) rfl hlen hstack (by rw [hb]; exact hd)
    obtain ⟨t, f1, f2⟩ := ma_enter (vs := rv a :: vs) hcal hal hle hw hd K ok cx0 nw hl (T := TT.setVm vm₁) hT X₁ hnamed
    exact ⟨t, hs1 t (by rw [← harg]; exact f1), f2⟩
theorem mx_callS {y' : ma_M} {vs st0 : List ma_V} {idx : Nat} {al' : List (Option ma_V)} (hV : ma_sta y' vs.length) (hk : Cond.methodLink y.1.cls idx y'.1 ∈ lw_all) (hd : decode y.2.1 pc = .ok (.invokestatic idx, 3)) (hst : vs.reverse ++ st = st0) (hal : al_ent y'.2.2.1 vs = al') (hle : (al_in vs).length ≤ y'.2.2.1) (hw : 2 * st.length + y'.2.2.1 + 11 ≤ 300)
    (K : MX G y' d 0 al' [] h (fun v h' => ah_ext h h' → MX G y (d + 1) (pc + 3) al (v.toList ++ st) h' Q E) (fun x h' => ah_ext h h' → MT G y (d + 1) pc al x h' Q E)) : MX G y (d + 1) pc al st0 h Q E := by
  subst hst
  intro p e R s m args below meth c ok cx H locs cells slots ls nw hl TT hT X
  have cx0 := cx
  obtain ⟨hx, hb, hml, hr, hlk, hown, hhd, hW, hfr, hlo, hnm⟩ := cx
  obtain ⟨hcal, hs, hin, hmh, hnp⟩ := hV
  have hts := ma_wd ok hW args
  have hcode : ∃ mk, s.methodNamed? y'.1 = some mk := by
    obtain ⟨-, ⟨h1, h2⟩ | h1⟩ := hcal
    · have h3 := hts _ h1
      cases hq : s.methodNamed? y'.1 with
      | some mk => exact ⟨mk, rfl⟩
      | none => simp [Cond.before, Cond.holds, Cond.value, hq] at h3
    · obtain ⟨mk, -, -, h3, -⟩ := Cond.codeWith_spec (hts _ h1)
      exact ⟨mk, h3⟩
  obtain ⟨mk, hnamed⟩ := hcode
  obtain ⟨methM, cM, hmethM, -, -, -, -, -, -, hsig⟩ := hcal.spec hts hnamed
  have hstat := Cond.static_spec hnamed hmethM (hts _ hs)
  obtain ⟨kx, hkx, hnx⟩ := className_of_methodNamed hnamed
  have hinit : kx.init = .initialized := Cond.initialized_spec (findClass_of_methodNamed hnamed) hkx (hts _ hin)
  have hstack : (F0 m pc ls ((vs.reverse ++ st).map ma_v)).stack = (vs.map ma_v).reverse ++ st.map ma_v := by
    show (vs.reverse ++ st).map ma_v = _
    rw [List.map_append, List.map_reverse]
  have hlen : (vs.map ma_v).length = methM.sig.parameters.length := by rw [List.length_map]; exact hnp.len hsig
  obtain ⟨vm₁, X₁, hs1⟩ := X.invokestatic hx hown (hts _ hk) hnamed hmethM hstat hkx hinit hmh (g := F0 m pc ls ((vs.reverse ++ st).map ma_v)) rfl hlen hstack (by rw [hb]; exact hd)
  obtain ⟨t, f1, f2⟩ := ma_enter (vs := vs) hcal hal hle hw hd K ok cx0 nw hl (T := TT.setVm vm₁) hT X₁ hnamed
  exact ⟨t, hs1 t f1, f2⟩
theorem mx_callI {y' : ma_M} {vs st0 : List ma_V} {a idx : Nat} {al' : List (Option ma_V)} (hV : ma_ini y' vs.length) (hk : ma_ml y.1.cls idx y'.1) (hd : decode y.2.1 pc = .ok (.invokespecial idx, 3)) (hst : vs.reverse ++ rv a :: st = st0) (hal : al_ent y'.2.2.1 (rv a :: vs) = al') (hle : (al_in (rv a :: vs)).length ≤ y'.2.2.1) (hw : 2 * st.length + y'.2.2.1 + 11 ≤ 300) (ha0 : ah_kd h a ≠ 0)
    (K : MX G y' d 0 al' [] h (fun v h' => ah_ext h h' → MX G y (d + 1) (pc + 3) al (v.toList ++ st) h' Q E) (fun x h' => ah_ext h h' → MT G y (d + 1) pc al x h' Q E)) : MX G y (d + 1) pc al st0 h Q E := by
  subst hst
  intro p e R s m args below meth c ok cx H locs cells slots ls nw hl TT hT X
  have cx0 := cx
  obtain ⟨hx, hb, hml, hr, hlk, hown, hhd, hW, hfr, hlo, hnm⟩ := cx
  obtain ⟨hcal, hy1, hi, hco, hmh, hnp⟩ := hV
  have hts := ma_wd ok hW args
  have ha0 : a ≠ 0 := fun q => ha0 (by rw [q]; exact nw.1.2.2.2.1)
  have hpl : e.platform.magicAccessors = ({} : Platform).magicAccessors := by rw [X.admits.platform]
  have hstack : (F0 m pc ls ((vs.reverse ++ rv a :: st).map ma_v)).stack = (vs.map ma_v).reverse ++ .ref (a - 1) :: st.map ma_v := ma_stk vs st a ha0
  have hlen : ∀ sig, parseMethodDescriptor y'.1.desc = some sig → (vs.map ma_v).length = sig.parameters.length := fun sig hsig => by rw [List.length_map]; exact hnp.len hsig
  have harg : ((rv a :: vs).map ma_v).toArray = (Value.ref (a - 1) :: vs.map ma_v).toArray := by
    show (ma_rf a :: vs.map ma_v).toArray = _
    rw [ma_rf_pos ha0]
  rcases hk with hk | ⟨host, hk⟩
  · obtain ⟨mk, methM, cM, kP, vm₁, hnamed, -, -, -, -, -, -, -, hW₁, hs1⟩ := Steps.initColdArgs (e := e) X.here hx X.warmed hpl hown hy1 hmh (hts _ hk) (hts _ hi) (hts _ hco) (f := F0 m pc ls ((vs.reverse ++ rv a :: st).map ma_v)) rfl hlen hstack (by rw [hb]; exact hd)
    obtain ⟨t, f1, f2⟩ := ma_enter (vs := rv a :: vs) hcal hal hle hw hd K ok cx0 nw hl (T := TT.setVm vm₁) hT (X.noted hW₁) hnamed
    exact ⟨t, hs1 t (by rw [← harg]; exact f1), f2⟩
  · obtain ⟨mk, methM, cM, kP, vm₁, hnamed, -, -, -, -, -, -, -, hW₁, hs1⟩ := Steps.initColdArgsNest (e := e) X.here hx X.warmed hpl hown hy1 hmh (ma_nestM ok hW args hk) (hts _ hi) (hts _ hco) (f := F0 m pc ls ((vs.reverse ++ rv a :: st).map ma_v)) rfl hlen hstack (by rw [hb]; exact hd)
    obtain ⟨t, f1, f2⟩ := ma_enter (vs := rv a :: vs) hcal hal hle hw hd K ok cx0 nw hl (T := TT.setVm vm₁) hT (X.noted hW₁) hnamed
    exact ⟨t, hs1 t (by rw [← harg]; exact f1), f2⟩
/-- Object.<init> -/
theorem mx_objInit {a idx : Nat} (hk : Cond.methodLink y.1.cls idx Lib.objectInit ∈ lw_all) (hi : Cond.instanceMethod Lib.objectInit ∈ lw_all) (hco : Cond.code Lib.objectInit ⟨#[0xb1]⟩ 1 none ∈ lw_all) (hd : decode y.2.1 pc = .ok (.invokespecial idx, 3)) (hw : 2 * st.length + 12 ≤ 300) (ha0 : ah_kd h a ≠ 0) (K : MX G y (d + 1) (pc + 3) al st h Q E) : MX G y (d + 1) pc al (rv a :: st) h Q E := by
  intro p e R s m args below meth c ok cx H locs cells slots ls nw hl
  have cx0 := cx
  obtain ⟨hx, hb, hml, hr, hlk, hown, hhd, hW, hfr, hlo, hnm⟩ := cx
  have hts := ma_wd ok hW args
  have ha0 : a ≠ 0 := fun q => ha0 (by rw [q]; exact nw.1.2.2.2.1)
  have hsum := ma_sum2 st
  show W p G.1 e R s m args below meth c H locs cells slots _ (F0 m pc ls (ma_rf a :: st.map ma_v))
  rw [ma_rf_pos ha0]
  exact W.objInit hx hb hown (hts _ hk) (hts _ hi) (hts _ hco) rfl (by show ls.size = _; rw [hml]; exact hl.1) rfl hd (by omega) (by show 2 * 0 + ((st.map ma_v).map fun v => v.category).sum + 12 ≤ R.locals; omega) (K p e R s m args below meth c ok cx0 H locs cells slots ls nw hl)
/-! ===== new ===== -/
theorem ah_new_ext {H : Heap} (r0 : ma_rel G h H) {kd len cost : Nat} : ah_ext h (ah_new h kd len cost) := ⟨Nat.le_succ _, fun b hb => by
  have hlt : b - 1 < H.size := by
    rcases r0.2.2.2.2 b hb with ⟨-, cell, h2, -⟩ | ⟨-, ⟨ci, r, -, -, cell, h2, -⟩ | ⟨t, -, -, h3⟩ | ⟨j, -, -, cell, h2, -⟩⟩
    · exact (Array.getElem?_eq_some_iff.mp h2).1
    · exact (Array.getElem?_eq_some_iff.mp h2).1
    · exact (Array.getElem?_eq_some_iff.mp h3).1
    · exact (Array.getElem?_eq_some_iff.mp h2).1
  have hne : ¬ b = h.1.1 := by
    have h1 := r0.1
    show ¬ b = ah_sz h
    omega
  exact ⟨if_neg hne, if_neg hne, fun k _ _ => if_neg hne⟩⟩
/-- what lives lies below the size -/
def ah_liv (h : ah_T) : Prop := ∀ b, ah_kd h b ≠ 0 → b < ah_sz h
theorem ma_rel.liv {H : Heap} (r0 : ma_rel G h H) : ah_liv h := fun b hb => by
  have hlt : b - 1 < H.size := by
    rcases r0.2.2.2.2 b hb with ⟨-, cell, h2, -⟩ | ⟨-, ⟨ci, r, -, -, cell, h2, -⟩ | ⟨t, -, -, h3⟩ | ⟨j, -, -, cell, h2, -⟩⟩
    · exact (Array.getElem?_eq_some_iff.mp h2).1
    · exact (Array.getElem?_eq_some_iff.mp h2).1
    · exact (Array.getElem?_eq_some_iff.mp h3).1
    · exact (Array.getElem?_eq_some_iff.mp h2).1
  have h1 := r0.1
  omega
def ma_dok : FieldType → Bool
  | .float => false
  | .double => false
  | _ => true
theorem ma_dflt {ty : FieldType} (hty : ma_dok ty = true) {h : ah_T} {a k : Nat} (h1 : ah_I h a k = 0) (h2 : ah_J h a k = 0) (h3 : ah_R h a k = 0) : defaultValue ty = ma_v (ah_val ty h a k) := by
  unfold ah_val
  cases ty <;> simp [ma_dok] at hty <;> simp [defaultValue, ma_v, h1, h2, h3] <;> rfl
theorem mx_new (ci : Nat) {C : String} {T : u_T} {N n idx : Nat} (hc : ma_cl[ci]? = some (C, T, N)) (hdk : ∀ k, k < N → ma_dok (ma_fty ci k) = true) (hk : Cond.classLink y.1.cls idx C ∈ lw_all) (hi : Cond.instantiable C n ∈ lw_all) (hini : Cond.initialized C ∈ lw_all) (hd : decode y.2.1 pc = .ok (.new idx, 3)) (h1 : 1 ≤ ah_rc h) (h2 : n ≤ ah_rs h) (K : ah_ext h (ah_new h (ci + 1) 0 n) → ah_liv h → MX G y d (pc + 3) al (rv (ah_sz h) :: st) (ah_new h (ci + 1) 0 n) Q E) : MX G y d pc al st h Q E := by
  intro p e R s m args below meth c ok cx H locs cells slots ls nw hl
  have cx0 := cx
  obtain ⟨hx, hb, hml, hr, hlk, hown, hhd, hW, hfr, hlo, hnm⟩ := cx
  have hts := ma_wd ok hW args
  have hKn := (ok.2.1.moved hW.alike).1 ci _ hc
  have e1 := nw.2.2.1
  have e2 := nw.2.2.2
  have hp := ok.2.2.1.1
  have hz : ah_sz h ≠ 0 := by have := nw.1.2.1; omega
  refine W.newcK hx hb hown (hts _ hk) (hts _ hi) (hts _ hini) rfl hd (by omega) (by omega) hKn.2.1 (h := ah_sz h - 1) nw.1.1 fun H1 kC hkC f1 z1 o1 => ?_
  have hext : ah_ext h (ah_new h (ci + 1) 0 n) := ah_new_ext nw.1
  have hK := ma_Wmono (K hext nw.1.liv p e R s m args below meth c ok cx0 H1 locs (cells + 1) (slots + n) ls ⟨?_, nw.2.1, by show cells + 1 + (ah_rc h - 1) ≤ _; omega, by show slots + n + (ah_rs h - n) ≤ _; omega⟩ hl) (fun t => ma_end_ext hext)
  · have e3 : F0 m (pc + 3) ls ((rv (ah_sz h) :: st).map ma_v) = F0 m (pc + 3) ls (.ref (ah_sz h - 1) :: st.map ma_v) := by
      show F0 m (pc + 3) ls (ma_rf (ah_sz h) :: st.map ma_v) = _
      rw [ma_rf_pos hz]
    rw [e3] at hK
    exact hK
  · refine nw.1.grow (by rw [z1, nw.1.1]) (fun q hq => o1 q (by rw [← nw.1.1]; exact hq)) rfl (fun b hb => ⟨if_neg hb, if_neg hb, fun k => if_neg hb, fun k => if_neg hb, fun k => if_neg hb⟩) hp (Or.inr ⟨by have := nw.1.2.1; omega, Or.inl ⟨ci, _, if_pos rfl, hc, ?_⟩⟩)
    exact (u_born (ma_fty ci) hts (ma_cl_in ci _ hc) hKn hkC f1 (ma_cl_ty ci _ hc)).to (fun j hj => ma_dflt (hdk j hj) (if_pos rfl) (if_pos rfl) (if_pos rfl))
theorem mx_newa (t : Nat) {atype : ArrayType} {x : Int32} {n : Nat} (hty : newarray.typeOf atype = ma_aty t) (ht : t < 5) (hq : Cond.arrayClass (ma_aty t) ∈ lw_all) (hd : decode y.2.1 pc = .ok (.newarray atype, 2)) (hx : x.toNatClampNeg = n) (h0 : ¬ x < 0) (h1 : 1 ≤ ah_rc h) (h2 : n ≤ ah_rs h) (h3 : n ≤ 1000000) (K : ah_ext h (ah_new h (40 + t) n n) → ah_liv h → MX G y d (pc + 2) al (rv (ah_sz h) :: st) (ah_new h (40 + t) n n) Q E) : MX G y d pc al (iv x :: st) h Q E := by
  intro p e R s m args below meth c ok cx H locs cells slots ls nw hl
  have cx0 := cx
  obtain ⟨hx0, hb, hml, hr, hlk, hown, hhd, hW, hfr, hlo, hnm⟩ := cx
  have hts := ma_wd ok hW args
  have e1 := nw.2.2.1
  have e2 := nw.2.2.2
  have hp := ok.2.2.1.1
  have hz : ah_sz h ≠ 0 := by have := nw.1.2.1; omega
  have hRA := ((ok.2.1.moved hW.alike).2 t _ (ma_tys_at G (show t < 16 by omega))).2
  have hcb : componentBytes (newarray.typeOf atype) ≤ 8 := by cases atype <;> decide
  refine va_newaK hx0 hb (by rw [hty]; exact hts _ hq) rfl hd rfl h0 hx (Nat.le_trans (Nat.mul_le_mul_left n hcb) (by omega)) (by omega) (by omega) (h := ah_sz h - 1) nw.1.1 fun H1 cA f1 z1 o1 hAr hNm => ?_
  have hcA : cA = G.2.2.2.2.1 t := by
    rw [hty] at hNm
    have hRA' : s.vm.findClass ("[" ++ (ma_aty t).toString) = some (G.2.2.2.2.1 t) := by
      rcases (show t = 0 ∨ t = 1 ∨ t = 2 ∨ t = 3 ∨ t = 4 by omega) with rfl | rfl | rfl | rfl | rfl <;> exact hRA
    exact Option.some.inj (hNm.symm.trans hRA')
  have hext : ah_ext h (ah_new h (40 + t) n n) := ah_new_ext nw.1
  have hK := ma_Wmono (K hext nw.1.liv p e R s m args below meth c ok cx0 H1 locs (cells + 1) (slots + n) ls ⟨?_, nw.2.1, by show cells + 1 + (ah_rc h - 1) ≤ _; omega, by show slots + n + (ah_rs h - n) ≤ _; omega⟩ hl) (fun t => ma_end_ext hext)
  · have e3 : F0 m (pc + 2) ls ((rv (ah_sz h) :: st).map ma_v) = F0 m (pc + 2) ls (.ref (ah_sz h - 1) :: st.map ma_v) := by
      show F0 m (pc + 2) ls (ma_rf (ah_sz h) :: st.map ma_v) = _
      rw [ma_rf_pos hz]
    rw [e3] at hK
    exact hK
  · refine nw.1.grow (by rw [z1, nw.1.1]) (fun q hq => o1 q (by rw [← nw.1.1]; exact hq)) rfl (fun b hb => ⟨if_neg hb, if_neg hb, fun k => if_neg hb, fun k => if_neg hb, fun k => if_neg hb⟩) hp (Or.inr ⟨by have := nw.1.2.1; omega, Or.inr (Or.inl ⟨t, if_pos rfl, by omega, ?_⟩)⟩)
    rw [f1, hcA, hty]
    have hln : ah_ln (ah_new h (40 + t) n n) (ah_sz h) = n := if_pos rfl
    unfold ma_arr
    rw [hln]
    congr 2
    funext j
    exact ma_dflt (by rcases (show t = 0 ∨ t = 1 ∨ t = 2 ∨ t = 3 ∨ t = 4 by omega) with rfl | rfl | rfl | rfl | rfl <;> rfl) (if_pos rfl) (if_pos rfl) (if_pos rfl)
/-! ===== constants ===== -/
theorem mx_ldc {idx : Nat} {v : Int32} (hq : Cond.constant y.1.cls idx v ∈ lw_all) (hd : decode y.2.1 pc = .ok (.ldc idx, 2)) (K : MX G y d (pc + 2) al (iv v :: st) h Q E) : MX G y d pc al st h Q E :=
  fun p e R s m args below meth c ok cx H locs cells slots ls nw hl => lv_ldc cx.1 cx.2.1 cx.2.2.2.2.2.1 (ma_wd ok cx.2.2.2.2.2.2.2.1 args _ hq) hd (K p e R s m args below meth c ok cx H locs cells slots ls nw hl)
theorem mx_ldcw {idx : Nat} {v : Int32} (hq : Cond.constant y.1.cls idx v ∈ lw_all) (hd : decode y.2.1 pc = .ok (.ldc_w idx, 3)) (K : MX G y d (pc + 3) al (iv v :: st) h Q E) : MX G y d pc al st h Q E :=
  fun p e R s m args below meth c ok cx H locs cells slots ls nw hl => lv_ldcw cx.1 cx.2.1 cx.2.2.2.2.2.1 (ma_wd ok cx.2.2.2.2.2.2.2.1 args _ hq) hd (K p e R s m args below meth c ok cx H locs cells slots ls nw hl)
theorem mx_ldc2 {idx : Nat} {v : Int64} (hq : Cond.constantLong y.1.cls idx v ∈ lw_all) (hd : decode y.2.1 pc = .ok (.ldc2_w idx, 3)) (K : MX G y d (pc + 3) al (jv v :: st) h Q E) : MX G y d pc al st h Q E :=
  fun p e R s m args below meth c ok cx H locs cells slots ls nw hl => lv_ldc2 cx.1 cx.2.1 cx.2.2.2.2.2.1 (ma_wd ok cx.2.2.2.2.2.2.2.1 args _ hq) hd (K p e R s m args below meth c ok cx H locs cells slots ls nw hl)
end

/-! ===== catch, in the layer's form ===== -/
/-- x is an object of the class named C -/
def ma_xc (h : ah_T) (x : Nat) (C : String) : Prop := (∃ ci T N, ma_cl[ci]? = some (C, T, N) ∧ ah_kd h x = ci + 1) ∨ ∃ j, j < 4 ∧ ah_kd h x = 30 + j ∧ C = ma_exn j
theorem ma_xc.cell {G : ma_G} {h : ah_T} {x : Nat} {C : String} (hc : ma_xc h x C) (ok : ma_ok G) {s : State} (hW : G.2.1.WarmedH s.vm) {H : Heap} (r0 : ma_rel G h H) : x ≠ 0 ∧ ∃ cell : Cell, H[x - 1]? = some cell ∧ (∀ z, cell.vm ≠ .statics z) ∧ s.vm.findClass C = some cell.cls := by
  rcases hc with ⟨ci, T, N, h1, h2⟩ | ⟨j, h1, h2, rfl⟩
  · obtain ⟨g0, cell, g1, g2, g3⟩ := ma_recv ok hW r0 h2 h1
    exact ⟨g0, cell, g1, (fun z q => by rw [g2] at q; cases q), g3⟩
  · obtain ⟨g0, cell, g1, g2, g3⟩ := r0.exn h2 h1
    exact ⟨g0, cell, g1, g2, by rw [hW.alike.findClass]; exact g3⟩
theorem ma_caught {p : Program} {l : Launch} {e : Env} {R : Room} {s : State} {m : MethodId} {args : Array Value} {below : List Frame} {meth : Method} {c : Code} {T : State} {locs : List Loc} {cells slots : Nat} (X : Stand p l e R s m args below meth c T locs cells slots) {own D : String} {x0 : ExceptionTableEntry} {rest : List ExceptionTableEntry} {pc : Nat} {ls : Array Slot} {st : List Value}
    (hown : s.vm.findClass own = some m.cls) (hlink : (Cond.classLink own x0.catchType D).before args s = true) (htab : c.exceptionTable.toList = x0 :: rest) (hx : covers x0 pc = true) (h0 : x0.catchType ≠ 0) {a : Addr} {cell : Cell} (hcell : T.heap[a]? = some cell) (hobj : ∀ k, cell.vm ≠ .statics k) (hk : ∃ k, s.vm.classes[cell.cls]? = some k)
    (hyes : ∃ cD, s.vm.findClass D = some cD ∧ s.vm.assignable cell.cls cD = true) :
    ∃ vm', Stand p l e R s m args below meth c (T.setVm vm') locs cells slots ∧ ∀ target, Steps p.tables e below ((T.setVm vm').setTop (F0 m x0.handlerPc ls [.ref a])) target → Steps p.tables e below ((T.setTop (F0 m pc ls st)).pushFrame (.throwing a)) target := by
  have hpl : e.platform.magicAccessors = ({} : Platform).magicAccessors := by rw [X.admits.platform]
  obtain ⟨cD, hcD, hcl⟩ := Cond.classLink_spec hown hlink e.platform hpl
  obtain ⟨cD', hcD', hasg⟩ := hyes
  cases hcD'.symm.trans hcD
  obtain ⟨dk, _, _, kt, hd, _, _, _, _, hkt, _, hopen⟩ := hcl.here
  have hcl₀ := X.warmed.classLinks hcl
  have hW' : s.WarmedH (T.vm.noted m.cls x0.catchType (.cls cD)) := X.warmed.noted hd hopen (State.rightAt_cls hcl)
  have hX' := X.noted hW'
  refine ⟨_, hX', fun target hr => ?_⟩
  obtain ⟨ks, hks⟩ := hk
  obtain ⟨ks', hks', -⟩ := hW'.alike.2.2 _ _ hks
  obtain ⟨kt', hkt', -⟩ := hW'.alike.2.2 _ _ hkt
  have hasg' : (T.vm.noted m.cls x0.catchType (.cls cD)).assignable cell.cls cD = true := by rw [hW'.alike.assignable]; exact hasg
  have hvm : ((T.setTop (F0 m pc ls st)).pushFrame (.throwing a)).vm = T.vm := Stand.throwing_vm T _ a
  have hhp : ((T.setTop (F0 m pc ls st)).pushFrame (.throwing a)).heap = T.heap := Stand.throwing_heap T _ a
  refine mb_caught (g := F0 m pc ls st) (c := c) X.here (pc := x0.handlerPc) (vm' := T.vm.noted m.cls x0.catchType (.cls cD)) (mb_find (meth := meth) (code := c) (by rw [hvm]; exact X.method') X.code ?_) hr
  intro Q E d acts
  rw [htab]
  rw [mb_go (c := cD) (cell := cell) (vm' := T.vm.noted m.cls x0.catchType (.cls cD)) hx h0 (by rw [hvm]; exact resolveClass_links e.toSetting hcl₀) (by rw [hvm, Vm.size_noted]; exact Nat.le_refl _) (by rw [hhp]; exact hcell) hobj ⟨ks', hks'⟩ ⟨kt', hkt'⟩, if_pos hasg']
theorem ma_tab {y : ma_M} {c : Code} {q : Nat × Nat × Nat × Nat} {qs : List (Nat × Nat × Nat × Nat)} (h : c.exceptionTable.toList.map (fun h => (h.startPc, h.endPc, h.handlerPc, h.catchType)) = y.2.2.2.2) (hy : y.2.2.2.2 = q :: qs) : ∃ x0 rest, c.exceptionTable.toList = x0 :: rest ∧ x0.startPc = q.1 ∧ x0.endPc = q.2.1 ∧ x0.handlerPc = q.2.2.1 ∧ x0.catchType = q.2.2.2 ∧ rest.map (fun h => (h.startPc, h.endPc, h.handlerPc, h.catchType)) = qs := by
  rw [hy] at h
  cases ht : c.exceptionTable.toList with
  | nil => rw [ht] at h; cases h
  | cons x0 rest =>
    rw [ht] at h
    simp only [List.map_cons, List.cons.injEq] at h
    obtain ⟨h1, h2⟩ := h
    exact ⟨x0, rest, rfl, by rw [← h1], by rw [← h1], by rw [← h1], by rw [← h1], h2⟩
section
variable {G : ma_G} {y : ma_M} {d pc : Nat} {al : List (Option ma_V)} {st : List ma_V} {h : ah_T} {Q : Option ma_V → ah_T → Prop} {E : Nat → ah_T → Prop}
theorem ma_asg {C D : String} (hyes : (C = D ∧ ∃ sup, Cond.superclass C sup ∈ lw_all) ∨ Cond.castable C D ∈ lw_tbl) (ok : ma_ok G) {s : State} (hW : G.2.1.WarmedH s.vm) (args : Array Value) {cC : ClassId} (hC : s.vm.findClass C = some cC) : ∃ cD, s.vm.findClass D = some cD ∧ s.vm.assignable cC cD = true := by
  rcases hyes with ⟨rfl, sup, hsu⟩ | hca
  · obtain ⟨_, k, _, -, hk, -, -, ho, -⟩ := Cond.superclass_spec hC (ma_wd ok hW args _ hsu)
    exact ⟨cC, hC, va_assign ⟨hC, k, hk, ho⟩⟩
  · obtain ⟨c0, t1, f1, f2, f3⟩ := Cond.castable_spec (va_Nw.use (A := args) rfl (va_Nw.warmC hW (va_Nw.of rfl (ok.1 _ hca))))
    cases hC.symm.trans f1
    exact ⟨t1, f2, f3⟩
/-- the first row of the table catches it -/
theorem mt_catch {x s0 e0 hp ct : Nat} {C D : String} {qs : List (Nat × Nat × Nat × Nat)} (hy : y.2.2.2.2 = (s0, e0, hp, ct) :: qs) (hs : s0 ≤ pc) (he : pc < e0) (h0 : ct ≠ 0) (hq : Cond.classLink y.1.cls ct D ∈ lw_all) (hc : ma_xc h x C) (hyes : (C = D ∧ ∃ sup, Cond.superclass C sup ∈ lw_all) ∨ Cond.castable C D ∈ lw_tbl) (K : MX G y d hp al [rv x] h Q E) : MT G y d pc al x h Q E := by
  intro p e R s m args below meth c ok cx H locs cells slots ls st nw hl hx0 T hT X
  have cx0 := cx
  obtain ⟨hx, hb, hml, hr, hlk, hown, hhd, hW, hfr, hlo, hnm⟩ := cx
  obtain ⟨x0, rest, ht, t1, t2, t3, t4, -⟩ := ma_tab (y := y) hhd hy
  obtain ⟨g0, cell, g1, g2, g3⟩ := hc.cell ok hW nw.1
  have hts := ma_wd ok hW args
  have hkc : ∃ k, s.vm.classes[cell.cls]? = some k := by
    obtain ⟨k, hk, -⟩ := Vm.findClass_spec g3
    exact ⟨k, hk⟩
  obtain ⟨vm', X', hst⟩ := ma_caught (pc := pc) (ls := ls) (st := st) X hown (by rw [t4]; exact hts _ hq) ht (by simp only [covers, t1, t2]; simp [hs, he]) (by rw [t4]; exact h0) (by rw [hT]; exact g1) g2 hkc (ma_asg hyes ok hW args g3)
  obtain ⟨t, b1, b2⟩ := K p e R s m args below meth c ok cx0 H locs cells slots ls nw hl (T.setVm vm') hT X'
  refine ⟨t, hst t ?_, b2⟩
  rw [t3]
  have e1 : ([rv x].map ma_v) = [Value.ref (x - 1)] := by
    show [ma_rf x] = _
    rw [ma_rf_pos hx0]
  rw [e1] at b1
  exact b1
end

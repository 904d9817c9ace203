/-! ===== a catch by the second row: the first row's class isn't the exception's ===== -/
theorem ma_caught2 {p : Program} {l : Launch} {e : Env} {R : Room} {s : State} {m : MethodId} {args : Array Value} {below : List Frame} {meth : Method} {c : Code} {T : State} {locs : List Loc} {cells slots : Nat} (X : Stand p l e R s m args below meth c T locs cells slots) {own D D1 : String} {x0 x1 : ExceptionTableEntry} {rest : List ExceptionTableEntry} {pc : Nat} {ls : Array Slot} {st : List Value}
    (hown : s.vm.findClass own = some m.cls) (hlink : (Cond.classLink own x0.catchType D).before args s = true) (hlink1 : (Cond.classLink own x1.catchType D1).before args s = true) (htab : c.exceptionTable.toList = x0 :: x1 :: rest) (hx : covers x0 pc = true) (h0 : x0.catchType ≠ 0) (hx1 : covers x1 pc = true) (h1 : x1.catchType ≠ 0) {a : Addr} {cell : Cell} (hcell : T.heap[a]? = some cell) (hobj : ∀ k, cell.vm ≠ .statics k) (hk : ∃ k, s.vm.classes[cell.cls]? = some k)
    (hno : ∃ cD, s.vm.findClass D = some cD ∧ s.vm.assignable cell.cls cD = false) (hyes : ∃ cD, s.vm.findClass D1 = some cD ∧ s.vm.assignable cell.cls cD = true) :
    ∃ vm', Stand p l e R s m args below meth c (T.setVm vm') locs cells slots ∧ ∀ target, Steps p.tables e below ((T.setVm vm').setTop (F0 m x1.handlerPc ls [.ref a])) target → Steps p.tables e below ((T.setTop (F0 m pc ls st)).pushFrame (.throwing a)) target := by
  have hpl : e.platform.magicAccessors = ({} : Platform).magicAccessors := by rw [X.admits.platform]
  obtain ⟨cD, hcD, hcl⟩ := Cond.classLink_spec hown hlink e.platform hpl
  obtain ⟨cE, hcE, hclE⟩ := Cond.classLink_spec hown hlink1 e.platform hpl
  obtain ⟨cD', hcD', hnasg⟩ := hno
  cases hcD'.symm.trans hcD
  obtain ⟨cE', hcE', hasg⟩ := hyes
  cases hcE'.symm.trans hcE
  obtain ⟨dk, _, _, kt, hd, _, _, _, _, hkt, _, hopen⟩ := hcl.here
  obtain ⟨dkE, _, _, ktE, hdE, _, _, _, _, hktE, _, hopenE⟩ := hclE.here
  have hcl₀ := X.warmed.classLinks hcl
  have hW' : s.WarmedH (T.vm.noted m.cls x0.catchType (.cls cD)) := X.warmed.noted hd hopen (State.rightAt_cls hcl)
  have hX' := X.noted hW'
  have hcl₁ := hW'.classLinks hclE
  have hW2 : s.WarmedH ((T.vm.noted m.cls x0.catchType (.cls cD)).noted m.cls x1.catchType (.cls cE)) := hW'.noted hdE hopenE (State.rightAt_cls hclE)
  have hX2 := X.noted hW2
  refine ⟨_, hX2, fun target hr => ?_⟩
  obtain ⟨ks, hks⟩ := hk
  obtain ⟨ks', hks', -⟩ := hW'.alike.2.2 _ _ hks
  obtain ⟨kt', hkt', -⟩ := hW'.alike.2.2 _ _ hkt
  obtain ⟨ks2, hks2, -⟩ := hW2.alike.2.2 _ _ hks
  obtain ⟨kt2, hkt2, -⟩ := hW2.alike.2.2 _ _ hktE
  have hasg1 : (T.vm.noted m.cls x0.catchType (.cls cD)).assignable cell.cls cD = false := by rw [hW'.alike.assignable]; exact hnasg
  have hasg2 : ((T.vm.noted m.cls x0.catchType (.cls cD)).noted m.cls x1.catchType (.cls cE)).assignable cell.cls cE = true := by rw [hW2.alike.assignable]; exact hasg
  have hvm : ((T.setTop (F0 m pc ls st)).pushFrame (.throwing a)).vm = T.vm := Stand.throwing_vm T _ a
  have hhp : ((T.setTop (F0 m pc ls st)).pushFrame (.throwing a)).heap = T.heap := Stand.throwing_heap T _ a
  refine mb_caught (g := F0 m pc ls st) (c := c) X.here (pc := x1.handlerPc) (vm' := (T.vm.noted m.cls x0.catchType (.cls cD)).noted m.cls x1.catchType (.cls cE)) (mb_find (meth := meth) (code := c) (by rw [hvm]; exact X.method') X.code ?_) hr
  intro Q E d acts
  rw [htab]
  rw [mb_go (c := cD) (cell := cell) (vm' := T.vm.noted m.cls x0.catchType (.cls cD)) hx h0 (by rw [hvm]; exact resolveClass_links e.toSetting hcl₀) (by rw [hvm, Vm.size_noted]; exact Nat.le_refl _) (by rw [hhp]; exact hcell) hobj ⟨ks', hks'⟩ ⟨kt', hkt'⟩, if_neg (by rw [hasg1]; decide)]
  rw [mb_go (c := cE) (cell := cell) (vm' := (T.vm.noted m.cls x0.catchType (.cls cD)).noted m.cls x1.catchType (.cls cE)) hx1 h1 (resolveClass_links e.toSetting hcl₁) (by show _ ≤ (T.vm.noted m.cls x0.catchType (.cls cD)).classes.size; rw [Vm.size_noted]; exact Nat.le_refl _) (by show ((T.setTop (F0 m pc ls st)).pushFrame (.throwing a)).heap[a]? = _; rw [hhp]; exact hcell) hobj ⟨ks2, hks2⟩ ⟨kt2, hkt2⟩, if_pos hasg2]
  rfl
section
variable {G : ma_G} {y : ma_M} {d pc : Nat} {al : List (Option ma_V)} {st : List ma_V} {h : ah_T} {Q : Option ma_V → ah_T → Prop} {E : Nat → ah_T → Prop}
theorem mt_catchB {x s0 e0 hp ct s1 e1 hp1 ct1 : Nat} {C D D1 : String} {qs : List (Nat × Nat × Nat × Nat)} (hy : y.2.2.2.2 = (s0, e0, hp, ct) :: (s1, e1, hp1, ct1) :: qs) (hs : s0 ≤ pc) (he : pc < e0) (h0 : ct ≠ 0) (hs1 : s1 ≤ pc) (he1 : pc < e1) (h1 : ct1 ≠ 0) (hq : Cond.classLink y.1.cls ct D ∈ lw_all) (hq1 : Cond.classLink y.1.cls ct1 D1 ∈ lw_all) (hc : ma_xc h x C) (hno : ∀ G : ma_G, ma_ok G → va_Nc C D G.2.1) (hyes : (C = D1 ∧ ∃ sup, Cond.superclass C sup ∈ lw_all) ∨ Cond.castable C D1 ∈ lw_tbl) (K : MX G y d hp1 al [rv x] h Q E) : MT G y d pc al x h Q E := by
  intro p e R s m args below meth c ok cx H locs cells slots ls st nw hl hx0 T hT X
  have cx0 := cx
  obtain ⟨hx, hb, hml, hr, hlk, hown, hhd, hW, hfr, hlo, hnm⟩ := cx
  obtain ⟨x0, rest, ht, t1, t2, t3, t4, t5⟩ := ma_tab (y := y) hhd hy
  obtain ⟨x1, rest2, ht2, u1, u2, u3, u4⟩ : ∃ x1 rest2, rest = x1 :: rest2 ∧ x1.startPc = s1 ∧ x1.endPc = e1 ∧ x1.handlerPc = hp1 ∧ x1.catchType = ct1 := by
    cases rest with
    | nil => cases t5
    | cons x1 rest2 =>
      simp only [List.map_cons, List.cons.injEq] at t5
      obtain ⟨g1, -⟩ := t5
      cases g1
      exact ⟨x1, rest2, rfl, rfl, rfl, rfl, rfl⟩
  obtain ⟨g0, cell, g1, g2, g3⟩ := hc.cell ok hW nw.1
  have hts := ma_wd ok hW args
  have hkc : ∃ k, s.vm.classes[cell.cls]? = some k := by
    obtain ⟨k, hk, -⟩ := Vm.findClass_spec g3
    exact ⟨k, hk⟩
  obtain ⟨c0, c1, f1, f2, f3⟩ := (hno G ok).moved hW.alike
  cases g3.symm.trans f1
  obtain ⟨vm', X', hst⟩ := ma_caught2 (pc := pc) (ls := ls) (st := st) X hown (by rw [t4]; exact hts _ hq) (by rw [u4]; exact hts _ hq1) (by rw [ht, ht2]) (by simp only [covers, t1, t2]; simp [hs, he]) (by rw [t4]; exact h0) (by simp only [covers, u1, u2]; simp [hs1, he1]) (by rw [u4]; exact h1) (by rw [hT]; exact g1) g2 hkc ⟨c1, f2, f3⟩ (ma_asg hyes ok hW args g3)
  obtain ⟨t, b1, b2⟩ := K p e R s m args below meth c ok cx0 H locs cells slots ls nw hl (T.setVm vm') hT X'
  refine ⟨t, hst t ?_, b2⟩
  rw [u3]
  have e1 : ([rv x].map ma_v) = [Value.ref (x - 1)] := by
    show [ma_rf x] = _
    rw [ma_rf_pos hx0]
  rw [e1] at b1
  exact b1
theorem nc_aio_npe : ∀ G : ma_G, ma_ok G → va_Nc "java/lang/ArrayIndexOutOfBoundsException" "java/lang/NullPointerException" G.2.1 := ma_nc (by decide +kernel)
end

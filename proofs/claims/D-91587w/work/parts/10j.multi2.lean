/-! ===== multianewarray, the instruction ===== -/
section
variable {G : ma_G} {y : ma_M} {d pc : Nat} {al : List (Option ma_V)} {st : List ma_V} {h : ah_T} {Q : Option ma_V → ah_T → Prop} {E : Nat → ah_T → Prop}
theorem mm_map {e : Env} {EE : CtlPost} : ∀ (l : List Int32) (QQ : List Int32 → Pre) (dd : Bool) (aa : List Action) (ss : State), QQ l dd aa ss → wp ((l.map Value.int).mapM (m := Sem) fun x => match x with | .int n => Pure.pure n | _ => illTyped "multianewarray: an int count was expected") QQ EE e dd aa ss
  | [], QQ, dd, aa, ss, h => by simpa using h
  | x :: l, QQ, dd, aa, ss, h => by
    simp only [List.map_cons, List.mapM_cons, wp_bind', wp_pure']
    exact mm_map l (fun bs dd aa ss => QQ (x :: bs) dd aa ss) dd aa ss h
theorem mx_multi {t idx dims : Nat} {nm : String} {cs : List Int32} {h' : ah_T} (ht : t < 16) (hq : Cond.classLink y.1.cls idx nm ∈ lw_all) (hnm : nm = "[" ++ (ma_aty t).toString) (hty : ∀ C, ma_aty t ≠ .object C) (hd : decode y.2.1 pc = .ok (.multianewarray idx dims, 4)) (hdim : cs.length = dims) (hd0 : dims ≠ 0)
    (mk : ∀ (p : Program) (e : Env) (R : Room) (s : State) (m : MethodId) (args : Array Value) (below : List Frame) (meth : Method) (c : Code) (EE : CtlPost) (dd : Bool) (acts : List Action) (T : State) (g : JFrame) (QQ : Addr → Pre), ma_ok G → G.2.1.WarmedH s.vm → ma_pm G p e R s m args below meth c h h T → (∀ T' d' acts', ma_pm G p e R s m args below meth c h h' T' → QQ (ah_sz h - 1) d' acts' (T'.setTop g)) → wp (multianewarray.make (G.2.2.2.2.1 t) cs) QQ EE e dd acts (T.setTop g))
    (K : ah_ext h h' → ah_liv h → MX G y d (pc + 4) al (rv (ah_sz h) :: st) h' Q E) : MX G y d pc al ((cs.map (fun x => iv x)).reverse ++ st) h Q E := by
  intro p e R s m args below meth c ok cx H locs cells slots ls nw hl T hT X
  have cx0 := cx
  obtain ⟨hx, hb, hml, hr, hlk, hown, hhd, hW, hfr, hlo, hnme⟩ := cx
  have hts := ma_wd ok hW args
  subst hT
  have hz : ah_sz h ≠ 0 := by have := nw.1.2.1; omega
  have hpl : e.platform.magicAccessors = ({} : Platform).magicAccessors := by rw [X.admits.platform]
  obtain ⟨cA, hcA, hcl⟩ := Cond.classLink_spec hown (hts _ hq) e.platform hpl
  have hRA := ((ok.2.1.moved hW.alike).2 t _ (ma_tys_at G ht)).2
  have hcA' : cA = G.2.2.2.2.1 t := by
    have h2 : s.vm.findClass ("[" ++ (ma_aty t).toString) = some (G.2.2.2.2.1 t) := by
      revert hRA
      cases hty' : ma_aty t with
      | object C => exact absurd hty' (hty C)
      | _ => exact fun q => q
    rw [← hnm] at h2
    exact Option.some.inj (hcA.symm.trans h2)
  subst hcA'
  obtain ⟨dk, _, _, kt, hdk, _, _, _, _, hkt, _, hopen⟩ := hcl.here
  have hcl₀ := X.warmed.classLinks hcl
  have hW' : s.WarmedH (T.vm.noted m.cls idx (.cls (G.2.2.2.2.1 t))) := X.warmed.noted hdk hopen (State.rightAt_cls hcl)
  have X' := X.noted hW'
  have hP : ma_pm G p e R s m args below meth c h h (T.setVm (T.vm.noted m.cls idx (.cls (G.2.2.2.2.1 t)))) := ⟨ah_ext.rf, locs, cells, slots, X', nw⟩
  have hdg : decode c.code (F0 m pc ls (((cs.map (fun x => iv x)).reverse ++ st).map ma_v)).pc = .ok (.multianewarray idx dims, 4) := by rw [hb]; exact hd
  have hstk : (F0 m pc ls (((cs.map (fun x => iv x)).reverse ++ st).map ma_v)).stack = (cs.map Value.int).reverse ++ st.map ma_v := by
    show ((cs.map (fun x => iv x)).reverse ++ st).map ma_v = _
    rw [List.map_append, List.map_reverse, List.map_map]
    rfl
  generalize hgd : F0 m pc ls (((cs.map (fun x => iv x)).reverse ++ st).map ma_v) = g at hdg hstk ⊢
  have hgm : g.method = m := by rw [← hgd]
  have hrun : wpRun (multianewarray.sem idx dims) (fun _ s₁ _ => ∃ T', s₁ = T'.setTop { g with stack := .ref (ah_sz h - 1) :: st.map ma_v } ∧ ma_pm G p e R s m args below meth c h h' T') (fun _ _ _ => False) e (T.setTop g) := by
    unfold wpRun
    simp only [multianewarray.sem, wp_bind']
    rw [W.resolveClassAt_links (t := T.setTop g) (mm := g.method) (index := idx) (c := G.2.2.2.2.1 t) (vm' := T.vm.noted m.cls idx (.cls (G.2.2.2.2.1 t))) (State.method?_setTop g X.here.top) (by rw [hgm]; exact resolveClass_links e.toSetting hcl₀) (by rw [Vm.size_noted]; exact Nat.le_refl _)]
    rw [wp_bind', W.popN, if_neg hd0]
    refine ⟨g, State.topJava?_setTop' _ X.here.top, cs.map Value.int, st.map ma_v, by rw [List.length_map]; exact hdim, hstk, ?_⟩
    rw [wp_bind']
    refine mm_map cs _ _ _ _ ?_
    rw [wp_bind']
    show wp _ _ _ e true [] (((T.setVm (T.vm.noted m.cls idx (.cls (G.2.2.2.2.1 t)))).setTop g).setTop { g with stack := st.map ma_v })
    rw [State.setTop_setTop]
    refine mk p e R s m args below meth c _ _ _ (T.setVm (T.vm.noted m.cls idx (.cls (G.2.2.2.2.1 t)))) { g with stack := st.map ma_v } _ ok hW hP fun T' d' acts' hP' => ?_
    have htop : T'.topJava?.isSome := by
      obtain ⟨-, _, _, _, X1, -⟩ := hP'
      exact X1.here.top
    simp only [wp_bind', W.mark, W.pushRef]
    exact ⟨_, State.topJava?_setTop' _ htop, T', by rw [State.setTop_setTop], hP'⟩
  obtain ⟨r1, r2⟩ : ∃ T', ma_pm G p e R s m args below meth c h h' T' ∧ ∀ target, Steps p.tables e below (T'.setTop { g with pc := g.pc + 4, stack := .ref (ah_sz h - 1) :: st.map ma_v }) target → Steps p.tables e below (T.setTop g) target := by
    have hr := (wpRun_iff_run _ _ _ _ _).mp hrun
    cases hres : (multianewarray.sem idx dims).run e (T.setTop g) with
    | ctl x s₁ acts => rw [hres] at hr; cases x <;> exact hr.elim
    | ok a s₁ acts =>
      rw [hres] at hr
      obtain ⟨T', e1, hP'⟩ := hr
      refine ⟨T', hP', fun target hst => ?_⟩
      refine Steps.instr (c := c) (by rw [hgm]; exact X.here) ?_
      rw [hdg]
      show wpRun (p.tables.exec (.multianewarray idx dims)) _ _ e _
      rw [hx]
      show wpRun (multianewarray.sem idx dims) _ _ e _
      rw [wpRun_iff_run, hres]
      intro acts2
      rw [e1, afterInstr_ok]
      exact hst
  obtain ⟨hP', hst⟩ := r2
  obtain ⟨hext, locs', cells', slots', X1, nw1⟩ := hP'
  obtain ⟨t1, b1, b2⟩ := K hext nw.1.liv p e R s m args below meth c ok cx0 r1.heap locs' cells' slots' ls nw1 hl r1 rfl X1
  refine ⟨t1, hst t1 ?_, ma_end_ext hext b2⟩
  have e3 : ({ g with pc := g.pc + 4, stack := .ref (ah_sz h - 1) :: st.map ma_v } : JFrame) = F0 m (pc + 4) ls ((rv (ah_sz h) :: st).map ma_v) := by
    rw [← hgd]
    show F0 m (pc + 4) ls (.ref (ah_sz h - 1) :: st.map ma_v) = F0 m (pc + 4) ls (ma_rf (ah_sz h) :: st.map ma_v)
    rw [ma_rf_pos hz]
  rw [e3]
  exact b1
/-! the two shapes -/
theorem mm_comp (ok : ma_ok G) {s : State} (hW : G.2.1.WarmedH s.vm) {t t2 : Nat} {ty : FieldType} (ht : t < 16) (ht2 : t2 < 16) (e1 : ma_aty t = .array ty) (e2 : ma_aty t2 = ty) (ho : Cond.arrayOver (.array ty) ∈ lw_tbl) : ∃ k, s.vm.classes[G.2.2.2.2.1 t]? = some k ∧ k.kind = .array (G.2.2.2.2.1 t2) (ma_aty t) := by
  obtain ⟨comp, c, k, f1, -, f3, f4, f5⟩ := arrayOverA_spec (args := G.2.2.1) (first := G.2.1) (o := none) (s := G.2.1) (idx := []) (ok.1 _ ho)
  have g1 := (ok.2.1.2 t _ (ma_tys_at G ht)).2
  have g2 := (ok.2.1.2 t2 _ (ma_tys_at G ht2)).2
  rw [e1] at g1
  have hc : c = G.2.2.2.2.1 t := Option.some.inj (f5.symm.trans g1)
  have hcomp : comp = G.2.2.2.2.1 t2 := by
    have g3 : G.2.1.vm.findClass (FieldType.array ty).toString = some (G.2.2.2.2.1 t2) := by
      have g4 : G.2.1.vm.findClass ("[" ++ ty.toString) = some (G.2.2.2.2.1 t2) := by
        rw [← e2]
        revert g2
        cases ma_aty t2 with
        | object C => exact fun ⟨_, _, _, _, _, q⟩ => q
        | _ => exact fun q => q
      exact g4
    exact Option.some.inj (f1.symm.trans g3)
  obtain ⟨k', hk', heq⟩ := hW.alike.2.2 _ _ f3
  rw [hc] at hk'
  exact ⟨k', hk', by rw [heq, e1, ← hcomp]; exact f4⟩
theorem mk2_1 (h : ah_T) (t n t2 m : Nat) : ∀ i, ah_sz (ah_mk2 h t n t2 m i) = ah_sz h + 1 + i ∧ ah_rc (ah_mk2 h t n t2 m i) = ah_rc h - (1 + i) ∧ ah_rs (ah_mk2 h t n t2 m i) = ah_rs h - (n + i * m) ∧ ah_kd (ah_mk2 h t n t2 m i) (ah_sz h) = 40 + t ∧ ah_ln (ah_mk2 h t n t2 m i) (ah_sz h) = n ∧ ∀ j, i ≤ j → ah_R (ah_mk2 h t n t2 m i) (ah_sz h) j = 0
  | 0 => ⟨rfl, by show h.1.2.1 - 1 = _; rfl, by show h.1.2.2 - n = _; rw [Nat.zero_mul]; rfl, if_pos rfl, if_pos rfl, fun j _ => if_pos rfl⟩
  | i + 1 => by
    obtain ⟨a1, a2, a3, a4, a5, a6⟩ := mk2_1 h t n t2 m i
    have hne : ¬ ah_sz h = ah_sz (ah_mk2 h t n t2 m i) := by omega
    refine ⟨by show ah_sz (ah_mk2 h t n t2 m i) + 1 = _; omega, by show ah_rc (ah_mk2 h t n t2 m i) - 1 = _; omega, by show ah_rs (ah_mk2 h t n t2 m i) - m = _; rw [a3, Nat.succ_mul]; omega, ?_, ?_, fun j hj => ?_⟩
    · exact (if_neg hne).trans a4
    · exact (if_neg hne).trans a5
    · show (if ah_sz h = ah_sz h ∧ j = i then _ else if ah_sz h = ah_sz (ah_mk2 h t n t2 m i) then 0 else ah_R (ah_mk2 h t n t2 m i) (ah_sz h) j) = 0
      rw [if_neg (fun q => by omega), if_neg hne]
      exact a6 j (by omega)
theorem mm_mk2 (ok : ma_ok G) {p : Program} {e : Env} {R : Room} {s : State} {m : MethodId} {args : Array Value} {below : List Frame} {meth : Method} {c : Code} {EE : CtlPost} {dd : Bool} {acts : List Action} (hW : G.2.1.WarmedH s.vm) {h0 h : ah_T} {T : State} {g : JFrame} {t t2 : Nat} {ty : FieldType} {n k : Int32} {N M : Nat} (ht : 5 ≤ t ∧ t < 16) (ht2 : t2 < 16) (e1 : ma_aty t = .array ty) (e2 : ma_aty t2 = ty) (ho : Cond.arrayOver (.array ty) ∈ lw_tbl) (hn : ¬ n < 0) (hN : n.toNatClampNeg = N) (hk : ¬ k < 0) (hM : k.toNatClampNeg = M) (hP : ma_pm G p e R s m args below meth c h0 h T) (h1 : 1 + N ≤ ah_rc h) (h2 : N + N * M ≤ ah_rs h) (h3 : N ≤ 1000000) (h4 : M ≤ 1000000) {QQ : Addr → Pre}
    (hq : ∀ T' d' acts', ma_pm G p e R s m args below meth c h0 (ah_mk2 h t N t2 M N) T' → QQ (ah_sz h - 1) d' acts' (T'.setTop g)) : wp (multianewarray.make (G.2.2.2.2.1 t) [n, k]) QQ EE e dd acts (T.setTop g) := by
  refine mm_mkN ok hW (cc := 0) (cs := 0) (ah_mk2 h t N t2 M) (by simp) (by simp [hk]) hn hN ht (mm_comp ok hW ht.2 ht2 e1 e2 ho) hP (by omega) (by omega) h3 rfl (fun i => ah_sz (ah_mk2 h t N t2 M i)) (fun i hi => ?_) hq
  obtain ⟨a1, a2, a3, a4, a5, a6⟩ := mk2_1 h t N t2 M i
  have hne : ¬ ah_sz h = ah_sz (ah_mk2 h t N t2 M i) := by omega
  refine ⟨ah_new (ah_mk2 h t N t2 M i) (40 + t2) M M, rfl, (if_neg hne).trans a4, (if_neg hne).trans a5, (if_neg hne).trans (a6 i (Nat.le_refl _)), by show ah_sz _ ≠ 0; omega, fun T' d' acts' Q' hPi hq' => ?_⟩
  have hmul : i * M + M ≤ N * M := by
    have := Nat.mul_le_mul_right M (show i + 1 ≤ N from hi)
    rw [Nat.succ_mul] at this
    exact this
  exact mm_mk1 ok hW hk hM ht2 hPi (by omega) (by omega) h4 hq'
end

/-! ===== returns, exceptions, calls ===== -/
theorem ma_weaken {tb : Tables} {e : Env} {f : Frame} {below : List Frame} {a b : State} (h : Steps tb e (f :: below) a b) : Steps tb e below a b := by
  obtain ⟨n, hn, w⟩ := h
  exact ⟨n, hn, fun k hk => Within.weaken (mid := [f]) (w k hk)⟩
section
variable {G : ma_G} {y : ma_M} {d pc : Nat} {al : List (Option ma_V)} {st : List ma_V} {h : ah_T} {Q : Option ma_V → ah_T → Prop} {E : Nat → ah_T → Prop}
theorem ma_ofMQ {R : Room} {s : State} {below : List Frame} {args : Array Value} {H : Heap} {locs : List Loc} {cells slots : Nat} (v : Option ma_V) (nw : ma_now G R h H locs cells slots) (K : Q v h) {t : State} (hq : MQ below (fun _ _ o t => o = .returned (v.map ma_v) ∧ t.heap = H) args s cells slots (fun q => G.2.1.heap.size ≤ q) t) : ma_end G R s below h Q E t := by
  obtain ⟨o, h1, h2, ⟨h3, h4⟩, L, ⟨-, h5, h6⟩, h7⟩ := hq
  subst h3
  exact ⟨h, L, cells, slots, ah_ext.rf, h1, h5, h6, h7, nw.2.2.1, nw.2.2.2, by rw [h4]; exact nw.1, Or.inl ⟨v, h2, K⟩⟩
theorem mx_iret {x : Int32} (hr : y.2.2.2.1 = some .int) (hd : decode y.2.1 pc = .ok (.ireturn, 1)) (K : Q (some (iv x)) h) : MX G y d pc al [iv x] h Q E :=
  fun p e R s m args below meth c ok cx H locs cells slots ls nw hl => ma_Wmono (W.iret cx.1 cx.2.1 (cx.2.2.2.1.trans hr) (fun t ht _ => ⟨rfl, ht⟩) nw.2.1 hd cx.2.2.2.2.1) (fun t hq => ma_ofMQ (some (iv x)) nw K hq)
theorem mx_zret {x : Int32} (hr : y.2.2.2.1 = some .boolean) (hd : decode y.2.1 pc = .ok (.ireturn, 1)) (hx : x = 0 ∨ x = 1) (K : Q (some (iv x)) h) : MX G y d pc al [iv x] h Q E :=
  fun p e R s m args below meth c ok cx H locs cells slots ls nw hl => ma_Wmono (W.zret cx.1 cx.2.1 (cx.2.2.2.1.trans hr) (by rcases hx with rfl | rfl <;> decide) (fun t ht _ => ⟨rfl, ht⟩) nw.2.1 hd cx.2.2.2.2.1) (fun t hq => ma_ofMQ (some (iv x)) nw K hq)
theorem mx_lret {x : Int64} (hr : y.2.2.2.1 = some .long) (hd : decode y.2.1 pc = .ok (.lreturn, 1)) (K : Q (some (jv x)) h) : MX G y d pc al [jv x] h Q E :=
  fun p e R s m args below meth c ok cx H locs cells slots ls nw hl => ma_Wmono (W.lret cx.1 cx.2.1 (cx.2.2.2.1.trans hr) (fun t ht _ => ⟨rfl, ht⟩) nw.2.1 hd cx.2.2.2.2.1) (fun t hq => ma_ofMQ (some (jv x)) nw K hq)
theorem mx_aret {a : Nat} {rt : FieldType} (hr : y.2.2.2.1 = some rt) (hrt : (∃ n, rt = .object n) ∨ ∃ t, rt = .array t) (hd : decode y.2.1 pc = .ok (.areturn, 1)) (K : Q (some (rv a)) h) : MX G y d pc al [rv a] h Q E :=
  fun p e R s m args below meth c ok cx H locs cells slots ls nw hl => ma_Wmono (W.aret cx.1 cx.2.1 (cx.2.2.2.1.trans hr) hrt (by cases a with | zero => exact Or.inl rfl | succ a => exact Or.inr ⟨a, rfl⟩) (fun t ht _ => ⟨rfl, ht⟩) nw.2.1 hd cx.2.2.2.2.1) (fun t hq => ma_ofMQ (some (rv a)) nw K hq)
theorem mx_vret (hr : y.2.2.2.1 = none) (hd : decode y.2.1 pc = .ok (.return_, 1)) (K : Q none h) : MX G y d pc al [] h Q E :=
  fun p e R s m args below meth c ok cx H locs cells slots ls nw hl => ma_Wmono (W.vret cx.1 cx.2.1 (cx.2.2.2.1.trans hr) (fun t ht _ => ⟨rfl, ht⟩) nw.2.1 hd cx.2.2.2.2.1) (fun t hq => ma_ofMQ none nw K hq)
/-- an exception leaves a method none of whose handlers covers pc -/
theorem mt_out {x : Nat} (hh : y.2.2.2.2.all (fun q => !(decide (q.1 ≤ pc) && decide (pc < q.2.1))) = true) (K : E x h) : MT G y d pc al x h Q E := by
  intro p e R s m args below meth c ok cx H locs cells slots ls st nw hl hx0 T hT X
  have hout : ∀ q ∈ c.exceptionTable.toList, covers q pc = false := by
    intro q hq
    have h1 := cx.2.2.2.2.2.2.1
    have h2 : (q.startPc, q.endPc, q.handlerPc, q.catchType) ∈ y.2.2.2.2 := by
      rw [← h1]
      exact List.mem_map.mpr ⟨q, hq, rfl⟩
    have h3 := List.all_eq_true.mp hh _ h2
    simp only [Bool.not_eq_true', Bool.and_eq_false_iff, decide_eq_false_iff_not] at h3
    unfold covers
    simp only [Bool.and_eq_false_iff, decide_eq_false_iff_not]
    exact h3
  obtain ⟨a1, a2, a3, a4, a5⟩ := X.leaveThrown (x - 1) (g := F0 m pc ls st) rfl rfl rfl hout cx.2.2.2.2.1
  exact ⟨_, a1, h, locs, cells, slots, ah_ext.rf, a2, a4, a5, nw.2.1, nw.2.2.1, nw.2.2.2, by show ma_rel G h T.heap; rw [hT]; exact nw.1, Or.inr ⟨x - 1, a3, by rw [Nat.sub_add_cancel (by omega)]; exact K⟩⟩
/-- the callee's locals at its start -/
def al_in : List ma_V → List (Option ma_V)
  | [] => []
  | .inr (.inl x) :: r => some (.inr (.inl x)) :: none :: al_in r
  | v :: r => some v :: al_in r
def al_ent (n : Nat) (vs : List ma_V) : List (Option ma_V) := al_in vs ++ List.replicate (n - (al_in vs).length) none
theorem al_in_spec : ∀ (vs : List ma_V) (i : Nat), (al_in vs).length = (lg_sl (vs.map ma_v)).length ∧ ∀ (j : Nat) (v : ma_V), (al_in vs)[j]? = some (some v) → (i + j, ma_v v) ∈ lv_args i (vs.map ma_v)
  | [], i => ⟨rfl, fun j v h => by simp [al_in] at h⟩
  | .inr (.inl x) :: r, i => by
    obtain ⟨h1, h2⟩ := al_in_spec r (i + 2)
    refine ⟨by simp [al_in, lg_sl, ma_v, Value.category] at h1 ⊢; omega, fun j v h => ?_⟩
    simp only [al_in] at h
    match j, h with
    | 0, h => cases h; exact List.mem_cons_self
    | 1, h => cases h
    | j + 2, h => exact List.mem_cons_of_mem _ (by have := h2 j v (by simpa using h); rw [show i + (j + 2) = i + 2 + j by omega]; exact this)
  | .inl x :: r, i => by
    obtain ⟨h1, h2⟩ := al_in_spec r (i + 1)
    refine ⟨by simp [al_in, lg_sl, ma_v, Value.category] at h1 ⊢; omega, fun j v h => ?_⟩
    simp only [al_in] at h
    match j, h with
    | 0, h => cases h; exact List.mem_cons_self
    | j + 1, h => exact List.mem_cons_of_mem _ (by have := h2 j v (by simpa using h); rw [show i + (j + 1) = i + 1 + j by omega]; exact this)
  | .inr (.inr n) :: r, i => by
    obtain ⟨h1, h2⟩ := al_in_spec r (i + 1)
    have hc := ma_cat_rf n
    refine ⟨by simp [al_in, lg_sl, ma_v, hc] at h1 ⊢; omega, fun j v h => ?_⟩
    simp only [al_in] at h
    match j, h with
    | 0, h => cases h; exact List.mem_cons_self
    | j + 1, h => exact List.mem_cons_of_mem _ (by have := h2 j v (by simpa using h); rw [show i + (j + 1) = i + 1 + j by omega]; simpa [ma_v, hc] using this)
theorem ma_ls_ent {n : Nat} {vs : List ma_V} (hn : (al_in vs).length ≤ n) : ma_ls ((lg_sl (vs.map ma_v) ++ List.replicate (n - (lg_sl (vs.map ma_v)).length) Slot.unset).toArray) n (al_ent n vs) := by
  obtain ⟨h1, h2⟩ := al_in_spec vs 0
  have hE := lv_entry (vs.map ma_v) (n := n) (by rw [← h1]; exact hn)
  refine ⟨hE.1, by simp [al_ent]; omega, hE.2.1, fun i v hi => ?_⟩
  unfold al_ent at hi
  by_cases hlt : i < (al_in vs).length
  · rw [List.getElem?_append_left hlt] at hi
    have := hE.2.2 _ (h2 i v hi)
    simpa using this
  · rw [List.getElem?_append_right (by omega), List.getElem?_replicate] at hi
    split at hi <;> cases hi
theorem ma_sum2 (l : List ma_V) : ((l.map ma_v).map fun v => v.category).sum ≤ 2 * l.length := by
  induction l with
  | nil => simp
  | cons v r ih =>
    have : (ma_v v).category ≤ 2 := by rw [ma_cat]; split <;> omega
    simp only [List.map_cons, List.sum_cons, List.length_cons]
    omega
/-- what the tables say of a callee -/
def ma_cal (y' : ma_M) : Prop := plainFor y'.1 = true ∧ ((Cond.code y'.1 y'.2.1 y'.2.2.1 y'.2.2.2.1 ∈ lw_all ∧ y'.2.2.2.2 = []) ∨ Cond.codeWith y'.1 y'.2.1 y'.2.2.1 y'.2.2.2.1 y'.2.2.2.2 ∈ lw_all)
theorem ma_cal.spec {y' : ma_M} (hy : ma_cal y') {s : State} {args : Array Value} (hts : ∀ w ∈ lw_all, w.before args s = true) {mk : MethodId} (hn : s.methodNamed? y'.1 = some mk) : ∃ methM cM, s.vm.method? mk = some methM ∧ methM.code = some cM ∧ cM.code = y'.2.1 ∧ cM.maxLocals = y'.2.2.1 ∧ methM.sig.returnType = y'.2.2.2.1 ∧ methM.locks = false ∧ cM.exceptionTable.toList.map (fun h => (h.startPc, h.endPc, h.handlerPc, h.catchType)) = y'.2.2.2.2 ∧ parseMethodDescriptor y'.1.desc = some methM.sig := by
  obtain ⟨-, ⟨h1, h2⟩ | h1⟩ := hy
  · obtain ⟨meth, c, a1, a2, a3, a4, a5, a6, a7, a8⟩ := Cond.code_spec hn (hts _ h1)
    refine ⟨meth, c, a1, a2, a3, a4, a5, a6, ?_, a8⟩
    rw [h2]
    simp at a7
    rw [a7]
    rfl
  · obtain ⟨m, meth, c, a0, a1, a2, a3, a4, a5, a6, a7, a8⟩ := Cond.codeWith_spec (hts _ h1)
    cases hn.symm.trans a0
    exact ⟨meth, c, a1, a2, a3, a4, a6, a7, a5, a8⟩
theorem ma_enter {y' : ma_M} {vs : List ma_V} {al' : List (Option ma_V)} {len : Nat} {ig : Instr} (hy : ma_cal y') (hal : al_ent y'.2.2.1 vs = al') (hle : (al_in vs).length ≤ y'.2.2.1) (hw : 2 * st.length + y'.2.2.1 + 11 ≤ 300) (hd : decode y.2.1 pc = .ok (ig, len))
    (K : MX G y' d 0 al' [] h (fun v h' => ah_ext h h' → MX G y (d + 1) (pc + len) al (v.toList ++ st) h' Q E) (fun x h' => ah_ext h h' → MT G y (d + 1) pc al x h' Q E))
    {p : Program} {e : Env} {R : Room} {s : State} {m : MethodId} {args : Array Value} {below : List Frame} {meth : Method} {c : Code} (ok : ma_ok G) (cx : ma_ctx G y (d + 1) p R s m meth c) {H : Heap} {locs : List Loc} {cells slots : Nat} {ls : Array Slot} (nw : ma_now G R h H locs cells slots) (hl : ma_ls ls y.2.2.1 al)
    {T : State} (hT : T.heap = H) (X : Stand p G.1 e R s m args below meth c T locs cells slots) {mk : MethodId} (hn : s.methodNamed? y'.1 = some mk) :
    ∃ t, (∀ acts, Steps p.tables e below (doInvoke e (T.setTop (F0 m pc ls (st.map ma_v))) acts mk (vs.map ma_v).toArray).1 t) ∧ ma_end G R s below h Q E t := by
  subst hal
  have cx0 := cx
  obtain ⟨hx, hb, hml, hr, hlk, hown, hhd, hW, hfr, hlo, hnm⟩ := cx
  obtain ⟨methM, cM, a1, a2, a3, a4, a5, a6, a7, a8⟩ := hy.spec (ma_wd ok hW #[]) hn
  have hnT : T.methodNamed? y'.1 = some mk := X.named hn
  have hmT : T.vm.method? mk = some methM := by rw [X.warmed.alike.method?]; exact a1
  have hpl : T.plainMethod mk := State.plainMethod.of_named hy.1 hnT hmT
  have hsum : ((F0 m pc ls (st.map ma_v)).stack.map fun v => v.category).sum ≤ 2 * st.length := ma_sum2 st
  obtain ⟨Y, hY⟩ := X.into (g := F0 m pc ls (st.map ma_v)) rfl (by show ls.size = _; rw [hml]; exact hl.1) (by rw [hb]; exact hd) (vs.map ma_v).toArray (R' := { frames := d, cells := ah_rc h, slots := ah_rs h, locals := d * 300 }) hmT a2 a6 hpl
    hfr (by show 2 * 0 + ((F0 m pc ls (st.map ma_v)).stack.map fun v => v.category).sum + (cM.maxLocals + 11) + d * 300 ≤ R.locals; rw [a4]; omega) nw.2.2.1 nw.2.2.2
  have hWs : G.2.1.WarmedH T.vm := State.WarmedH.trans hW X.warmed
  rw [a4, lg_entry_eq] at hY Y
  generalize hU : (T.setTop (F0 m pc ls (st.map ma_v))).pushFrame (.java (F0 mk 0 ((lg_sl (vs.map ma_v) ++ List.replicate (y'.2.2.1 - (lg_sl (vs.map ma_v)).length) Slot.unset).toArray) [])) = U at hY Y
  have hUh : U.heap = H := by rw [← hU]; exact hT
  have nw' : ma_now G ({ frames := d, cells := ah_rc h, slots := ah_rs h, locals := d * 300 } : Room) h H [] 0 0 := ⟨nw.1, fun q hq => absurd hq List.not_mem_nil, Nat.le_of_eq (Nat.zero_add _), Nat.le_of_eq (Nat.zero_add _)⟩
  obtain ⟨t, b1, h', L, k, n, c0, c1, c2, c3, c4, c5, c6, c7, c8⟩ := K p e _ (T.calling (F0 m pc ls (st.map ma_v)) mk (vs.map ma_v).toArray) mk (vs.map ma_v).toArray (.java (F0 m pc ls (st.map ma_v)) :: below) methM cM ok
    ⟨hx, a3, a4, a5, a6, findClass_of_methodNamed hnT, a7, hWs, Nat.le_refl d, Nat.le_refl _, hnT⟩ H [] 0 0 _ nw' (ma_ls_ent hle) U hUh Y
  have hstep : ∀ acts, Steps p.tables e below (doInvoke e (T.setTop (F0 m pc ls (st.map ma_v))) acts mk (vs.map ma_v).toArray).1 t := by
    intro acts
    rw [hY acts]
    exact ma_weaken b1
  have hloc : ∀ q ∈ locs ++ L, G.2.1.heap.size ≤ q.base := fun q hq => by
    rcases List.mem_append.mp hq with hq | hq
    · exact nw.2.1 q hq
    · exact c4 q hq
  have e1 : k + ah_rc h' ≤ ah_rc h := c5
  have e2 : n + ah_rs h' ≤ ah_rs h := c6
  have e3 := nw.2.2.1
  have e4 := nw.2.2.2
  rcases c8 with ⟨v, d1, d2⟩ | ⟨x, d1, d2⟩
  · obtain ⟨T', X', hW', hB, ht⟩ := X.outOf (g := F0 m pc ls (st.map ma_v)) rfl (by rw [hb]; exact hd) d1 c2 c3
    have hheap : T'.heap = t.heap := by rw [ht]; rfl
    obtain ⟨t2, f1, f2⟩ := d2 c0 p e R s m args below meth c ok cx0 T'.heap (locs ++ L) (cells + k) (slots + n) ls ⟨by rw [hheap]; exact c7, hloc, by omega, by omega⟩ hl T' rfl X'
    refine ⟨t2, fun acts => (hstep acts).trans ?_, ma_end_ext c0 f2⟩
    rw [ht]
    have hst : (v.map ma_v).toList ++ st.map ma_v = (v.toList ++ st).map ma_v := by cases v <;> rfl
    show Steps p.tables e below (T'.setTop (F0 m (pc + len) ls ((v.map ma_v).toList ++ st.map ma_v))) t2
    rw [hst]
    exact f1
  · obtain ⟨T', X', hW', hB, ht⟩ := X.outOfThrown (g := F0 m pc ls (st.map ma_v)) rfl d1 c2 c3
    have hheap : T'.heap = t.heap := by rw [ht]; rfl
    obtain ⟨t2, f1, f2⟩ := d2 c0 p e R s m args below meth c ok cx0 T'.heap (locs ++ L) (cells + k) (slots + n) ls (st.map ma_v) ⟨by rw [hheap]; exact c7, hloc, by omega, by omega⟩ hl (Nat.succ_ne_zero x) T' rfl X'
    refine ⟨t2, fun acts => (hstep acts).trans ?_, ma_end_ext c0 f2⟩
    rw [ht]
    exact f1
end

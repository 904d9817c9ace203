/-! ===== exceptions that the machine throws: they leave the method ===== -/
/-- c cells are made, the last one an exception of sort j -/
def ah_exn (h : ah_T) (j c cost : Nat) : ah_T := ((h.1.1 + c, h.1.2.1 - c, h.1.2.2 - cost), (fun b => if b + 1 = h.1.1 + c then 30 + j else h.2.1 b), h.2.2.1, h.2.2.2.1, h.2.2.2.2.1, h.2.2.2.2.2)
section
variable {G : ma_G} {h : ah_T} {H : Heap}
theorem ah_ext.exn (lv : ah_liv h) {j c cost : Nat} (hc : 0 < c) : ah_ext h (ah_exn h j c cost) := ⟨Nat.le_add_right _ _, fun a ha => by
  have h1 := lv a ha
  have hne : ¬ a + 1 = h.1.1 + c := by
    have : ah_sz h = h.1.1 := rfl
    omega
  exact ⟨if_neg hne, rfl, fun _ _ _ => rfl⟩⟩
theorem ma_rel.exnew {H' : Heap} (ok : ma_ok G) (r0 : ma_rel G h H) {j c cost : Nat} (hj : j < 4) (hc : 0 < c) (hsz : H'.size = H.size + c) (ho : ∀ q : Nat, q < H.size → H'[q]? = H[q]?) {cell : Cell} (hcell : H'[H.size + c - 1]? = some cell) (hv : ∀ z, cell.vm ≠ .statics z) (hcl : G.2.1.vm.findClass (ma_exn j) = some cell.cls) : ma_rel G (ah_exn h j c cost) H' := by
  have hz := r0.1
  have hle := r0.2.1
  have hp := ok.2.2.1.1
  have hs : ah_sz (ah_exn h j c cost) = ah_sz h + c := rfl
  refine ⟨by rw [hsz, hs, hz]; omega, by rw [hs]; omega, fun q hq => by rw [ho q (by omega)]; exact r0.2.2.1 q hq, ?_, fun b hb => ?_⟩
  · show (if 0 + 1 = ah_sz h + c then _ else ah_kd h 0) = 0
    rw [if_neg (by omega)]; exact r0.2.2.2.1
  · by_cases e : b + 1 = ah_sz h + c
    · have e1 : b - 1 = H.size + c - 1 - 1 + 0 ∨ True := Or.inr trivial
      have hb1 : b - 1 = H.size + c - 1 := by omega
      refine Or.inr ⟨by omega, Or.inr (Or.inr ⟨j, if_pos e, hj, cell, by rw [hb1]; exact hcell, hv, hcl⟩)⟩
    · have hk : ah_kd (ah_exn h j c cost) b = ah_kd h b := if_neg e
      have hb2 := r0.2.2.2.2 b (by rw [← hk]; exact hb)
      have hlt : b < ah_sz h := r0.liv b (by rw [← hk]; exact hb)
      have hb0 : b ≠ 0 := by
        intro z
        subst z
        rw [hk, r0.2.2.2.1] at hb
        exact hb rfl
      exact hb2.congr ⟨hk, rfl, fun _ => rfl, fun _ => rfl, fun _ => rfl⟩ (ho (b - 1) (by omega))
theorem ma_cells {s u : State} {k n : Nat} (hs : s.sameButNew u [] k n) : ∀ q : Nat, q < s.heap.size → u.heap[q]? = s.heap[q]? := by
  intro q hq
  have h0 : s.heap[q]? = some s.heap[q] := Array.getElem?_eq_getElem hq
  obtain ⟨c', h1, h2, h3, h4⟩ := hs.2.2.2.2.2 q _ h0
  rw [h1, h0]
  have : c'.slots = s.heap[q].slots := Array.ext_getElem? (fun i => h4 i (by simp))
  rw [h2, this]
end
section
variable {G : ma_G} {y : ma_M} {d pc : Nat} {al : List (Option ma_V)} {st : List ma_V} {h : ah_T} {Q : Option ma_V → ah_T → Prop} {E : Nat → ah_T → Prop}
theorem ma_notrace {e : Env} (ok : ma_ok G) (ha : G.1.admits e) : e.platform.stackTraces = false := by
  rw [ha.platform]
  show (!G.1.flags.contains noTraceFlag) = false
  rw [ok.2.2.1.2.2.2.2]
  decide +kernel
theorem ma_uncov {c : Code} (hhd : c.exceptionTable.toList.map (fun h => (h.startPc, h.endPc, h.handlerPc, h.catchType)) = y.2.2.2.2) (hh : y.2.2.2.2.all (fun q => !(decide (q.1 ≤ pc) && decide (pc < q.2.1))) = true) : ∀ q ∈ c.exceptionTable.toList, covers q pc = false := by
  intro q hq
  have h2 : (q.startPc, q.endPc, q.handlerPc, q.catchType) ∈ y.2.2.2.2 := by
    rw [← hhd]
    exact List.mem_map.mpr ⟨q, hq, rfl⟩
  have h3 := List.all_eq_true.mp hh _ h2
  simp only [Bool.not_eq_true', Bool.and_eq_false_iff, decide_eq_false_iff_not] at h3
  unfold covers
  simp only [Bool.and_eq_false_iff, decide_eq_false_iff_not]
  exact h3
/-- what an arm of the library gives, in the layer's form -/
theorem ma_arm {p : Program} {e : Env} {R : Room} {s : State} {m : MethodId} {args : Array Value} {below : List Frame} {meth : Method} {c : Code} {T U : State} {locs : List Loc} {cells slots j n cost n' : Nat} {cell : Cell} (ok : ma_ok G) (hW : G.2.1.WarmedH s.vm) (X : Stand p G.1 e R s m args below meth c T locs cells slots) (nw : ma_now G R h T.heap locs cells slots) (hj : j < 4) (hn : 0 < n) (h1 : n ≤ ah_rc h) (h2 : cost ≤ ah_rs h) (hn' : n' ≤ cost) (K : E (ah_sz h + n - 1) (ah_exn h j n cost))
    (u2 : U.status = .running) (u3 : Ended U below (.threw (T.heap.size + n - 1))) (u4 : (T.setFrames (.invoking m args :: below)).WarmedH U.vm) (u5 : (T.setFrames (.invoking m args :: below)).sameButNew ({ U with vm := (T.setFrames (.invoking m args :: below)).vm } : State) [] n n') (u6 : U.heap[T.heap.size + n - 1]? = some cell) (u7 : ∀ z, cell.vm ≠ .statics z) (u8 : (T.setFrames (.invoking m args :: below)).vm.findClass (ma_exn j) = some cell.cls) : ma_end G R s below h Q E U := by
  have hz := nw.1.1
  have hle := nw.1.2.1
  have e1 := nw.2.2.1
  have e2 := nw.2.2.2
  have hWT : G.2.1.WarmedH T.vm := State.WarmedH.trans hW X.warmed
  have hsz : U.heap.size = T.heap.size + n := by
    have g1 : U.heap.size ≤ T.heap.size + n := u5.2.2.1
    have g2 : T.heap.size + n - 1 < U.heap.size := (Array.getElem?_eq_some_iff.mp u6).1
    omega
  have hrel : ma_rel G (ah_exn h j n cost) U.heap := nw.1.exnew ok hj hn hsz (fun q hq => ma_cells u5 q hq) u6 u7 (by rw [← hWT.alike.findClass]; exact u8)
  have hsame : s.sameButNew ({ U with vm := s.vm } : State) locs (cells + n) (slots + n') := by
    have g0 : s.sameButNew (T.setVm s.vm) locs cells slots := X.same
    have g1 : (T.setVm s.vm).sameButNew ({ U with vm := s.vm } : State) [] n n' := by
      obtain ⟨k1, k2, k3, k4, k5, k6⟩ := u5
      refine ⟨?_, k2, k3, k4, k5, k6⟩
      rw [State.setFrames_setFrames] at k1
      have := congrArg (fun q : State => ({ q with vm := s.vm } : State)) k1
      exact this
    have g2 := g0.trans g1
    rw [List.append_nil] at g2
    exact g2
  refine ⟨ah_exn h j n cost, locs, cells + n, slots + n', ah_ext.exn nw.1.liv hn, u2, State.WarmedH.trans X.warmed u4, hsame, nw.2.1, ?_, ?_, hrel, Or.inr ⟨T.heap.size + n - 1, u3, ?_⟩⟩
  · show cells + n + (ah_rc h - n) ≤ _
    omega
  · show slots + n' + (ah_rs h - cost) ≤ _
    omega
  · have : T.heap.size + n - 1 + 1 = ah_sz h + n - 1 := by omega
    rw [this]
    exact K
theorem mx_npe_of {st0 : List ma_V} (hh : y.2.2.2.2.all (fun q => !(decide (q.1 ≤ pc) && decide (pc < q.2.1))) = true) (hd : 40 ≤ d) (hst : st.length ≤ 20) (h1 : 1 ≤ ah_rc h) (h2 : 8 ≤ ah_rs h) (K : E (ah_sz h) (ah_exn h 0 1 8))
    (step : ∀ (p : Program) (e : Env) (R : Room) (s : State) (m : MethodId) (args : Array Value) (below : List Frame) (meth : Method) (c : Code) (T : State) (locs : List Loc) (cells slots : Nat) (ls : Array Slot), Stand p G.1 e R s m args below meth c T locs cells slots → p.tables.exec = Jvm.exec → c.code = y.2.1 → ∀ target, Steps p.tables e below ((T.setTop (F0 m pc ls (st.map ma_v))).pushFrame (.throwNew "java/lang/NullPointerException" none none)) target → Steps p.tables e below (T.setTop (F0 m pc ls (st0.map ma_v))) target) : MX G y d pc al st0 h Q E := by
  intro p e R s m args below meth c ok cx H locs cells slots ls nw hl T hT X
  obtain ⟨hx, hb, hml, hr, hlk, hown, hhd, hW, hfr, hlo, hnm⟩ := cx
  subst hT
  have e1 := nw.2.2.1
  have e2 := nw.2.2.2
  have hsum := ma_sum2 st
  have X' := ma_rebase X (by omega) (by omega)
  have hWT : G.2.1.WarmedH T.vm := State.WarmedH.trans hW X.warmed
  obtain ⟨U, s1, s2, s3, s4, s5, cell, s6, s7⟩ := X'.npeArm hx (ma_notrace ok X.admits) (n := 8) (tw_all ok hWT nw.1 tw_npe) (fun x hx => absurd hx List.not_mem_nil) (g := F0 m pc ls (st.map ma_v)) rfl (by show ls.size = _; rw [hml]; exact hl.1) rfl rfl (ma_uncov hhd hh) (by show 7 < R.frames; omega) (by show 2 * 0 + ((st.map ma_v).map fun v => v.category).sum + 10240 ≤ R.locals; omega) (by show 0 + 1 ≤ R.cells - cells; omega) (by show 0 + 8 ≤ R.slots - slots; omega) hlk
  refine ⟨U, step p e R s m args below meth c T locs cells slots ls X hx hb U s1, ma_arm (n := 1) (n' := 0 + 8) (cost := 8) (cell := cell) ok hW X nw (show 0 < 4 by decide) (by decide) h1 h2 (by decide) K s2 s3 s4 (by rw [Nat.zero_add] at s5; exact s5) s6 (fun z q => by rw [s7.vm] at q; cases q) s7.cls⟩
theorem mx_aio_of {st0 : List ma_V} {tx : String} (hby : (stringBytes (stringToUtf16 tx)).size ≤ 212) (hmd : (tx == notModelled) = false) (hh : y.2.2.2.2.all (fun q => !(decide (q.1 ≤ pc) && decide (pc < q.2.1))) = true) (hd : 40 ≤ d) (hst : st.length ≤ 20) (h1 : 3 ≤ ah_rc h) (h2 : 222 ≤ ah_rs h) (K : E (ah_sz h + 2) (ah_exn h 1 3 222))
    (step : ∀ (p : Program) (e : Env) (R : Room) (s : State) (m : MethodId) (args : Array Value) (below : List Frame) (meth : Method) (c : Code) (T : State) (locs : List Loc) (cells slots : Nat) (ls : Array Slot), ma_ok G → ma_ctx G y d p R s m meth c → ma_now G R h T.heap locs cells slots → Stand p G.1 e R s m args below meth c T locs cells slots → ∀ target, Steps p.tables e below ((T.setTop (F0 m pc ls (st.map ma_v))).pushFrame (.throwNew "java/lang/ArrayIndexOutOfBoundsException" (some tx) none)) target → Steps p.tables e below (T.setTop (F0 m pc ls (st0.map ma_v))) target) : MX G y d pc al st0 h Q E := by
  intro p e R s m args below meth c ok cx H locs cells slots ls nw hl T hT X
  have cx0 := cx
  obtain ⟨hx, hb, hml, hr, hlk, hown, hhd, hW, hfr, hlo, hnm⟩ := cx
  subst hT
  have e1 := nw.2.2.1
  have e2 := nw.2.2.2
  have hsum := ma_sum2 st
  have X' := ma_rebase X (by omega) (by omega)
  have hWT : G.2.1.WarmedH T.vm := State.WarmedH.trans hW X.warmed
  obtain ⟨U, s1, s2, s3, s4, ⟨n', hn', s5⟩, cb, cs, cell, -, -, s6, -, -, s7⟩ := X'.messageArmCells hx (ma_notrace ok X.admits) (cls := "java/lang/ArrayIndexOutOfBoundsException") (names := tw_up1) (text := tx) (by decide) (by decide) (by decide) (by decide) (tw_all ok hWT nw.1 tw_aio) (fun x hx => absurd hx List.not_mem_nil) hmd (by rw [Launch.admits_arrayLengthLimit X.admits]; omega) (by rw [Launch.admits_maxHeapBytes X.admits]; simp only [componentBytes]; omega) (g := F0 m pc ls (st.map ma_v)) rfl (by show ls.size = _; rw [hml]; exact hl.1) rfl rfl (ma_uncov hhd hh) (by show 3 + 4 < R.frames; omega) (by show 2 * 0 + ((st.map ma_v).map fun v => v.category).sum + 10240 ≤ R.locals; omega) (by decide) (by show 0 + 3 ≤ R.cells - cells; omega) (by show 0 + (_ + 4 + 6) ≤ R.slots - slots; omega) hlk
  refine ⟨U, step p e R s m args below meth c T locs cells slots ls ok cx0 nw X U s1, ma_arm (n := 3) (n' := n') (cost := 222) (cell := cell) ok hW X nw (show 1 < 4 by decide) (by decide) h1 h2 (by omega) K s2 s3 s4 s5 s6 (fun z q => by rw [s7.vm] at q; cases q) s7.cls⟩
theorem mx_nas_of {st0 : List ma_V} {i : Int32} (hi : i < 0) (hh : y.2.2.2.2.all (fun q => !(decide (q.1 ≤ pc) && decide (pc < q.2.1))) = true) (hd : 40 ≤ d) (hst : st.length ≤ 20) (h1 : 3 ≤ ah_rc h) (h2 : 222 ≤ ah_rs h) (K : E (ah_sz h + 2) (ah_exn h 2 3 222))
    (step : ∀ (p : Program) (e : Env) (R : Room) (s : State) (m : MethodId) (args : Array Value) (below : List Frame) (meth : Method) (c : Code) (T : State) (locs : List Loc) (cells slots : Nat) (ls : Array Slot), Stand p G.1 e R s m args below meth c T locs cells slots → p.tables.exec = Jvm.exec → c.code = y.2.1 → ∀ target, Steps p.tables e below ((T.setTop (F0 m pc ls (st.map ma_v))).pushFrame (.throwNew "java/lang/NegativeArraySizeException" (some (toString i)) none)) target → Steps p.tables e below (T.setTop (F0 m pc ls (st0.map ma_v))) target) : MX G y d pc al st0 h Q E := by
  intro p e R s m args below meth c ok cx H locs cells slots ls nw hl T hT X
  obtain ⟨hx, hb, hml, hr, hlk, hown, hhd, hW, hfr, hlo, hnm⟩ := cx
  subst hT
  have e1 := nw.2.2.1
  have e2 := nw.2.2.2
  have hsum := ma_sum2 st
  have X' := ma_rebase X (by omega) (by omega)
  have hWT : G.2.1.WarmedH T.vm := State.WarmedH.trans hW X.warmed
  have hby := negative_text_bytes i
  obtain ⟨U, s1, s2, s3, s4, ⟨n', hn', s5⟩, cb, cs, cell, -, -, s6, -, -, s7⟩ := X'.messageArmCells hx (ma_notrace ok X.admits) (cls := "java/lang/NegativeArraySizeException") (names := tw_up2) (text := toString i) (by decide) (by decide) (by decide) (by decide) (tw_all ok hWT nw.1 tw_nas) (fun x hx => absurd hx List.not_mem_nil) (negative_text_modelled hi) (by rw [Launch.admits_arrayLengthLimit X.admits]; omega) (by rw [Launch.admits_maxHeapBytes X.admits]; simp only [componentBytes]; omega) (g := F0 m pc ls (st.map ma_v)) rfl (by show ls.size = _; rw [hml]; exact hl.1) rfl rfl (ma_uncov hhd hh) (by show 2 + 4 < R.frames; omega) (by show 2 * 0 + ((st.map ma_v).map fun v => v.category).sum + 10240 ≤ R.locals; omega) (by decide) (by show 0 + 3 ≤ R.cells - cells; omega) (by show 0 + (_ + 4 + 6) ≤ R.slots - slots; omega) hlk
  refine ⟨U, step p e R s m args below meth c T locs cells slots ls X hx hb U s1, ma_arm (n := 3) (n' := n') (cost := 222) (cell := cell) ok hW X nw (show 2 < 4 by decide) (by decide) h1 h2 (by omega) K s2 s3 s4 s5 s6 (fun z q => by rw [s7.vm] at q; cases q) s7.cls⟩
end

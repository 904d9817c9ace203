/-! ===== multianewarray ===== -/
/-- rows of m places behind an array of n: i rows are made -/
def ah_mk2 (h : ah_T) (t n t2 m : Nat) : Nat → ah_T
  | 0 => ah_new h (40 + t) n n
  | i + 1 => ah_wR (ah_new (ah_mk2 h t n t2 m i) (40 + t2) m m) (ah_sz h) i (ah_sz (ah_mk2 h t n t2 m i))
/-- n grids of 6 rows of 10 heaps each behind an array: i are made -/
def ah_mk3 (h : ah_T) (n : Nat) : Nat → ah_T
  | 0 => ah_new h 53 n n
  | i + 1 => ah_wR (ah_mk2 (ah_mk3 h n i) 12 6 11 10 6) (ah_sz h) i (ah_sz (ah_mk3 h n i))
section
variable {G : ma_G} {p : Program} {e : Env} {R : Room} {s : State} {m : MethodId} {args : Array Value} {below : List Frame} {meth : Method} {c : Code} {E : CtlPost} {d : Bool} {acts : List Action}
def ma_pm (G : ma_G) (p : Program) (e : Env) (R : Room) (s : State) (m : MethodId) (args : Array Value) (below : List Frame) (meth : Method) (c : Code) (h0 h : ah_T) (T : State) : Prop := ah_ext h0 h ∧ ∃ locs cells slots, Stand p G.1 e R s m args below meth c T locs cells slots ∧ ma_now G R h T.heap locs cells slots
theorem mm_cls (ok : ma_ok G) (hW : G.2.1.WarmedH s.vm) {t : Nat} (ht : t < 16) : ∃ k comp, s.vm.classes[G.2.2.2.2.1 t]? = some k ∧ k.kind = .array comp (ma_aty t) := by
  obtain ⟨-, k, hk, comp, hkind⟩ := ma_isArr ok hW ht 0 (fun _ => .null)
  exact ⟨k, comp, hk, hkind⟩
theorem mm_new (ok : ma_ok G) (hW : G.2.1.WarmedH s.vm) {h0 h : ah_T} {T : State} {g : JFrame} {t n : Nat} (ht : t < 16) (hP : ma_pm G p e R s m args below meth c h0 h T) (h1 : 1 ≤ ah_rc h) (h2 : n ≤ ah_rs h) (h3 : n ≤ 1000000) {Q : Addr → Pre}
    (hq : ∀ T' d' acts', ma_pm G p e R s m args below meth c h0 (ah_new h (40 + t) n n) T' → Q (ah_sz h - 1) d' acts' (T'.setTop g)) : wp (Jvm.newArray (G.2.2.2.2.1 t) n (defaultValue (ma_aty t))) Q E e d acts (T.setTop g) := by
  obtain ⟨hx, locs, cells, slots, X, nw⟩ := hP
  obtain ⟨k0, comp, hk0, hkind0⟩ := mm_cls ok hW ht
  obtain ⟨k, hk, heq⟩ := X.warmed.alike.2.2 _ _ hk0
  have hkind : k.kind = .array comp (ma_aty t) := by rw [heq]; exact hkind0
  have hfit0 : fits (ma_aty t) (defaultValue (ma_aty t)) = true ∧ (defaultValue (ma_aty t)).isDefault = true ∧ componentBytes (ma_aty t) ≤ 8 ∧ ma_dok (ma_aty t) = true := by
    rcases (show t = 0 ∨ t = 1 ∨ t = 2 ∨ t = 3 ∨ t = 4 ∨ t = 5 ∨ t = 6 ∨ t = 7 ∨ t = 8 ∨ t = 9 ∨ t = 10 ∨ t = 11 ∨ t = 12 ∨ t = 13 ∨ t = 14 ∨ t = 15 by omega) with rfl | rfl | rfl | rfl | rfl | rfl | rfl | rfl | rfl | rfl | rfl | rfl | rfl | rfl | rfl | rfl <;> decide
  have hfit : ∀ i v, (Array.replicate n (defaultValue (ma_aty t)))[i]? = some v → T.fitsSlot (G.2.2.2.2.1 t) .none i v = true := by
    intro i v hv
    simp only [Array.getElem?_replicate] at hv
    split at hv
    · cases hv; simp [State.fitsSlot, State.slotType?, hk, hkind, hfit0.1]
    · cases hv
  have hlimit : ¬ n > e.platform.arrayLengthLimit := by rw [Launch.admits_arrayLengthLimit X.admits]; omega
  have hheap : ¬ n * componentBytes (ma_aty t) > e.platform.maxHeapBytes := by
    rw [Launch.admits_maxHeapBytes X.admits]
    have := Nat.mul_le_mul_left n hfit0.2.2.1
    omega
  have e1 := nw.2.2.1
  have e2 := nw.2.2.2
  obtain ⟨hr1, hr2⟩ := X.roomAbove (show cells + 1 ≤ R.cells by omega) (show slots + n ≤ R.slots by omega)
  have hsz : T.heap.size = ah_sz h - 1 := nw.1.1
  have X₂ := X.pushed { cls := G.2.2.2.2.1 t, slots := Array.replicate n (defaultValue (ma_aty t)), vm := .none }
  simp only [Jvm.newArray, Jvm.arrayFits, wp_bind', W.ask, W.ite, hlimit, if_false, wp_pure', W.theClass, State.vm_setTop, hk, hkind, hheap, W.alloc, W.stop, Option.some.injEq, exists_eq_left', Array.size_replicate, State.heap_setTop, State.slotsUsed_setTop, State.fitsSlot_setTop, State.pushCell_setTop]
  rw [if_neg (by omega)]
  refine ⟨by omega, by omega, hfit, ?_⟩
  rw [hsz]
  refine hq _ _ _ ⟨hx.tr (ah_new_ext nw.1), locs, cells + 1, slots + n, by simpa using X₂, ?_, nw.2.1, by show cells + 1 + (ah_rc h - 1) ≤ _; omega, by show slots + n + (ah_rs h - n) ≤ _; omega⟩
  refine nw.1.grow (H' := T.heap.push _) (by rw [Array.size_push]) (fun q hq => by rw [Array.getElem?_push, if_neg (Nat.ne_of_lt hq)]) rfl (fun b hb => ⟨if_neg hb, if_neg hb, fun k => if_neg hb, fun k => if_neg hb, fun k => if_neg hb⟩) ok.2.2.1.1 (Or.inr ⟨by have := nw.1.2.1; omega, Or.inr (Or.inl ⟨t, if_pos rfl, ht, ?_⟩)⟩)
  rw [← hsz, Array.getElem?_push_size, arrV_new]
  have hln : ah_ln (ah_new h (40 + t) n n) (ah_sz h) = n := if_pos rfl
  unfold ma_arr
  rw [hln]
  congr 2
  funext j
  exact ma_dflt hfit0.2.2.2 (if_pos rfl) (if_pos rfl) (if_pos rfl)
theorem mm_wr (ok : ma_ok G) (hW : G.2.1.WarmedH s.vm) {h0 h : ah_T} {T : State} {g : JFrame} {t a i b : Nat} (ht : 5 ≤ t ∧ t < 16) (hP : ma_pm G p e R s m args below meth c h0 h T) (hka : ah_kd h a = 40 + t) (hi : i < ah_ln h a) (hb0 : b ≠ 0) (hm : ah_R h a i = 0) {Q : Unit → Pre}
    (hq : ∀ T' d' acts', ma_pm G p e R s m args below meth c h0 (ah_wR h a i b) T' → Q () d' acts' (T'.setTop g)) : wp (Jvm.writeLoc (a - 1) i (.ref (b - 1))) Q E e d acts (T.setTop g) := by
  obtain ⟨hx, locs, cells, slots, X, nw⟩ := hP
  obtain ⟨k0, comp, hk0, hkind0⟩ := mm_cls ok hW ht.2
  obtain ⟨k, hk, heq⟩ := X.warmed.alike.2.2 _ _ hk0
  have hkind : k.kind = .array comp (ma_aty t) := by rw [heq]; exact hkind0
  obtain ⟨ha0, hba, hcell⟩ := nw.1.arr hka ht.2
  have hfit0 : fits (ma_aty t) (.ref (b - 1)) = true ∧ ∀ h a j, ah_val (ma_aty t) h a j = rv (ah_R h a j) := by
    obtain ⟨h1, h2⟩ := ht
    rcases (show t = 5 ∨ t = 6 ∨ t = 7 ∨ t = 8 ∨ t = 9 ∨ t = 10 ∨ t = 11 ∨ t = 12 ∨ t = 13 ∨ t = 14 ∨ t = 15 by omega) with rfl | rfl | rfl | rfl | rfl | rfl | rfl | rfl | rfl | rfl | rfl <;> exact ⟨rfl, fun _ _ _ => rfl⟩
  have X₂ := X.stored hcell i (.ref (b - 1))
  rw [W.writeLoc]
  refine ⟨_, hcell, (fun q => by cases q), by show i < (arrV _ _ _).slots.size; rw [arrV_size]; exact hi, by show State.fitsSlot (T.setTop g) (G.2.2.2.2.1 t) .none i _ = true; simp [State.fitsSlot, State.slotType?, hk, hkind, hfit0.1], ?_⟩
  rw [State.setCell_setTop]
  have hlt : a - 1 < T.heap.size := (Array.getElem?_eq_some_iff.mp hcell).1
  have hvr : ma_v (rv b) = .ref (b - 1) := ma_rf_pos hb0
  refine hq _ _ _ ⟨hx.tr (ah_ext.wR (Or.inr (Or.inl hm))), _, _, _, X₂, ?_, fun q hq => ?_, nw.2.2.1, nw.2.2.2⟩
  · exact nw.1.ast (t := t) (v := rv b) hka ht.2 (by rw [hvr]; exact heapAt_setCell_self _ hlt) (by rw [size_setCell]) (fun q hq => by rw [heapAt_setCell_ne _ (Ne.symm hq)]) rfl (fun b hb => ah_eq.wR hb) rfl rfl (by rw [hfit0.2]; exact congrArg rv ah_R_same) (fun j hj => ah_val_wR _ hj)
  · rcases List.mem_append.mp hq with hq | hq
    · exact nw.2.1 q hq
    · rw [List.mem_singleton.mp hq]; exact hba
theorem mm_mk1 (ok : ma_ok G) (hW : G.2.1.WarmedH s.vm) {h0 h : ah_T} {T : State} {g : JFrame} {t : Nat} {n : Int32} {N : Nat} (hn : ¬ n < 0) (hN : n.toNatClampNeg = N) (ht : t < 16) (hP : ma_pm G p e R s m args below meth c h0 h T) (h1 : 1 ≤ ah_rc h) (h2 : N ≤ ah_rs h) (h3 : N ≤ 1000000) {Q : Addr → Pre}
    (hq : ∀ T' d' acts', ma_pm G p e R s m args below meth c h0 (ah_new h (40 + t) N N) T' → Q (ah_sz h - 1) d' acts' (T'.setTop g)) : wp (multianewarray.make (G.2.2.2.2.1 t) [n]) Q E e d acts (T.setTop g) := by
  subst hN
  obtain ⟨hx, locs, cells, slots, X, nw⟩ := id hP
  obtain ⟨k0, comp, hk0, hkind0⟩ := mm_cls ok hW ht
  obtain ⟨k, hk, heq⟩ := X.warmed.alike.2.2 _ _ hk0
  have hkind : k.kind = .array comp (ma_aty t) := by rw [heq]; exact hkind0
  rw [multianewarray.make]
  simp only [wp_bind', W.ite, hn, if_false, wp_pure', W.theClass, State.vm_setTop, hk, hkind, Option.some.injEq, exists_eq_left']
  exact mm_new ok hW ht hP h1 h2 h3 hq
/-- an array of arrays: what is made for each of its places by 'one' -/
theorem mm_mkN (ok : ma_ok G) (hW : G.2.1.WarmedH s.vm) {h0 h : ah_T} {T : State} {g : JFrame} {t t2 : Nat} {n : Int32} {N cc cs : Nat} {rest : List Int32} (F : Nat → ah_T) (hrest : rest ≠ []) (hpos : rest.find? (· < 0) = none) (hn : ¬ n < 0) (hN : n.toNatClampNeg = N) (ht : 5 ≤ t ∧ t < 16) (hcomp : ∃ k, s.vm.classes[G.2.2.2.2.1 t]? = some k ∧ k.kind = .array (G.2.2.2.2.1 t2) (ma_aty t)) (hP : ma_pm G p e R s m args below meth c h0 h T) (h1 : 1 ≤ ah_rc h) (h2 : N ≤ ah_rs h) (h3 : N ≤ 1000000)
    (hF0 : F 0 = ah_new h (40 + t) N N) (b : Nat → Nat) (hF : ∀ i, i < N → ∃ h', F (i + 1) = ah_wR h' (ah_sz h) i (b i) ∧ ah_kd h' (ah_sz h) = 40 + t ∧ ah_ln h' (ah_sz h) = N ∧ ah_R h' (ah_sz h) i = 0 ∧ b i ≠ 0 ∧ ∀ (T' : State) (d' : Bool) (acts' : List Action) (Q' : Addr → Pre), ma_pm G p e R s m args below meth c h0 (F i) T' → (∀ T'' d'' acts'', ma_pm G p e R s m args below meth c h0 h' T'' → Q' (b i - 1) d'' acts'' (T''.setTop g)) → wp (multianewarray.make (G.2.2.2.2.1 t2) rest) Q' E e d' acts' (T'.setTop g)) {Q : Addr → Pre}
    (hq : ∀ T' d' acts', ma_pm G p e R s m args below meth c h0 (F N) T' → Q (ah_sz h - 1) d' acts' (T'.setTop g)) : wp (multianewarray.make (G.2.2.2.2.1 t) (n :: rest)) Q E e d acts (T.setTop g) := by
  subst hN
  obtain ⟨hx, locs, cells, slots, X, nw⟩ := id hP
  obtain ⟨k0, hk0, hkind0⟩ := hcomp
  obtain ⟨k, hk, heq⟩ := X.warmed.alike.2.2 _ _ hk0
  have hkind : k.kind = .array (G.2.2.2.2.1 t2) (ma_aty t) := by rw [heq]; exact hkind0
  have hdv : defaultValue (ma_aty t) = .null := by
    obtain ⟨g1, g2⟩ := ht
    rcases (show t = 5 ∨ t = 6 ∨ t = 7 ∨ t = 8 ∨ t = 9 ∨ t = 10 ∨ t = 11 ∨ t = 12 ∨ t = 13 ∨ t = 14 ∨ t = 15 by omega) with rfl | rfl | rfl | rfl | rfl | rfl | rfl | rfl | rfl | rfl | rfl <;> rfl
  obtain ⟨r0, rs, rfl⟩ := List.exists_cons_of_ne_nil hrest
  rw [multianewarray.make]
  simp only [wp_bind', W.ite, hn, if_false, wp_pure', W.theClass, State.vm_setTop, hk, hkind, Option.some.injEq, exists_eq_left']
  have hnew : ∀ Q1 : Addr → Pre, (∀ T' d' acts', ma_pm G p e R s m args below meth c h0 (ah_new h (40 + t) n.toNatClampNeg n.toNatClampNeg) T' → Q1 (ah_sz h - 1) d' acts' (T'.setTop g)) → wp (Jvm.newArray (G.2.2.2.2.1 t) n.toNatClampNeg .null) Q1 E e d acts (T.setTop g) := fun Q1 hq1 => by
    rw [← hdv]
    exact mm_new ok hW ht.2 hP h1 h2 h3 hq1
  refine hnew _ fun T1 d1 acts1 hP1 => ?_
  simp only [hpos]
  rw [ite_self, wp_bind', Std.Legacy.Range.forIn_eq_forIn_range']
  have hsz : ([:n.toNatClampNeg] : Std.Legacy.Range).size = n.toNatClampNeg := by simp [Std.Legacy.Range.size]
  rw [hsz]
  show wp (forIn (List.range' 0 n.toNatClampNeg 1) PUnit.unit _) _ E e d1 acts1 _
  refine wp_forIn_inv (fun l s' => ∃ i T', i ≤ n.toNatClampNeg ∧ l = List.range' i (n.toNatClampNeg - i) ∧ s' = T'.setTop g ∧ ma_pm G p e R s m args below meth c h0 (F i) T') _ _ ⟨0, T1, Nat.zero_le _, rfl, rfl, by rw [hF0]; exact hP1⟩ ?_ ?_
  · rintro x rest' s' d' acts' Q' ⟨i, T', hi, hl, rfl, hPi⟩ hnext
    have hlt : i < n.toNatClampNeg := by
      rcases Nat.lt_or_ge i n.toNatClampNeg with h | h
      · exact h
      · rw [show n.toNatClampNeg - i = 0 from by omega] at hl; simp at hl
    obtain ⟨rfl, hr⟩ : x = i ∧ rest' = List.range' (i + 1) (n.toNatClampNeg - (i + 1)) := by
      rw [show n.toNatClampNeg - i = (n.toNatClampNeg - (i + 1)) + 1 from by omega, List.range'_succ] at hl
      exact ⟨(List.cons.inj hl).1, (List.cons.inj hl).2⟩
    obtain ⟨h', f1, f2, f3, f4, f5, f6⟩ := hF x hlt
    simp only [wp_bind']
    refine f6 T' d' acts' _ hPi fun T2 d2 acts2 hP2 => ?_
    rw [wp_bind']
    refine mm_wr ok hW ht hP2 f2 (by rw [f3]; exact hlt) f5 f4 fun T3 d3 acts3 hP3 => ?_
    simp only [wp_pure']
    exact hnext _ _ _ ⟨x + 1, T3, hlt, hr, rfl, by rw [f1]; exact hP3⟩
  · rintro s' d' acts' ⟨i, T', hi, hl, rfl, hPi⟩
    have hiN : i = n.toNatClampNeg := by
      rcases Nat.lt_or_ge i n.toNatClampNeg with h | h
      · rw [show n.toNatClampNeg - i = (n.toNatClampNeg - (i + 1)) + 1 from by omega, List.range'_succ] at hl; cases hl
      · omega
    subst hiN
    simp only [wp_pure']
    exact hq _ _ _ hPi
end

/-! ===== the abstract heap: size, cells left, slots left; kind, length; ints, longs, references by address and place (null is 0) ===== -/
abbrev ah_T : Type := (Nat × Nat × Nat) × (Nat → Nat) × (Nat → Nat) × (Nat → Nat → Int32) × (Nat → Nat → Int64) × (Nat → Nat → Nat)
def ah_sz (h : ah_T) : Nat := h.1.1
def ah_rc (h : ah_T) : Nat := h.1.2.1
def ah_rs (h : ah_T) : Nat := h.1.2.2
def ah_kd (h : ah_T) (a : Nat) : Nat := h.2.1 a
def ah_ln (h : ah_T) (a : Nat) : Nat := h.2.2.1 a
def ah_I (h : ah_T) (a k : Nat) : Int32 := h.2.2.2.1 a k
def ah_J (h : ah_T) (a k : Nat) : Int64 := h.2.2.2.2.1 a k
def ah_R (h : ah_T) (a k : Nat) : Nat := h.2.2.2.2.2 a k
def ah_wI (h : ah_T) (a k : Nat) (v : Int32) : ah_T := (h.1, h.2.1, h.2.2.1, (fun b j => if b = a ∧ j = k then v else h.2.2.2.1 b j), h.2.2.2.2.1, h.2.2.2.2.2)
def ah_wJ (h : ah_T) (a k : Nat) (v : Int64) : ah_T := (h.1, h.2.1, h.2.2.1, h.2.2.2.1, (fun b j => if b = a ∧ j = k then v else h.2.2.2.2.1 b j), h.2.2.2.2.2)
def ah_wR (h : ah_T) (a k : Nat) (v : Nat) : ah_T := (h.1, h.2.1, h.2.2.1, h.2.2.2.1, h.2.2.2.2.1, (fun b j => if b = a ∧ j = k then v else h.2.2.2.2.2 b j))
/-- a new cell at the address ah_sz h: its kind, its length, how many slots it costs; all in it is zero -/
def ah_new (h : ah_T) (kd len cost : Nat) : ah_T := ((h.1.1 + 1, h.1.2.1 - 1, h.1.2.2 - cost), (fun b => if b = h.1.1 then kd else h.2.1 b), (fun b => if b = h.1.1 then len else h.2.2.1 b), (fun b j => if b = h.1.1 then 0 else h.2.2.2.1 b j), (fun b j => if b = h.1.1 then 0 else h.2.2.2.2.1 b j), (fun b j => if b = h.1.1 then 0 else h.2.2.2.2.2 b j))
/-! values: an int, a long, a reference -/
abbrev ma_V : Type := Int32 ⊕ Int64 ⊕ Nat
abbrev iv (x : Int32) : ma_V := .inl x
abbrev jv (x : Int64) : ma_V := .inr (.inl x)
abbrev rv (n : Nat) : ma_V := .inr (.inr n)
def ma_rf : Nat → Value
  | 0 => .null
  | n + 1 => .ref n
theorem ma_rf_pos {n : Nat} (h : n ≠ 0) : ma_rf n = .ref (n - 1) := by
  cases n with
  | zero => exact absurd rfl h
  | succ n => rfl
def ma_v : ma_V → Value
  | .inl x => .int x
  | .inr (.inl x) => .long x
  | .inr (.inr n) => ma_rf n
def ah_val (ty : FieldType) (h : ah_T) (a k : Nat) : ma_V := match ty with
  | .long => jv (ah_J h a k)
  | .object _ => rv (ah_R h a k)
  | .array _ => rv (ah_R h a k)
  | _ => iv (ah_I h a k)
/-! array kinds: 40 + t -/
def ma_aty : Nat → FieldType := fun t => match t with
  | 0 => .int
  | 1 => .long
  | 2 => .byte
  | 3 => .short
  | 4 => .boolean
  | 5 => .object "PrairiePool$Tray"
  | 6 => .object "PrairiePool$Farm"
  | 7 => .object "PrairiePool$Elevator"
  | 8 => .object "PrairiePool$Event"
  | 9 => .object "PrairiePool$Law"
  | 10 => .object "PrairiePool$Term"
  | 11 => .object "PrairiePool$Heap"
  | 12 => .array (.object "PrairiePool$Heap")
  | 13 => .array (.array (.object "PrairiePool$Heap"))
  | 14 => .array .int
  | _ => .array .long
/-- what stays all through: launch, the law's start, its arguments, the classes' numbers and slots, the array classes' numbers -/
abbrev ma_G : Type := Launch × State × Array Value × va_G × (Nat → ClassId) × (Nat → Nat) × (Nat → Nat)
/-- the two texts of words: their lengths, their bytes -/
def ma_sl : List Nat := [36, 69]
def ma_sb : List (List Int32) := [[32, 105, 102, 32, 116, 104, 101, 110, 32, 101, 108, 115, 101, 32, 97, 110, 100, 32, 111, 114, 32, 110, 111, 116, 32, 108, 101, 97, 115, 116, 32, 109, 111, 115, 116, 32], [32, 103, 114, 97, 100, 101, 32, 103, 114, 97, 100, 101, 114, 32, 119, 101, 101, 107, 32, 121, 101, 97, 114, 32, 98, 117, 115, 104, 101, 108, 115, 32, 97, 99, 114, 101, 115, 32, 100, 101, 98, 116, 32, 100, 105, 115, 116, 114, 105, 99, 116, 32, 99, 97, 114, 115, 32, 119, 97, 105, 116, 115, 32, 112, 114, 105, 99, 101, 32]]
def ma_tys (G : ma_G) : List (ClassId × FieldType) := (List.range 16).map (fun t => (G.2.2.2.2.1 t, ma_aty t))
theorem ma_tys_at (G : ma_G) {t : Nat} (ht : t < 16) : (ma_tys G)[t]? = some (G.2.2.2.2.1 t, ma_aty t) := by
  simp [ma_tys, ht]
def ma_ok (G : ma_G) : Prop := (∀ w ∈ lw_tbl, w.before G.2.2.1 G.2.1 = true) ∧ va_K G.2.2.2.1 ma_cl (ma_tys G) G.2.1 ∧ (0 < G.2.1.heap.size ∧ vk_S 2 ma_sl ma_sb G.2.2.2.2.2.1 G.2.2.2.2.2.2 (fun q => G.2.1.heap.size ≤ q) G.2.1 G.2.1.heap ∧ vk_R "PrairiePool$Reader" 86 " if then else and or not least most " (G.2.2.2.2.2.1 0) G.2.1 ∧ vk_R "PrairiePool$Reader" 111 " grade grader week year bushels acres debt district cars waits price " (G.2.2.2.2.2.1 1) G.2.1 ∧ G.1.flags = flags0) ∧ (Jvm.Cond.and given_1 narrow_1).before G.2.2.1 G.2.1 = true
def ma_obj (G : ma_G) (h : ah_T) (a ci : Nat) (r : vw_C) (H : Heap) : Prop := t_OB (a - 1) (G.2.2.2.1.1 ci) r.2.2 (G.2.2.2.1.2 ci) H (fun k => ma_v (ah_val (ma_fty ci k) h a k))
def ma_arr (G : ma_G) (h : ah_T) (a t : Nat) : Cell := arrV (G.2.2.2.2.1 t) (ah_ln h a) (fun j => ma_v (ah_val (ma_aty t) h a j))
/-- exceptions that the machine itself makes: kinds 30 .. 33 -/
def ma_exn : Nat → String := fun j => match j with
  | 0 => "java/lang/NullPointerException"
  | 1 => "java/lang/ArrayIndexOutOfBoundsException"
  | 2 => "java/lang/NegativeArraySizeException"
  | _ => "java/lang/IndexOutOfBoundsException"
def ma_at (G : ma_G) (h : ah_T) (a : Nat) (H : Heap) : Prop :=
  (ah_kd h a = 39 ∧ ∃ cell : Cell, H[a - 1]? = some cell ∧ G.2.1.isArrayOf cell .int ∧ cell.vm ≠ .unknown ∧ cell.slots.size = ah_ln h a ∧ ∀ j, j < ah_ln h a → cell.slots[j]? = some (.int (ah_I h a j))) ∨
  (G.2.1.heap.size ≤ a - 1 ∧ ((∃ ci r, ah_kd h a = ci + 1 ∧ ma_cl[ci]? = some r ∧ ma_obj G h a ci r H) ∨ (∃ t, ah_kd h a = 40 + t ∧ t < 16 ∧ H[a - 1]? = some (ma_arr G h a t)) ∨ (∃ j, ah_kd h a = 30 + j ∧ j < 4 ∧ ∃ cell : Cell, H[a - 1]? = some cell ∧ (∀ z, cell.vm ≠ .statics z) ∧ G.2.1.vm.findClass (ma_exn j) = some cell.cls)))
def ma_rel (G : ma_G) (h : ah_T) (H : Heap) : Prop :=
  H.size = ah_sz h - 1 ∧ G.2.1.heap.size < ah_sz h ∧ (∀ q : Nat, q < G.2.1.heap.size → H[q]? = G.2.1.heap[q]?) ∧ ah_kd h 0 = 0 ∧ ∀ a, ah_kd h a ≠ 0 → ma_at G h a H
/-- a method: its name, its code, how many locals, its answer, its handlers -/
abbrev ma_M : Type := MethodName × ByteArray × Nat × Option FieldType × List (Nat × Nat × Nat × Nat)
def ma_ctx (G : ma_G) (y : ma_M) (d : Nat) (p : Program) (R : Room) (s : State) (m : MethodId) (meth : Method) (c : Code) : Prop :=
  p.tables.exec = Jvm.exec ∧ c.code = y.2.1 ∧ c.maxLocals = y.2.2.1 ∧ meth.sig.returnType = y.2.2.2.1 ∧ meth.locks = false ∧ s.vm.findClass y.1.cls = some m.cls ∧
  c.exceptionTable.toList.map (fun h => (h.startPc, h.endPc, h.handlerPc, h.catchType)) = y.2.2.2.2 ∧ G.2.1.WarmedH s.vm ∧ d ≤ R.frames ∧ d * 300 ≤ R.locals ∧ s.methodNamed? y.1 = some m
def ma_now (G : ma_G) (R : Room) (h : ah_T) (H : Heap) (locs : List Loc) (cells slots : Nat) : Prop :=
  ma_rel G h H ∧ (∀ q ∈ locs, G.2.1.heap.size ≤ q.base) ∧ cells + ah_rc h ≤ R.cells ∧ slots + ah_rs h ≤ R.slots
/-- the references that may change again: force, Wrong's, the Reader's law, a tray's row, the two lasts -/
def ma_mut (kd k : Nat) : Bool := (kd == 1 && k == 23) || kd == 5 || (kd == 6 && k == 7) || (kd == 8 && k == 0) || (kd == 17 && k == 3) || (kd == 20 && k == 3)
/-- cells keep their kind and their length; a reference that is set stays, but the few of ma_mut -/
def ah_ext (h h' : ah_T) : Prop := ah_sz h ≤ ah_sz h' ∧ ∀ a, ah_kd h a ≠ 0 → ah_kd h' a = ah_kd h a ∧ ah_ln h' a = ah_ln h a ∧ ∀ k, ah_R h a k ≠ 0 → ma_mut (ah_kd h a) k = false → ah_R h' a k = ah_R h a k
theorem ah_ext.rf {h : ah_T} : ah_ext h h := ⟨Nat.le_refl _, fun _ _ => ⟨rfl, rfl, fun _ _ _ => rfl⟩⟩
theorem ah_ext.tr {h h' h'' : ah_T} (x : ah_ext h h') (z : ah_ext h' h'') : ah_ext h h'' := ⟨Nat.le_trans x.1 z.1, fun a ha => by
  obtain ⟨x1, x2, x3⟩ := x.2 a ha
  obtain ⟨z1, z2, z3⟩ := z.2 a (by rw [x1]; exact ha)
  refine ⟨z1.trans x1, z2.trans x2, fun k hk hm => ?_⟩
  have e := x3 k hk hm
  exact (z3 k (by rw [e]; exact hk) (by rw [x1]; exact hm)).trans e⟩
theorem ah_ext.wI {h : ah_T} {a k : Nat} {v : Int32} : ah_ext h (ah_wI h a k v) := ⟨Nat.le_refl _, fun _ _ => ⟨rfl, rfl, fun _ _ _ => rfl⟩⟩
theorem ah_ext.wJ {h : ah_T} {a k : Nat} {v : Int64} : ah_ext h (ah_wJ h a k v) := ⟨Nat.le_refl _, fun _ _ => ⟨rfl, rfl, fun _ _ _ => rfl⟩⟩
theorem ah_ext.wR {h : ah_T} {a k v : Nat} (hm : ma_mut (ah_kd h a) k = true ∨ ah_R h a k = 0 ∨ ah_R h a k = v) : ah_ext h (ah_wR h a k v) := ⟨Nat.le_refl _, fun b _ => ⟨rfl, rfl, fun j hj hf => by
  show (if b = a ∧ j = k then v else ah_R h b j) = ah_R h b j
  by_cases q : b = a ∧ j = k
  · obtain ⟨rfl, rfl⟩ := q
    rw [if_pos ⟨rfl, rfl⟩]
    rcases hm with hm | hm | hm
    · rw [hm] at hf; cases hf
    · exact absurd hm hj
    · exact hm.symm
  · exact if_neg q⟩⟩
theorem ah_ext.r {h h' : ah_T} (x : ah_ext h h') {a k n m : Nat} (hk : ah_kd h a = n + 1) (hm : ma_mut (n + 1) k = false) (hr : ah_R h a k = m + 1) : ah_R h' a k = m + 1 := by
  rw [(x.2 a (by omega)).2.2 k (by omega) (by rw [hk]; exact hm)]; exact hr
theorem ah_ext.kd {h h' : ah_T} (x : ah_ext h h') {a k : Nat} (hk : ah_kd h a = k + 1) : ah_kd h' a = k + 1 := by
  rw [(x.2 a (by omega)).1]; exact hk
theorem ah_ext.ln {h h' : ah_T} (x : ah_ext h h') {a k : Nat} (hk : ah_kd h a = k + 1) : ah_ln h' a = ah_ln h a := (x.2 a (by omega)).2.1
def ma_end (G : ma_G) (R : Room) (s : State) (below : List Frame) (h0 : ah_T) (Q : Option ma_V → ah_T → Prop) (E : Nat → ah_T → Prop) : State → Prop := fun t =>
  ∃ (h : ah_T) (L : List Loc) (k n : Nat), ah_ext h0 h ∧ t.status = .running ∧ s.WarmedH t.vm ∧ s.sameButNew ({ t with vm := s.vm } : State) L k n ∧ (∀ q ∈ L, G.2.1.heap.size ≤ q.base) ∧
    k + ah_rc h ≤ R.cells ∧ n + ah_rs h ≤ R.slots ∧ ma_rel G h t.heap ∧ ((∃ v : Option ma_V, Ended t below (.returned (v.map ma_v)) ∧ Q v h) ∨ (∃ x, Ended t below (.threw x) ∧ E (x + 1) h))
def ma_ls (ls : Array Slot) (n : Nat) (al : List (Option ma_V)) : Prop := ls.size = n ∧ al.length = n ∧ lv_wf ls ∧ ∀ (i : Nat) (v : ma_V), al[i]? = some (some v) → ls[i]? = some (.val (ma_v v))
/-- method y stands at pc with locals al, stack st, heap h, d frames left: it ends, returning with Q or throwing with E -/
def MX (G : ma_G) (y : ma_M) (d pc : Nat) (al : List (Option ma_V)) (st : List ma_V) (h : ah_T) (Q : Option ma_V → ah_T → Prop) (E : Nat → ah_T → Prop) : Prop :=
  ∀ (p : Program) (e : Env) (R : Room) (s : State) (m : MethodId) (args : Array Value) (below : List Frame) (meth : Method) (c : Code), ma_ok G → ma_ctx G y d p R s m meth c →
    ∀ (H : Heap) (locs : List Loc) (cells slots : Nat) (ls : Array Slot), ma_now G R h H locs cells slots → ma_ls ls y.2.2.1 al →
      W p G.1 e R s m args below meth c H locs cells slots (ma_end G R s below h Q E) (F0 m pc ls (st.map ma_v))
/-- the same with an exception on its way at pc -/
def MT (G : ma_G) (y : ma_M) (d pc : Nat) (al : List (Option ma_V)) (x : Nat) (h : ah_T) (Q : Option ma_V → ah_T → Prop) (E : Nat → ah_T → Prop) : Prop :=
  ∀ (p : Program) (e : Env) (R : Room) (s : State) (m : MethodId) (args : Array Value) (below : List Frame) (meth : Method) (c : Code), ma_ok G → ma_ctx G y d p R s m meth c →
    ∀ (H : Heap) (locs : List Loc) (cells slots : Nat) (ls : Array Slot) (st : List Value), ma_now G R h H locs cells slots → ma_ls ls y.2.2.1 al → x ≠ 0 →
      ∀ T : State, T.heap = H → Stand p G.1 e R s m args below meth c T locs cells slots → ∃ t, Steps p.tables e below ((T.setTop (F0 m pc ls st)).pushFrame (.throwing (x - 1))) t ∧ ma_end G R s below h Q E t
/-! answers -/
def Qi (q : Int32 → ah_T → Prop) : Option ma_V → ah_T → Prop := fun v h => match v with
  | some (.inl x) => q x h
  | _ => False
def Ql (q : Int64 → ah_T → Prop) : Option ma_V → ah_T → Prop := fun v h => match v with
  | some (.inr (.inl x)) => q x h
  | _ => False
def Qr (q : Nat → ah_T → Prop) : Option ma_V → ah_T → Prop := fun v h => match v with
  | some (.inr (.inr x)) => q x h
  | _ => False
def Qv (q : ah_T → Prop) : Option ma_V → ah_T → Prop := fun v h => match v with
  | none => q h
  | _ => False
/-! ===== monotony ===== -/
theorem ma_end_mono {G : ma_G} {R : Room} {s : State} {below : List Frame} {h0 : ah_T} {Q Q' : Option ma_V → ah_T → Prop} {E E' : Nat → ah_T → Prop} (hQ : ∀ v h, Q v h → Q' v h) (hE : ∀ x h, E x h → E' x h) {t : State} (H : ma_end G R s below h0 Q E t) : ma_end G R s below h0 Q' E' t := by
  obtain ⟨h, L, k, n, a0, a1, a2, a3, a4, a5, a6, a7, a8⟩ := H
  refine ⟨h, L, k, n, a0, a1, a2, a3, a4, a5, a6, a7, ?_⟩
  rcases a8 with ⟨v, b1, b2⟩ | ⟨x, b1, b2⟩
  · exact Or.inl ⟨v, b1, hQ _ _ b2⟩
  · exact Or.inr ⟨x, b1, hE _ _ b2⟩
theorem ma_end_ext {G : ma_G} {R : Room} {s : State} {below : List Frame} {h0 h1 : ah_T} (x : ah_ext h0 h1) {Q : Option ma_V → ah_T → Prop} {E : Nat → ah_T → Prop} {t : State} (H : ma_end G R s below h1 Q E t) : ma_end G R s below h0 Q E t := by
  obtain ⟨h, L, k, n, a0, a1, a2, a3, a4, a5, a6, a7, a8⟩ := H
  exact ⟨h, L, k, n, x.tr a0, a1, a2, a3, a4, a5, a6, a7, a8⟩
theorem ma_Wmono {p : Program} {l : Launch} {e : Env} {R : Room} {s : State} {m : MethodId} {args : Array Value} {below : List Frame} {meth : Method} {c : Code} {H : Heap} {locs : List Loc} {cells slots : Nat} {Q1 Q2 : State → Prop} {g : JFrame} (k : W p l e R s m args below meth c H locs cells slots Q1 g) (hq : ∀ t, Q1 t → Q2 t) : W p l e R s m args below meth c H locs cells slots Q2 g := by
  intro T hT X
  obtain ⟨t, a1, b1⟩ := k T hT X
  exact ⟨t, a1, hq t b1⟩
theorem MX.mono {G : ma_G} {y : ma_M} {d pc : Nat} {al : List (Option ma_V)} {st : List ma_V} {h : ah_T} {Q Q' : Option ma_V → ah_T → Prop} {E E' : Nat → ah_T → Prop} (K : MX G y d pc al st h Q E) (hQ : ∀ v h, Q v h → Q' v h) (hE : ∀ x h, E x h → E' x h) : MX G y d pc al st h Q' E' := by
  intro p e R s m args below meth c ok cx H locs cells slots ls nw hl T hT X
  obtain ⟨t, b1, b2⟩ := K p e R s m args below meth c ok cx H locs cells slots ls nw hl T hT X
  exact ⟨t, b1, ma_end_mono hQ hE b2⟩
theorem MX.deeper {G : ma_G} {y : ma_M} {d d' pc : Nat} {al : List (Option ma_V)} {st : List ma_V} {h : ah_T} {Q : Option ma_V → ah_T → Prop} {E : Nat → ah_T → Prop} (K : MX G y d pc al st h Q E) (hd : d ≤ d') : MX G y d' pc al st h Q E := by
  intro p e R s m args below meth c ok cx
  obtain ⟨c1, c2, c3, c4, c5, c6, c7, c8, c9, c10, c11⟩ := cx
  exact K p e R s m args below meth c ok ⟨c1, c2, c3, c4, c5, c6, c7, c8, Nat.le_trans hd c9, Nat.le_trans (Nat.mul_le_mul_right 300 hd) c10, c11⟩
/-- fewer locals are known -/
def al_le : List (Option ma_V) → List (Option ma_V) → Prop
  | [], [] => True
  | none :: r, _ :: r' => al_le r r'
  | some v :: r, some w :: r' => v = w ∧ al_le r r'
  | _, _ => False
theorem al_le_spec : ∀ {a b : List (Option ma_V)}, al_le a b → a.length = b.length ∧ ∀ (i : Nat) (v : ma_V), a[i]? = some (some v) → b[i]? = some (some v)
  | [], [], _ => ⟨rfl, fun i v h => by simp at h⟩
  | [], _ :: _, h => by simp [al_le] at h
  | none :: r, [], h => by simp [al_le] at h
  | some v :: r, [], h => by simp [al_le] at h
  | some v :: r, none :: r', h => by simp [al_le] at h
  | none :: r, w :: r', h => by
    simp only [al_le] at h
    obtain ⟨h1, h2⟩ := al_le_spec h
    refine ⟨by simp [h1], fun i v hi => ?_⟩
    cases i with
    | zero => simp at hi
    | succ i => simpa using h2 i v (by simpa using hi)
  | some v :: r, some w :: r', h => by
    simp only [al_le] at h
    obtain ⟨h0, h⟩ := h
    subst h0
    obtain ⟨h1, h2⟩ := al_le_spec h
    refine ⟨by simp [h1], fun i v hi => ?_⟩
    cases i with
    | zero => simpa using hi
    | succ i => simpa using h2 i v (by simpa using hi)
theorem mx_weak {G : ma_G} {y : ma_M} {d pc : Nat} {al al' : List (Option ma_V)} {st : List ma_V} {h : ah_T} {Q : Option ma_V → ah_T → Prop} {E : Nat → ah_T → Prop} (hle : al_le al' al) (K : MX G y d pc al' st h Q E) : MX G y d pc al st h Q E := by
  intro p e R s m args below meth c ok cx H locs cells slots ls nw hl
  obtain ⟨h1, h2⟩ := al_le_spec hle
  exact K p e R s m args below meth c ok cx H locs cells slots ls nw ⟨hl.1, by rw [h1]; exact hl.2.1, hl.2.2.1, fun i v hi => hl.2.2.2 i v (h2 i v hi)⟩
/-! ===== locals ===== -/
def ma_alp (al : List (Option ma_V)) : List (Nat × Value) := al.zipIdx.filterMap (fun q => q.1.map (fun v => (q.2, ma_v v)))
theorem ma_alp_mem {al : List (Option ma_V)} {q : Nat × Value} : q ∈ ma_alp al ↔ ∃ v, al[q.1]? = some (some v) ∧ q.2 = ma_v v := by
  constructor
  · intro h
    obtain ⟨⟨o, i⟩, h1, h2⟩ := List.mem_filterMap.mp h
    cases o with
    | none => simp at h2
    | some v =>
      simp at h2
      subst h2
      exact ⟨v, List.mk_mem_zipIdx_iff_getElem?.mp h1, rfl⟩
  · rintro ⟨v, h1, h2⟩
    refine List.mem_filterMap.mpr ⟨(some v, q.1), List.mk_mem_zipIdx_iff_getElem?.mpr h1, ?_⟩
    simp [← h2]
theorem ma_lsp {ls : Array Slot} {n : Nat} {al : List (Option ma_V)} (h : ma_ls ls n al) : lv_has ls n (ma_alp al) := by
  refine ⟨h.1, h.2.2.1, fun q hq => ?_⟩
  obtain ⟨v, h1, h2⟩ := ma_alp_mem.mp hq
  rw [h2]
  exact h.2.2.2 _ _ h1
def ma_c2 : ma_V → Bool
  | .inr (.inl _) => true
  | _ => false
theorem ma_cat_rf (n : Nat) : (ma_rf n).category = 1 := by cases n <;> rfl
theorem ma_cat (v : ma_V) : (ma_v v).category = if ma_c2 v = true then 2 else 1 := by
  rcases v with x | x | n
  · rfl
  · rfl
  · exact ma_cat_rf n
def al_clr (al : List (Option ma_V)) : Nat → List (Option ma_V)
  | 0 => al
  | j + 1 => match al[j]? with
    | some (some (.inr (.inl _))) => al.set j none
    | _ => al
def al_s1 (al : List (Option ma_V)) (i : Nat) (v : ma_V) : List (Option ma_V) := (al_clr al i).set i (some v)
def al_s2 (al : List (Option ma_V)) (i : Nat) (v : ma_V) : List (Option ma_V) := ((al_clr al i).set i (some v)).set (i + 1) none
theorem al_clr_len (al : List (Option ma_V)) (i : Nat) : (al_clr al i).length = al.length := by
  cases i with
  | zero => rfl
  | succ j =>
    rw [al_clr]
    split
    · simp
    · rfl
theorem al_clr_get {al : List (Option ma_V)} {i j : Nat} {w : ma_V} (h : (al_clr al i)[j]? = some (some w)) : al[j]? = some (some w) ∧ ¬ (j + 1 = i ∧ ma_c2 w = true) := by
  cases i with
  | zero => exact ⟨h, fun q => by omega⟩
  | succ k =>
    rw [al_clr] at h
    split at h
    · rename_i x hx
      by_cases hj : k = j
      · subst hj
        rw [List.getElem?_set] at h
        simp at h
      · rw [List.getElem?_set] at h
        rw [if_neg hj] at h
        exact ⟨h, fun q => hj (by omega)⟩
    · rename_i hx
      refine ⟨h, fun q => ?_⟩
      obtain ⟨q1, q2⟩ := q
      have : k = j := by omega
      subst this
      rcases w with x | x | n
      · simp [ma_c2] at q2
      · exact hx x h
      · simp [ma_c2] at q2
theorem ma_ls_s1 {ls ls' : Array Slot} {n i : Nat} {al : List (Option ma_V)} {v : ma_V} (hl : ma_ls ls n al) (h : lv_has ls' n ((i, ma_v v) :: (ma_alp al).filter (fun q => !(q.1 == i) && !(q.1 + 1 == i && q.2.category == 2)))) : ma_ls ls' n (al_s1 al i v) := by
  refine ⟨h.1, by rw [al_s1, List.length_set, al_clr_len]; exact hl.2.1, h.2.1, fun j w hj => ?_⟩
  rw [al_s1, List.getElem?_set] at hj
  split at hj
  · rename_i e
    subst e
    split at hj
    · cases hj
      exact h.2.2 (i, ma_v v) List.mem_cons_self
    · cases hj
  · rename_i e
    obtain ⟨g1, g2⟩ := al_clr_get hj
    refine h.2.2 (j, ma_v w) (List.mem_cons_of_mem _ (List.mem_filter.mpr ⟨ma_alp_mem.mpr ⟨w, g1, rfl⟩, ?_⟩))
    have e' : ¬ j = i := fun q => e q.symm
    simp [e', ma_cat]
    by_cases q : j + 1 = i
    · exact Or.inr (Bool.eq_false_iff.mpr fun hc => g2 ⟨q, hc⟩)
    · exact Or.inl q
theorem ma_ls_s2 {ls ls' : Array Slot} {n i : Nat} {al : List (Option ma_V)} {v : ma_V} (hl : ma_ls ls n al) (h : lv_has ls' n ((i, ma_v v) :: (ma_alp al).filter (fun q => !(q.1 == i) && (!(q.1 == i + 1) && !(q.1 + 1 == i && q.2.category == 2))))) : ma_ls ls' n (al_s2 al i v) := by
  refine ⟨h.1, by rw [al_s2, List.length_set, List.length_set, al_clr_len]; exact hl.2.1, h.2.1, fun j w hj => ?_⟩
  rw [al_s2, List.getElem?_set] at hj
  split at hj
  · split at hj <;> cases hj
  · rename_i e2
    rw [List.getElem?_set] at hj
    split at hj
    · rename_i e
      subst e
      split at hj
      · cases hj
        exact h.2.2 (i, ma_v v) List.mem_cons_self
      · cases hj
    · rename_i e
      obtain ⟨g1, g2⟩ := al_clr_get hj
      refine h.2.2 (j, ma_v w) (List.mem_cons_of_mem _ (List.mem_filter.mpr ⟨ma_alp_mem.mpr ⟨w, g1, rfl⟩, ?_⟩))
      have e' : ¬ j = i := fun q => e q.symm
      have e2' : ¬ j = i + 1 := fun q => e2 q.symm
      simp [e', e2', ma_cat]
      by_cases q : j + 1 = i
      · exact Or.inr (Bool.eq_false_iff.mpr fun hc => g2 ⟨q, hc⟩)
      · exact Or.inl q

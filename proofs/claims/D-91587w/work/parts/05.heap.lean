/-! ===== the heap's relation ===== -/
theorem ma_rel.obj {G : ma_G} {h : ah_T} {H : Heap} {a ci : Nat} {r : vw_C} (r0 : ma_rel G h H) (hk : ah_kd h a = ci + 1) (hc : ma_cl[ci]? = some r) : a ≠ 0 ∧ G.2.1.heap.size ≤ a - 1 ∧ ma_obj G h a ci r H := by
  have hlt := ma_cl_lt hc
  have h0 : a ≠ 0 := by
    intro e
    subst e
    rw [r0.2.2.2.1] at hk
    omega
  rcases r0.2.2.2.2 a (by omega) with ⟨h1, -⟩ | ⟨hb, ⟨ci', r', h1, h2, h3⟩ | ⟨t, h1, -⟩ | ⟨j, h1, -⟩⟩
  · omega
  · have e : ci' = ci := by omega
    subst e
    cases hc.symm.trans h2
    exact ⟨h0, hb, h3⟩
  · omega
  · omega
theorem ma_rel.arr {G : ma_G} {h : ah_T} {H : Heap} {a t : Nat} (r0 : ma_rel G h H) (hk : ah_kd h a = 40 + t) (ht : t < 16) : a ≠ 0 ∧ G.2.1.heap.size ≤ a - 1 ∧ H[a - 1]? = some (ma_arr G h a t) := by
  have h0 : a ≠ 0 := by
    intro e
    subst e
    rw [r0.2.2.2.1] at hk
    omega
  rcases r0.2.2.2.2 a (by omega) with ⟨h1, -⟩ | ⟨hb, ⟨ci', r', h1, h2, h3⟩ | ⟨t', h1, h2, h3⟩ | ⟨j, h1, h2, -⟩⟩
  · omega
  · have := ma_cl_lt h2
    omega
  · have e : t' = t := by omega
    subst e
    exact ⟨h0, hb, h3⟩
  · omega
theorem ma_rel.scr {G : ma_G} {h : ah_T} {H : Heap} {a : Nat} (r0 : ma_rel G h H) (hk : ah_kd h a = 39) : a ≠ 0 ∧ ∃ cell : Cell, H[a - 1]? = some cell ∧ G.2.1.isArrayOf cell .int ∧ cell.vm ≠ .unknown ∧ cell.slots.size = ah_ln h a ∧ ∀ j, j < ah_ln h a → cell.slots[j]? = some (.int (ah_I h a j)) := by
  have h0 : a ≠ 0 := by
    intro e
    subst e
    rw [r0.2.2.2.1] at hk
    omega
  rcases r0.2.2.2.2 a (by omega) with ⟨-, h1⟩ | ⟨hb, ⟨ci', r', h1, h2, h3⟩ | ⟨t', h1, h2, h3⟩ | ⟨j, h1, h2, -⟩⟩
  · exact ⟨h0, h1⟩
  · have := ma_cl_lt h2
    omega
  · omega
  · omega
theorem ma_rel.exn {G : ma_G} {h : ah_T} {H : Heap} {a j : Nat} (r0 : ma_rel G h H) (hk : ah_kd h a = 30 + j) (hj : j < 4) : a ≠ 0 ∧ ∃ cell : Cell, H[a - 1]? = some cell ∧ (∀ z, cell.vm ≠ .statics z) ∧ G.2.1.vm.findClass (ma_exn j) = some cell.cls := by
  have h0 : a ≠ 0 := by
    intro e
    subst e
    rw [r0.2.2.2.1] at hk
    omega
  rcases r0.2.2.2.2 a (by omega) with ⟨h1, -⟩ | ⟨hb, ⟨ci', r', h1, h2, h3⟩ | ⟨t', h1, h2, h3⟩ | ⟨j', h1, h2, h3⟩⟩
  · omega
  · have := ma_cl_lt h2
    omega
  · omega
  · have e : j' = j := by omega
    subst e
    exact ⟨h0, h3⟩
/-- the two heaps hold the same at b -/
def ah_eq (h h' : ah_T) (b : Nat) : Prop := ah_kd h' b = ah_kd h b ∧ ah_ln h' b = ah_ln h b ∧ (∀ k, ah_I h' b k = ah_I h b k) ∧ (∀ k, ah_J h' b k = ah_J h b k) ∧ ∀ k, ah_R h' b k = ah_R h b k
theorem ah_eq.rf {h : ah_T} {b : Nat} : ah_eq h h b := ⟨rfl, rfl, fun _ => rfl, fun _ => rfl, fun _ => rfl⟩
theorem ah_eq.tr {h h' h'' : ah_T} {b : Nat} (a : ah_eq h h' b) (c : ah_eq h' h'' b) : ah_eq h h'' b := ⟨c.1.trans a.1, c.2.1.trans a.2.1, fun k => (c.2.2.1 k).trans (a.2.2.1 k), fun k => (c.2.2.2.1 k).trans (a.2.2.2.1 k), fun k => (c.2.2.2.2 k).trans (a.2.2.2.2 k)⟩
theorem ah_eq.val {h h' : ah_T} {b : Nat} (e : ah_eq h h' b) (ty : FieldType) (k : Nat) : ah_val ty h' b k = ah_val ty h b k := by
  unfold ah_val
  split <;> simp [e.2.2.1 k, e.2.2.2.1 k, e.2.2.2.2 k]
theorem ma_at.congr {G : ma_G} {h h' : ah_T} {H H' : Heap} {b : Nat} (x : ma_at G h b H) (e : ah_eq h h' b) (hq : H'[b - 1]? = H[b - 1]?) : ma_at G h' b H' := by
  rcases x with ⟨h1, cell, h2, h3, h4, h5, h6⟩ | ⟨hb, ⟨ci, r, h1, h2, h3⟩ | ⟨t, h1, h2, h3⟩ | ⟨j, h1, h2, cell, h3, h4⟩⟩
  · refine Or.inl ⟨e.1.trans h1, cell, hq.trans h2, h3, h4, h5.trans e.2.1.symm, fun j hj => ?_⟩
    rw [e.2.2.1 j]
    exact h6 j (by rw [← e.2.1]; exact hj)
  · refine Or.inr ⟨hb, Or.inl ⟨ci, r, e.1.trans h1, h2, t_OB.to (h3.kept hq) (fun k _ => by rw [e.val])⟩⟩
  · refine Or.inr ⟨hb, Or.inr (Or.inl ⟨t, e.1.trans h1, h2, ?_⟩)⟩
    rw [hq, h3]
    unfold ma_arr
    rw [e.2.1]
    congr 2
    funext j
    rw [e.val]
  · exact Or.inr ⟨hb, Or.inr (Or.inr ⟨j, e.1.trans h1, h2, cell, hq.trans h3, h4⟩)⟩
theorem ma_rel.upd {G : ma_G} {h h' : ah_T} {H H' : Heap} {a : Nat} (r0 : ma_rel G h H) (hsz : H'.size = H.size) (ho : ∀ q : Nat, q ≠ a - 1 → H'[q]? = H[q]?) (hb : G.2.1.heap.size ≤ a - 1) (h0 : a ≠ 0) (e1 : ah_sz h' = ah_sz h) (eo : ∀ b, b ≠ a → ah_eq h h' b) (hat : ma_at G h' a H') : ma_rel G h' H' := by
  refine ⟨by rw [hsz, e1]; exact r0.1, by rw [e1]; exact r0.2.1, fun q hq => ?_, ?_, fun b hbk => ?_⟩
  · rw [ho q (by omega)]
    exact r0.2.2.1 q hq
  · rw [(eo 0 (fun e => h0 e.symm)).1]
    exact r0.2.2.2.1
  · by_cases e : b = a
    · rw [e]
      exact hat
    · have hb0 : b ≠ 0 := by
        intro z
        subst z
        exact hbk ((eo 0 e).1.trans r0.2.2.2.1)
      exact (r0.2.2.2.2 b (by rw [← (eo b e).1]; exact hbk)).congr (eo b e) (ho (b - 1) (by omega))
theorem ma_rel.grow {G : ma_G} {h h' : ah_T} {H H' : Heap} (r0 : ma_rel G h H) (hsz : H'.size = H.size + 1) (ho : ∀ q : Nat, q < H.size → H'[q]? = H[q]?) (e1 : ah_sz h' = ah_sz h + 1) (eo : ∀ b, b ≠ ah_sz h → ah_eq h h' b) (hp : 0 < G.2.1.heap.size) (hat : ma_at G h' (ah_sz h) H') : ma_rel G h' H' := by
  have hz := r0.1
  have hle := r0.2.1
  refine ⟨by rw [hsz, e1, hz]; omega, by rw [e1]; omega, fun q hq => ?_, ?_, fun b hbk => ?_⟩
  · rw [ho q (by omega)]
    exact r0.2.2.1 q hq
  · rw [(eo 0 (by omega)).1]
    exact r0.2.2.2.1
  · by_cases e : b = ah_sz h
    · rw [e]
      exact hat
    · have hb2 := r0.2.2.2.2 b (by rw [← (eo b e).1]; exact hbk)
      have hlt : b - 1 < H.size := by
        rcases hb2 with ⟨-, cell, h2, -⟩ | ⟨-, ⟨ci, r, -, -, cell, h2, -⟩ | ⟨t, -, -, h3⟩ | ⟨j, -, -, cell, h2, -⟩⟩
        · exact (Array.getElem?_eq_some_iff.mp h2).1
        · exact (Array.getElem?_eq_some_iff.mp h2).1
        · exact (Array.getElem?_eq_some_iff.mp h3).1
        · exact (Array.getElem?_eq_some_iff.mp h2).1
      exact hb2.congr (eo b e) (ho (b - 1) hlt)
/-! words of the tables, at any method's start -/
theorem ma_wd {G : ma_G} (ok : ma_ok G) {s : State} (hW : G.2.1.WarmedH s.vm) (args : Array Value) : ∀ w ∈ lw_all, w.before args s = true := fun w hw => word_at hW (lw_self w hw).2 (ok.1 w (lw_all_tbl hw))
/-- a field's link: of the class's own kind, or of a nest mate -/
def ma_lk (own : String) (idx : Nat) (ref nm ds : String) : Prop := Cond.fieldLink own idx ref nm ds ∈ lw_all ∨ ∃ host, Cond.fieldLinkNest own idx ref nm ds host ∈ lw_tbl
def ma_same (ref : String) (f : String × String × String × Bool) : Prop := ref = f.1 ∨ Cond.sameField ref f.1 f.2.1 f.2.2.1 ∈ lw_all
theorem ma_same.at {ref : String} {f : String × String × String × Bool} (hs : ma_same ref f) {s : State} {args : Array Value} (hts : ∀ w ∈ lw_all, w.before args s = true) : ∀ x, s.fieldFound? f.1 f.2.1 f.2.2.1 = some x → s.fieldFound? ref f.2.1 f.2.2.1 = some x := by
  intro x hx
  rcases hs with e | hs
  · rw [e]; exact hx
  · exact u_same (hts _ hs) x hx
theorem ma_nest {G : ma_G} (ok : ma_ok G) {s : State} (hW : G.2.1.WarmedH s.vm) (args : Array Value) {own : String} {idx : Nat} {ref nm ds host : String} (h : Cond.fieldLinkNest own idx ref nm ds host ∈ lw_tbl) : (Cond.fieldLinkNest own idx ref nm ds host).before args s = true := va_Nw.use rfl (va_Nw.warmF hW (va_Nw.of rfl (ok.1 _ h)))
theorem ma_nestM {G : ma_G} (ok : ma_ok G) {s : State} (hW : G.2.1.WarmedH s.vm) (args : Array Value) {own : String} {idx : Nat} {x : MethodName} {host : String} (h : Cond.methodLinkNest own idx x host ∈ lw_tbl) : (Cond.methodLinkNest own idx x host).before args s = true := va_Nw.use rfl (va_Nw.warmM hW (va_Nw.of rfl (ok.1 _ h)))
section
variable {G : ma_G} {y : ma_M} {d pc : Nat} {al : List (Option ma_V)} {st : List ma_V} {h : ah_T} {Q : Option ma_V → ah_T → Prop} {E : Nat → ah_T → Prop}
theorem mx_get (ci k : Nat) {C : String} {T : u_T} {N idx a : Nat} {ref : String} {v : ma_V} (hc : ma_cl[ci]? = some (C, T, N)) (hk : k < N) (hq : ma_lk y.1.cls idx ref (T k).2.1 (T k).2.2.1) (hs : ma_same ref (T k)) (hd : decode y.2.1 pc = .ok (.getfield idx, 3)) (hv : ah_val (ma_fty ci k) h a k = v) (hkd : ah_kd h a = ci + 1) (K : MX G y d (pc + 3) al (v :: st) h Q E) : MX G y d pc al (rv a :: st) h Q E := by
  intro p e R s m args below meth c ok cx H locs cells slots ls nw hl
  have hK := K p e R s m args below meth c ok cx H locs cells slots ls nw hl
  obtain ⟨hx, hb, hml, hr, hlk, hown, hhd, hW, hfr, hlo, hnm⟩ := cx
  have hts := ma_wd ok hW args
  obtain ⟨ha0, hba, cell, q1, q2, q3, q4⟩ := nw.1.obj hkd hc
  obtain ⟨hS, hfc, kC, hkC, hkind⟩ := (ok.2.1.moved hW.alike).1 ci _ hc
  obtain ⟨cf, kf, fi, f, hi, hsl⟩ := hS k hk
  have hst := (u_facts hfc hkC (u_lays hts (ma_cl_in ci _ hc) hk) hi).1
  have hslot : cell.slots[f.slot]? = some (ma_v v) := by
    rw [hsl, q4 k hk]
    show some (ma_v (ah_val (ma_fty ci k) h a k)) = _
    rw [hv]
  show W p G.1 e R s m args below meth c H locs cells slots _ (F0 m pc ls (ma_rf a :: st.map ma_v))
  rw [ma_rf_pos ha0]
  rcases hq with hq | ⟨host, hq⟩
  · exact W.getf hx hb hown (hts _ hq) (hs.at hts _ hi) hst q1 (by rw [q3]; exact fun h => by cases h) hslot rfl rfl hd hK
  · exact va_Wgetf hx hb hown (ma_nest ok hW args hq) (hs.at hts _ hi) hst q1 (by rw [q3]; exact fun h => by cases h) hslot rfl rfl hd hK
theorem ma_set {ci : Nat} {r : vw_C} (hc : ma_cl[ci]? = some r) {s : State} {args : Array Value} (hts : ∀ w ∈ lw_all, w.before args s = true) {D : va_G} {tys : List (ClassId × FieldType)} (hK : va_K D ma_cl tys s) : ∀ x y, x < r.2.2 → y < r.2.2 → x ≠ y → (D.2 ci) x ≠ (D.2 ci) y :=
  va_apart (C := r.1) (T := r.2.1) (N := r.2.2) (own := "") hts (ma_cl_in ci r hc) (ma_fty ci) (ma_cl_ty ci r hc) (ma_cl_nm ci r hc) hK hc
/-- a store into a field: h' is h with v there -/
theorem mx_putG (ci k : Nat) {C : String} {T : u_T} {N idx a : Nat} {ref : String} {v : ma_V} {h' : ah_T} (hc : ma_cl[ci]? = some (C, T, N)) (hk : k < N) (hq : ma_lk y.1.cls idx ref (T k).2.1 (T k).2.2.1) (hs : ma_same ref (T k)) (hd : decode y.2.1 pc = .ok (.putfield idx, 3))
    (hfin : (T k).2.2.2 = false ∨ ((T k).2.2.2 = true ∧ y.1.name = "<init>" ∧ (T k).1 = y.1.cls ∧ Cond.fieldLink y.1.cls idx ref (T k).2.1 (T k).2.2.1 ∈ lw_all)) (hn : narrow (ma_fty ci k) (ma_v v) = ma_v v) (hf : fits (ma_fty ci k) (ma_v v) = true)
    (e0 : h'.1 = h.1) (eo : ∀ b, b ≠ a → ah_eq h h' b) (ek : ah_kd h' a = ah_kd h a) (el : ah_ln h' a = ah_ln h a) (hext : ah_ext h h') (ev : ah_val (ma_fty ci k) h' a k = v) (ej : ∀ j, j ≠ k → ah_val (ma_fty ci j) h' a j = ah_val (ma_fty ci j) h a j)
    (hkd : ah_kd h a = ci + 1) (K : MX G y d (pc + 3) al st h' Q E) : MX G y d pc al (v :: rv a :: st) h Q E := by
  intro p e R s m args below meth c ok cx H locs cells slots ls nw hl
  have hK := fun (H' : Heap) (l : Loc) (hl1 : l.base = a - 1) (hb : G.2.1.heap.size ≤ a - 1) (hrel : ma_rel G h' H') => ma_Wmono (K p e R s m args below meth c ok cx H' (locs ++ [l]) cells slots ls ⟨hrel, fun q hq => by
    rcases List.mem_append.mp hq with hq | hq
    · exact nw.2.1 q hq
    · rw [List.mem_singleton.mp hq, hl1]; exact hb, by show cells + h'.1.2.1 ≤ _; rw [e0]; exact nw.2.2.1, by show slots + h'.1.2.2 ≤ _; rw [e0]; exact nw.2.2.2⟩ hl) (fun t => ma_end_ext hext)
  obtain ⟨hx, hb, hml, hr, hlk, hown, hhd, hW, hfr, hlo, hnm⟩ := cx
  have hts := ma_wd ok hW args
  have hKK := ok.2.1.moved hW.alike
  have hap := ma_set hc hts hKK
  obtain ⟨ha0, hba, cell, q1, q2, q3, q4⟩ := nw.1.obj hkd hc
  obtain ⟨hS, hfc, kC, hkC, hkind⟩ := hKK.1 ci _ hc
  obtain ⟨cf, kf, fi, f, hi, hsl⟩ := hS k hk
  have hst := (u_facts hfc hkC (u_lays hts (ma_cl_in ci _ hc) hk) hi).1
  have hdd := ma_cl_ty ci _ hc k hk
  have hlay := hts _ (ma_cl_in ci _ hc _ (u_in_lay hk))
  have hend : ∀ H' : Heap, H'[a - 1]? = some (cell.setSlot f.slot (ma_v v)) → H'.size = H.size → (∀ q : Nat, q ≠ a - 1 → H'[q]? = H[q]?) → ma_rel G h' H' := by
    intro H' e1 e2 e3
    refine nw.1.upd e2 e3 hba ha0 (by show h'.1.1 = h.1.1; rw [e0]) eo (Or.inr ⟨hba, Or.inl ⟨ci, _, ek.trans hkd, hc, ?_⟩⟩)
    rw [hsl] at e1
    refine t_OB.to (V := updV (fun j => ma_v (ah_val (ma_fty ci j) h a j)) k (ma_v v)) ⟨_, e1, q2, q3, t_set q4 hap hk (ma_v v)⟩ (fun j _ => ?_)
    by_cases hj : j = k
    · rw [hj]; simp [updV, ev]
    · simp [updV, hj, ej j hj]
  show W p G.1 e R s m args below meth c H locs cells slots _ (F0 m pc ls (ma_v v :: ma_rf a :: st.map ma_v))
  rw [ma_rf_pos ha0]
  rcases hfin with hfin | ⟨hfin, hin, hdecl, hq0⟩
  · unfold u_lay at hlay
    rw [if_neg (by rw [hfin]; decide)] at hlay
    have h6 := u_store hfc hkC hkind hlay hi hdd hn hf
    rcases hq with hq | ⟨host, hq⟩
    · exact W.putK hx hb (f := f) ⟨hown, hts _ hq, ⟨_, _, _, hs.at hts _ hi⟩, hst⟩ (by rw [q2]; exact h6) q1 q3 (by rw [hsl]; exact k2_hasslot (q4 k hk)) rfl rfl hd fun H' e1 e2 e3 => hK H' _ rfl hba (hend H' e1 e2 e3)
    · exact va_WputK hx hb (f := f) hown (ma_nest ok hW args hq) (hs.at hts _ hi) hst (by rw [q2]; exact h6) q1 q3 (by rw [hsl]; exact k2_hasslot (q4 k hk)) rfl rfl hd fun H' e1 e2 e3 => hK H' _ rfl hba (hend H' e1 e2 e3)
  · unfold u_lay at hlay
    rw [if_pos hfin] at hlay
    have hcf : m.cls = cf := by
      obtain ⟨_, _, c', _, _, _, -, -, hf', -, -, -, hown2, -⟩ := Cond.laysFinal_spec hlay
      have e1 : c' = cf := by have := hi.symm.trans hf'; simp at this; exact this.1.symm
      rw [hdecl] at hown2
      rw [← e1]; exact Option.some.inj (hown.symm.trans hown2)
    have h6 := u_fits hfc hkC hkind (Or.inr hlay) hi hdd hn hf
    intro T hT X
    have hin2 : meth.name = "<init>" := (name_of_methodNamed hnm X.method).1.trans hin
    have hWk : W p G.1 e R s m args below meth c H locs cells slots (ma_end G R s below h Q E) (F0 m pc ls (ma_v v :: .ref (a - 1) :: st.map ma_v)) := W.putFinK hx hb hown (hts _ hq0) (hs.at hts _ hi) hst hcf hin2 (by rw [q2]; exact h6) q1 q3 (by rw [hsl]; exact k2_hasslot (q4 k hk)) rfl rfl hd (fun H' e1 e2 e3 => hK H' _ rfl hba (hend H' e1 e2 e3))
    exact hWk T hT X
end

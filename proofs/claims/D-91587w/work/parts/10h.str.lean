/-! ===== String constants, statics of the JDK ===== -/
/-- where the text i lies, and its bytes -/
def ma_lit (G : ma_G) (i : Nat) : Nat := G.2.2.2.2.2.1 i + 1
def ma_lby (G : ma_G) (i : Nat) : Nat := G.2.2.2.2.2.2 i + 1
def ma_len (i : Nat) : Nat := ma_sl.getD i 0
def ma_byt (i j : Nat) : Int32 := (ma_sb.getD i []).getD j 0
section
variable {G : ma_G} {y : ma_M} {d pc : Nat} {al : List (Option ma_V)} {st : List ma_V} {h : ah_T} {Q : Option ma_V → ah_T → Prop} {E : Nat → ah_T → Prop}
theorem ma_old {H : Heap} (r0 : ma_rel G h H) : ∀ a : Nat, a < G.2.1.heap.size → ¬ (fun q => G.2.1.heap.size ≤ q) a → H[a]? = G.2.1.heap[a]? := fun a ha _ => r0.2.2.1 a ha
theorem mx_ldcS {i idx : Nat} (hy : y.1.cls = "PrairiePool$Reader") (hi : (i = 0 ∧ idx = 86) ∨ (i = 1 ∧ idx = 111)) (hd : decode y.2.1 pc = .ok (.ldc idx, 2)) (K : MX G y d (pc + 2) al (rv (ma_lit G i) :: st) h Q E) : MX G y d pc al st h Q E := by
  intro p e R s m args below meth c ok cx H locs cells slots ls nw hl
  have hW := cx.2.2.2.2.2.2.2.1
  have hown := cx.2.2.2.2.2.1
  have hK := K p e R s m args below meth c ok cx H locs cells slots ls nw hl
  rcases hi with ⟨rfl, rfl⟩ | ⟨rfl, rfl⟩
  · exact va_ldcS cx.1 cx.2.1 (by rw [← hy]; exact hown) (ok.2.2.1.2.2.1.warm hW) hd hK
  · exact va_ldcS cx.1 cx.2.1 (by rw [← hy]; exact hown) (ok.2.2.1.2.2.2.1.warm hW) hd hK
theorem mx_gSv {i idx : Nat} (hi : i < 2) (hq : Cond.fieldLink y.1.cls idx "java/lang/String" "value" "[B" ∈ lw_all) (hd : decode y.2.1 pc = .ok (.getfield idx, 3)) (K : MX G y d (pc + 3) al (rv (ma_lby G i) :: st) h Q E) : MX G y d pc al (rv (ma_lit G i) :: st) h Q E := by
  intro p e R s m args below meth c ok cx H locs cells slots ls nw hl
  have hW := cx.2.2.2.2.2.2.2.1
  obtain ⟨cf, k, fi, f, cell, h1, h2, h3, h4, h5, h6⟩ := (va_OF.moved hW.alike (ok.2.2.1.2.1.1 i hi).2.2.1).kept (ma_old nw.1)
  exact W.getf cx.1 cx.2.1 cx.2.2.2.2.2.1 (ma_wd ok hW args _ hq) h1 h2 h3 h4 h5 rfl rfl hd (K p e R s m args below meth c ok cx H locs cells slots ls nw hl)
theorem mx_gSc {i idx : Nat} (hi : i < 2) (hq : Cond.fieldLink y.1.cls idx "java/lang/String" "coder" "B" ∈ lw_all) (hd : decode y.2.1 pc = .ok (.getfield idx, 3)) (K : MX G y d (pc + 3) al (iv 0 :: st) h Q E) : MX G y d pc al (rv (ma_lit G i) :: st) h Q E := by
  intro p e R s m args below meth c ok cx H locs cells slots ls nw hl
  have hW := cx.2.2.2.2.2.2.2.1
  obtain ⟨cf, k, fi, f, cell, h1, h2, h3, h4, h5, h6⟩ := (va_OF.moved hW.alike (ok.2.2.1.2.1.1 i hi).2.1).kept (ma_old nw.1)
  exact W.getf cx.1 cx.2.1 cx.2.2.2.2.2.1 (ma_wd ok hW args _ hq) h1 h2 h3 h4 h5 rfl rfl hd (K p e R s m args below meth c ok cx H locs cells slots ls nw hl)
theorem mx_lenS {i : Nat} (hi : i < 2) (hd : decode y.2.1 pc = .ok (.arraylength, 1)) (K : MX G y d (pc + 1) al (iv (nI (ma_len i)) :: st) h Q E) : MX G y d pc al (rv (ma_lby G i) :: st) h Q E := by
  intro p e R s m args below meth c ok cx H locs cells slots ls nw hl
  have hW := cx.2.2.2.2.2.2.2.1
  obtain ⟨cell, h1, h2, h3, h4, h5, h6, h7⟩ := (va_T.moved hW.alike (ok.2.2.1.2.1.1 i hi).2.2.2).kept (ma_old nw.1)
  exact W.alen cx.1 cx.2.1 h1 h2 h5 rfl rfl hd (K p e R s m args below meth c ok cx H locs cells slots ls nw hl)
theorem mx_baldS {i : Nat} {x : Int32} (hi : i < 2) (hin : vp_in x (ma_len i)) (hd : decode y.2.1 pc = .ok (.baload, 1)) (K : MX G y d (pc + 1) al (iv (ma_byt i x.toNatClampNeg) :: st) h Q E) : MX G y d pc al (iv x :: rv (ma_lby G i) :: st) h Q E := by
  intro p e R s m args below meth c ok cx H locs cells slots ls nw hl
  have hW := cx.2.2.2.2.2.2.2.1
  obtain ⟨cell, h1, h2, h3, h4, h5, h6, h7⟩ := (va_T.moved hW.alike (ok.2.2.1.2.1.1 i hi).2.2.2).kept (ma_old nw.1)
  have hlt : x.toNatClampNeg < ma_len i := vp_lt hin
  have h4' : ma_len i ≤ cell.slots.size := h4
  exact W.bald cx.1 cx.2.1 h1 h2 h3 (fun q => hin (q.imp_right fun q => Nat.le_trans h4' q)) (h6 _ hlt) rfl rfl hd (K p e R s m args below meth c ok cx H locs cells slots ls nw hl)
theorem ma_gets {C n ds ref : String} {v : Value} {idx : Nat} {p : Program} {e : Env} {R : Room} {s : State} {m : MethodId} {args : Array Value} {below : List Frame} {meth : Method} {c : Code} {H : Heap} {locs : List Loc} {cells slots : Nat} {QQ : State → Prop} {ls : Array Slot} {stk : List Value} (hZ : va_Z C n ds v (fun q => G.2.1.heap.size ≤ q) G.2.1 G.2.1.heap) (ok : ma_ok G) (cx : ma_ctx G y d p R s m meth c) (nw : ma_now G R h H locs cells slots) (hq : Cond.fieldLink y.1.cls idx ref n ds ∈ lw_all) (hr : ref = C) (hd : decode y.2.1 pc = .ok (.getstatic idx, 3)) (K : W p G.1 e R s m args below meth c H locs cells slots QQ (F0 m (pc + 3) ls (v :: stk))) : W p G.1 e R s m args below meth c H locs cells slots QQ (F0 m pc ls stk) := by
  subst hr
  have hW := cx.2.2.2.2.2.2.2.1
  obtain ⟨cf, kf, fi, f, a, cell, h1, h2, h3, h4, h5, h6, h7, h8⟩ := (va_Z.moved hW.alike hZ).kept (ma_old nw.1)
  exact W.gets cx.1 cx.2.1 cx.2.2.2.2.2.1 (ma_wd ok hW args _ hq) h1 h2 h3 h4 h5 (fun e => by rw [e] at h6; cases h6) h7 rfl hd K
/-- a static whose number is given -/
theorem mx_getsI {C n ds ref : String} {v : Int32} {idx : Nat} (hl : Cond.laysStatic C n ds ∈ lw_tbl) (hini : Cond.initialized C ∈ lw_all) (hv : Cond.eq (.static C n ds) (.int v) ∈ flatC (Cond.and given_1 narrow_1)) (hq : Cond.fieldLink y.1.cls idx ref n ds ∈ lw_all) (hr : ref = C) (hd : decode y.2.1 pc = .ok (.getstatic idx, 3)) (K : MX G y d (pc + 3) al (iv v :: st) h Q E) : MX G y d pc al st h Q E := by
  intro p e R s m args below meth c ok cx H locs cells slots ls nw hl'
  exact ma_gets (va_Zof (ok.1 _ hl) (ok.1 _ (lw_all_tbl hini)) (va_eqi (flat_of_before _ ok.2.2.2 _ hv)) (fun a ha q => absurd ha (Nat.not_lt.mpr q))) ok cx nw hq hr hd (K p e R s m args below meth c ok cx H locs cells slots ls nw hl')
/-- a static reference of which nothing is known -/
theorem mx_getsR {C n ds ref : String} {idx : Nat} (hl : Cond.laysStatic C n ds ∈ lw_tbl) (hini : Cond.initialized C ∈ lw_all) (hv : Cond.isRef (.static C n ds) ∈ flatC (Cond.and given_1 narrow_1)) (hq : Cond.fieldLink y.1.cls idx ref n ds ∈ lw_all) (hr : ref = C) (hd : decode y.2.1 pc = .ok (.getstatic idx, 3)) (K : ∀ r : Nat, MX G y d (pc + 3) al (rv r :: st) h Q E) : MX G y d pc al st h Q E := by
  intro p e R s m args below meth c ok cx H locs cells slots ls nw hl'
  rcases va_Zqof (ok.1 _ hl) (ok.1 _ (lw_all_tbl hini)) (flat_of_before _ ok.2.2.2 _ hv) (fun a ha q => absurd ha (Nat.not_lt.mpr q) : ∀ a : Nat, a < G.2.1.heap.size → ¬ (fun q => G.2.1.heap.size ≤ q) a) with hZ | ⟨t, hZ⟩
  · exact ma_gets hZ ok cx nw hq hr hd (K 0 p e R s m args below meth c ok cx H locs cells slots ls nw hl')
  · exact ma_gets hZ ok cx nw hq hr hd (K (t + 1) p e R s m args below meth c ok cx H locs cells slots ls nw hl')
/-- a return of a byte or a char -/
theorem mx_nret {x : Int32} {ty : FieldType} (hr : y.2.2.2.1 = some ty) (hn : narrow ty (.int x) = .int x) (hd : decode y.2.1 pc = .ok (.ireturn, 1)) (K : Q (some (iv x)) h) : MX G y d pc al [iv x] h Q E :=
  fun p e R s m args below meth c ok cx H locs cells slots ls nw hl => ma_Wmono (W.zret cx.1 cx.2.1 (cx.2.2.2.1.trans hr) hn (fun t ht _ => ⟨rfl, ht⟩) nw.2.1 hd cx.2.2.2.2.1) (fun t hq => ma_ofMQ (some (iv x)) nw K hq)
theorem mx_nretK {y1 : ma_M} {d1 pc1 : Nat} {al1 : List (Option ma_V)} {st1 : List ma_V} {h0 : ah_T} {Q1 : Option ma_V → ah_T → Prop} {E1 : Nat → ah_T → Prop} {x : Int32} {ty : FieldType} (hr : y.2.2.2.1 = some ty) (hn : narrow ty (.int x) = .int x) (hd : decode y.2.1 pc = .ok (.ireturn, 1)) (K : MX G y1 d1 pc1 al1 (iv x :: st1) h Q1 E1) : MX G y d pc al [iv x] h (fun v h' => ah_ext h0 h' → MX G y1 d1 pc1 al1 (v.toList ++ st1) h' Q1 E1) E := mx_nret hr hn hd (fun _ => K)
theorem ma_bok : ∀ i, i < 2 → ∀ j, j < 70 → narrow .char (.int (ma_byt i j)) = .int (ma_byt i j) ∧ ((ma_byt i j &&& 255).toUInt32 % 65536).toInt32 = ma_byt i j := by decide +kernel
theorem ma_b0 {i j : Nat} (hi : i < 2) (hj : ¬ j < 70) : ma_byt i j = 0 := by
  unfold ma_byt
  have hl : (ma_sb.getD i []).length ≤ j := by
    rcases (show i = 0 ∨ i = 1 by omega) with rfl | rfl
    · exact Nat.le_trans (show (ma_sb.getD 0 []).length ≤ 70 by decide) (by omega)
    · exact Nat.le_trans (show (ma_sb.getD 1 []).length ≤ 70 by decide) (by omega)
  rw [List.getD_eq_getElem?_getD, List.getElem?_eq_none_iff.mpr hl]
  rfl
theorem ma_bn {i j : Nat} (hi : i < 2) : narrow .char (.int (ma_byt i j)) = .int (ma_byt i j) := by
  by_cases hj : j < 70
  · exact (ma_bok i hi j hj).1
  · rw [ma_b0 hi hj]; rfl
theorem ma_bc {i j : Nat} (hi : i < 2) : ((ma_byt i j &&& 255).toUInt32 % 65536).toInt32 = ma_byt i j := by
  by_cases hj : j < 70
  · exact (ma_bok i hi j hj).2
  · rw [ma_b0 hi hj]; decide
theorem st_compact : Cond.eq (.static "java/lang/String" "COMPACT_STRINGS" "Z") (.int 1) ∈ flatC (Cond.and given_1 narrow_1) := by decide +kernel
theorem st_unassigned_stack : Cond.isRef (.static "java/lang/Throwable" "UNASSIGNED_STACK" "[Ljava/lang/StackTraceElement;") ∈ flatC (Cond.and given_1 narrow_1) := by decide +kernel
theorem st_suppressed_sentinel : Cond.isRef (.static "java/lang/Throwable" "SUPPRESSED_SENTINEL" "Ljava/util/List;") ∈ flatC (Cond.and given_1 narrow_1) := by decide +kernel
theorem st_sioobe_formatter : Cond.isRef (.static "jdk/internal/util/Preconditions" "SIOOBE_FORMATTER" "Ljava/util/function/BiFunction;") ∈ flatC (Cond.and given_1 narrow_1) := by decide +kernel
theorem mx_callVS {i : Nat} {y' : ma_M} {vs st0 : List ma_V} {idx : Nat} {al' : List (Option ma_V)} (hi2 : i < 2) (hV : ma_vir y' "java/lang/String" vs.length) (hk : Cond.methodLink y.1.cls idx y'.1 ∈ lw_all) (hd : decode y.2.1 pc = .ok (.invokevirtual idx, 3)) (hst : vs.reverse ++ rv (ma_lit G i) :: st = st0) (hal : al_ent y'.2.2.1 (rv (ma_lit G i) :: vs) = al') (hle : (al_in (rv (ma_lit G i) :: vs)).length ≤ y'.2.2.1) (hw : 2 * st.length + y'.2.2.1 + 11 ≤ 300)
    (K : MX G y' d 0 al' [] h (fun v h' => ah_ext h h' → MX G y (d + 1) (pc + 3) al (v.toList ++ st) h' Q E) (fun x h' => ah_ext h h' → MT G y (d + 1) pc al x h' Q E)) : MX G y (d + 1) pc al st0 h Q E := by
  subst hst
  intro p e R s m args below meth c ok cx H locs cells slots ls nw hl TT hT X
  have cx0 := cx
  obtain ⟨hx, hb, hml, hr, hlk, hown, hhd, hW, hfr, hlo, hnm⟩ := cx
  obtain ⟨hcal, hi, hse, hmh, hnp⟩ := hV
  have hts := ma_wd ok hW args
  obtain ⟨cell, q1, q3, hcls, -⟩ := (va_O.moved hW.alike (ok.2.2.1.2.1.1 i hi2).1).kept (ma_old nw.1)
  have ha0 : ma_lit G i ≠ 0 := Nat.succ_ne_zero _
  obtain ⟨mk, methM, hnamed, hmethM, hstM, habM⟩ := Cond.instanceMethod_spec (hts _ hi)
  obtain ⟨methM', cM, e1, -, -, -, -, -, -, hsig⟩ := hcal.spec hts hnamed
  cases hmethM.symm.trans e1
  obtain ⟨c2, r2, m2, p1, p2, p3, p4, kP, hkP, hkPi⟩ := Cond.selects_spec (hts _ hse)
  cases hcls.symm.trans p1
  cases (State.methodFound?_of_named hnamed hmh).symm.trans p2
  cases hnamed.symm.trans p3
  have hselP : selectMethod e.platform s.vm cell.cls mk = .method mk := by rw [Launch.admits_selectMethod X.admits]; exact p4
  have hstack : (F0 m pc ls ((vs.reverse ++ rv (ma_lit G i) :: st).map ma_v)).stack = (vs.map ma_v).reverse ++ .ref (ma_lit G i - 1) :: st.map ma_v := ma_stk vs st _ ha0
  have hlen : (vs.map ma_v).length = methM.sig.parameters.length := by rw [List.length_map]; exact hnp.len hsig
  have hobj : ∀ z, cell.vm ≠ .statics z := fun z q => by rw [q] at q3; cases q3
  have harg : ((rv (ma_lit G i) :: vs).map ma_v).toArray = (Value.ref (ma_lit G i - 1) :: vs.map ma_v).toArray := by
    show (ma_rf (ma_lit G i) :: vs.map ma_v).toArray = _
    rw [ma_rf_pos ha0]
  obtain ⟨vm₁, X₁, hs1⟩ := X.invokevirtual hx hown (hts _ hk) hnamed hmethM hstM hkP hkPi hmh (a := ma_lit G i - 1) (cell := cell) (by rw [hT]; exact q1) hobj hselP hmethM habM hkP hkPi (g := F0 m pc ls ((vs.reverse ++ rv (ma_lit G i) :: st).map ma_v)) rfl hlen hstack (by rw [hb]; exact hd)
  obtain ⟨t, f1, f2⟩ := ma_enter (vs := rv (ma_lit G i) :: vs) hcal hal hle hw hd K ok cx0 nw hl (T := TT.setVm vm₁) hT X₁ hnamed
  exact ⟨t, hs1 t (by rw [← harg]; exact f1), f2⟩
end

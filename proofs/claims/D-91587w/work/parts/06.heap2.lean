/-! ===== stores into fields, arrays ===== -/
theorem ah_eq.wI {h : ah_T} {a k b : Nat} {v : Int32} (hb : b ≠ a) : ah_eq h (ah_wI h a k v) b := ⟨rfl, rfl, fun j => if_neg (fun q => hb q.1), fun _ => rfl, fun _ => rfl⟩
theorem ah_eq.wJ {h : ah_T} {a k b : Nat} {v : Int64} (hb : b ≠ a) : ah_eq h (ah_wJ h a k v) b := ⟨rfl, rfl, fun _ => rfl, fun j => if_neg (fun q => hb q.1), fun _ => rfl⟩
theorem ah_eq.wR {h : ah_T} {a k b : Nat} {v : Nat} (hb : b ≠ a) : ah_eq h (ah_wR h a k v) b := ⟨rfl, rfl, fun _ => rfl, fun _ => rfl, fun j => if_neg (fun q => hb q.1)⟩
theorem ah_val_wI {h : ah_T} {a k j : Nat} {v : Int32} (ty : FieldType) (hj : j ≠ k) : ah_val ty (ah_wI h a k v) a j = ah_val ty h a j := by
  have e : ah_I (ah_wI h a k v) a j = ah_I h a j := if_neg (fun q => hj q.2)
  unfold ah_val
  split
  · rfl
  · rfl
  · rfl
  · rw [e]
theorem ah_val_wJ {h : ah_T} {a k j : Nat} {v : Int64} (ty : FieldType) (hj : j ≠ k) : ah_val ty (ah_wJ h a k v) a j = ah_val ty h a j := by
  have e : ah_J (ah_wJ h a k v) a j = ah_J h a j := if_neg (fun q => hj q.2)
  unfold ah_val
  split
  · rw [e]
  · rfl
  · rfl
  · rfl
theorem ah_val_wR {h : ah_T} {a k j : Nat} {v : Nat} (ty : FieldType) (hj : j ≠ k) : ah_val ty (ah_wR h a k v) a j = ah_val ty h a j := by
  have e : ah_R (ah_wR h a k v) a j = ah_R h a j := if_neg (fun q => hj q.2)
  unfold ah_val
  split
  · rfl
  · rw [e]
  · rw [e]
  · rfl
theorem ah_I_same {h : ah_T} {a k : Nat} {v : Int32} : ah_I (ah_wI h a k v) a k = v := if_pos ⟨rfl, rfl⟩
theorem ah_J_same {h : ah_T} {a k : Nat} {v : Int64} : ah_J (ah_wJ h a k v) a k = v := if_pos ⟨rfl, rfl⟩
theorem ah_R_same {h : ah_T} {a k : Nat} {v : Nat} : ah_R (ah_wR h a k v) a k = v := if_pos ⟨rfl, rfl⟩
theorem ma_fits_obj (n : String) (a : Nat) : fits (.object n) (ma_rf a) = true := by cases a <;> rfl
theorem ma_fits_arr (t : FieldType) (a : Nat) : fits (.array t) (ma_rf a) = true := by cases a <;> rfl
theorem ma_nar_obj (n : String) (a : Nat) : narrow (.object n) (ma_rf a) = ma_rf a := by cases a <;> rfl
theorem ma_nar_arr (t : FieldType) (a : Nat) : narrow (.array t) (ma_rf a) = ma_rf a := by cases a <;> rfl
section
variable {G : ma_G} {y : ma_M} {d pc : Nat} {al : List (Option ma_V)} {st : List ma_V} {h : ah_T} {Q : Option ma_V → ah_T → Prop} {E : Nat → ah_T → Prop}
/-- may the field be written here -/
def ma_fin (y : ma_M) (idx : Nat) (ref : String) (f : String × String × String × Bool) : Prop := f.2.2.2 = false ∨ (f.2.2.2 = true ∧ y.1.name = "<init>" ∧ f.1 = y.1.cls ∧ Cond.fieldLink y.1.cls idx ref f.2.1 f.2.2.1 ∈ lw_all)
theorem mx_putI (ci k : Nat) {C : String} {T : u_T} {N idx a : Nat} {ref : String} {x : Int32} (hc : ma_cl[ci]? = some (C, T, N)) (hk : k < N) (hq : ma_lk y.1.cls idx ref (T k).2.1 (T k).2.2.1) (hs : ma_same ref (T k)) (hd : decode y.2.1 pc = .ok (.putfield idx, 3)) (hfin : ma_fin y idx ref (T k)) (hty : ma_fty ci k = .int)  (hkd : ah_kd h a = ci + 1) (K : MX G y d (pc + 3) al st (ah_wI h a k x) Q E) : MX G y d pc al (iv x :: rv a :: st) h Q E :=
  mx_putG (h' := ah_wI h a k x) ci k hc hk hq hs hd hfin (by rw [hty]; exact rfl) (by rw [hty]; exact rfl) rfl (fun b hb => ah_eq.wI hb) rfl rfl ah_ext.wI (by rw [hty]; exact congrArg iv ah_I_same) (fun j hj => ah_val_wI _ hj) hkd K
theorem mx_putJ (ci k : Nat) {C : String} {T : u_T} {N idx a : Nat} {ref : String} {x : Int64} (hc : ma_cl[ci]? = some (C, T, N)) (hk : k < N) (hq : ma_lk y.1.cls idx ref (T k).2.1 (T k).2.2.1) (hs : ma_same ref (T k)) (hd : decode y.2.1 pc = .ok (.putfield idx, 3)) (hfin : ma_fin y idx ref (T k)) (hty : ma_fty ci k = .long)  (hkd : ah_kd h a = ci + 1) (K : MX G y d (pc + 3) al st (ah_wJ h a k x) Q E) : MX G y d pc al (jv x :: rv a :: st) h Q E :=
  mx_putG (h' := ah_wJ h a k x) ci k hc hk hq hs hd hfin (by rw [hty]; exact rfl) (by rw [hty]; exact rfl) rfl (fun b hb => ah_eq.wJ hb) rfl rfl ah_ext.wJ (by rw [hty]; exact congrArg jv ah_J_same) (fun j hj => ah_val_wJ _ hj) hkd K
theorem mx_putO (ci k : Nat) {C : String} {T : u_T} {N idx a : Nat} {ref : String} {x : Nat} {n : String} (hc : ma_cl[ci]? = some (C, T, N)) (hk : k < N) (hq : ma_lk y.1.cls idx ref (T k).2.1 (T k).2.2.1) (hs : ma_same ref (T k)) (hd : decode y.2.1 pc = .ok (.putfield idx, 3)) (hfin : ma_fin y idx ref (T k)) (hty : ma_fty ci k = .object n)  (hm : ma_mut (ci + 1) k = true ∨ ah_R h a k = 0) (hkd : ah_kd h a = ci + 1) (K : MX G y d (pc + 3) al st (ah_wR h a k x) Q E) : MX G y d pc al (rv x :: rv a :: st) h Q E :=
  mx_putG (h' := ah_wR h a k x) ci k hc hk hq hs hd hfin (by rw [hty]; exact ma_nar_obj n x) (by rw [hty]; exact ma_fits_obj n x) rfl (fun b hb => ah_eq.wR hb) rfl rfl (ah_ext.wR (by rw [hkd]; exact hm.elim Or.inl (fun q => Or.inr (Or.inl q)))) (by rw [hty]; exact congrArg rv ah_R_same) (fun j hj => ah_val_wR _ hj) hkd K
theorem mx_putA (ci k : Nat) {C : String} {T : u_T} {N idx a : Nat} {ref : String} {x : Nat} {t : FieldType} (hc : ma_cl[ci]? = some (C, T, N)) (hk : k < N) (hq : ma_lk y.1.cls idx ref (T k).2.1 (T k).2.2.1) (hs : ma_same ref (T k)) (hd : decode y.2.1 pc = .ok (.putfield idx, 3)) (hfin : ma_fin y idx ref (T k)) (hty : ma_fty ci k = .array t)  (hm : ma_mut (ci + 1) k = true ∨ ah_R h a k = 0) (hkd : ah_kd h a = ci + 1) (K : MX G y d (pc + 3) al st (ah_wR h a k x) Q E) : MX G y d pc al (rv x :: rv a :: st) h Q E :=
  mx_putG (h' := ah_wR h a k x) ci k hc hk hq hs hd hfin (by rw [hty]; exact ma_nar_arr t x) (by rw [hty]; exact ma_fits_arr t x) rfl (fun b hb => ah_eq.wR hb) rfl rfl (ah_ext.wR (by rw [hkd]; exact hm.elim Or.inl (fun q => Or.inr (Or.inl q)))) (by rw [hty]; exact congrArg rv ah_R_same) (fun j hj => ah_val_wR _ hj) hkd K
theorem mx_putZ (ci k : Nat) {C : String} {T : u_T} {N idx a : Nat} {ref : String} {x : Int32} (hc : ma_cl[ci]? = some (C, T, N)) (hk : k < N) (hq : ma_lk y.1.cls idx ref (T k).2.1 (T k).2.2.1) (hs : ma_same ref (T k)) (hd : decode y.2.1 pc = .ok (.putfield idx, 3)) (hfin : ma_fin y idx ref (T k)) (hty : ma_fty ci k = .boolean) (hx : x = 0 ∨ x = 1) (hkd : ah_kd h a = ci + 1) (K : MX G y d (pc + 3) al st (ah_wI h a k x) Q E) : MX G y d pc al (iv x :: rv a :: st) h Q E :=
  mx_putG (h' := ah_wI h a k x) ci k hc hk hq hs hd hfin (by rw [hty]; exact (by rcases hx with rfl | rfl <;> decide)) (by rw [hty]; exact (by rcases hx with rfl | rfl <;> decide)) rfl (fun b hb => ah_eq.wI hb) rfl rfl ah_ext.wI (by rw [hty]; exact congrArg iv ah_I_same) (fun j hj => ah_val_wI _ hj) hkd K
/-! ===== array loads ===== -/
theorem ma_isArr {s : State} (ok : ma_ok G) (hW : G.2.1.WarmedH s.vm) {t : Nat} (ht : t < 16) (n : Nat) (z : Nat → Value) : s.isArrayOf (arrV (G.2.2.2.2.1 t) n z) (ma_aty t) := ((ok.2.1.moved hW.alike).2 t _ (ma_tys_at G ht)).1 n z
theorem mx_iald {a : Nat} {i : Int32} (hd : decode y.2.1 pc = .ok (.iaload, 1)) (hkd : ah_kd h a = 40) (hin : vp_in i (ah_ln h a)) (K : MX G y d (pc + 1) al (iv (ah_I h a i.toNatClampNeg) :: st) h Q E) : MX G y d pc al (iv i :: rv a :: st) h Q E := by
  intro p e R s m args below meth c ok cx H locs cells slots ls nw hl
  obtain ⟨ha0, hba, hcell⟩ := nw.1.arr (t := 0) hkd (by decide)
  have hlt : i.toNatClampNeg < ah_ln h a := Nat.not_le.mp fun q => hin (Or.inr q)
  show W p G.1 e R s m args below meth c H locs cells slots _ (F0 m pc ls (.int i :: ma_rf a :: st.map ma_v))
  rw [ma_rf_pos ha0]
  exact W.iald cx.1 cx.2.1 hcell (ma_isArr ok cx.2.2.2.2.2.2.2.1 (t := 0) (by decide) _ _) (fun q => by cases q) (by show ¬ (i < 0 ∨ (arrV _ _ _).slots.size ≤ _); rw [arrV_size]; exact hin) (by show (arrV _ _ _).slots[_]? = _; rw [arrV_read _ _ hlt]; rfl) rfl rfl hd (K p e R s m args below meth c ok cx H locs cells slots ls nw hl)
theorem mx_lald {a : Nat} {i : Int32} (hd : decode y.2.1 pc = .ok (.laload, 1)) (hkd : ah_kd h a = 41) (hin : vp_in i (ah_ln h a)) (K : MX G y d (pc + 1) al (jv (ah_J h a i.toNatClampNeg) :: st) h Q E) : MX G y d pc al (iv i :: rv a :: st) h Q E := by
  intro p e R s m args below meth c ok cx H locs cells slots ls nw hl
  obtain ⟨ha0, hba, hcell⟩ := nw.1.arr (t := 1) hkd (by decide)
  have hlt : i.toNatClampNeg < ah_ln h a := Nat.not_le.mp fun q => hin (Or.inr q)
  show W p G.1 e R s m args below meth c H locs cells slots _ (F0 m pc ls (.int i :: ma_rf a :: st.map ma_v))
  rw [ma_rf_pos ha0]
  exact W.lald cx.1 cx.2.1 hcell (ma_isArr ok cx.2.2.2.2.2.2.2.1 (t := 1) (by decide) _ _) (fun q => by cases q) (by show ¬ (i < 0 ∨ (arrV _ _ _).slots.size ≤ _); rw [arrV_size]; exact hin) (by show (arrV _ _ _).slots[_]? = _; rw [arrV_read _ _ hlt]; rfl) rfl rfl hd (K p e R s m args below meth c ok cx H locs cells slots ls nw hl)
theorem mx_bald {a : Nat} {i : Int32} (hd : decode y.2.1 pc = .ok (.baload, 1)) (hkd : ah_kd h a = 42) (hin : vp_in i (ah_ln h a)) (K : MX G y d (pc + 1) al (iv (ah_I h a i.toNatClampNeg) :: st) h Q E) : MX G y d pc al (iv i :: rv a :: st) h Q E := by
  intro p e R s m args below meth c ok cx H locs cells slots ls nw hl
  obtain ⟨ha0, hba, hcell⟩ := nw.1.arr (t := 2) hkd (by decide)
  have hlt : i.toNatClampNeg < ah_ln h a := Nat.not_le.mp fun q => hin (Or.inr q)
  show W p G.1 e R s m args below meth c H locs cells slots _ (F0 m pc ls (.int i :: ma_rf a :: st.map ma_v))
  rw [ma_rf_pos ha0]
  exact W.bald cx.1 cx.2.1 hcell (ma_isArr ok cx.2.2.2.2.2.2.2.1 (t := 2) (by decide) _ _) (fun q => by cases q) (by show ¬ (i < 0 ∨ (arrV _ _ _).slots.size ≤ _); rw [arrV_size]; exact hin) (by show (arrV _ _ _).slots[_]? = _; rw [arrV_read _ _ hlt]; rfl) rfl rfl hd (K p e R s m args below meth c ok cx H locs cells slots ls nw hl)
theorem mx_sald {a : Nat} {i : Int32} (hd : decode y.2.1 pc = .ok (.saload, 1)) (hkd : ah_kd h a = 43) (hin : vp_in i (ah_ln h a)) (K : MX G y d (pc + 1) al (iv (ah_I h a i.toNatClampNeg) :: st) h Q E) : MX G y d pc al (iv i :: rv a :: st) h Q E := by
  intro p e R s m args below meth c ok cx H locs cells slots ls nw hl
  obtain ⟨ha0, hba, hcell⟩ := nw.1.arr (t := 3) hkd (by decide)
  have hlt : i.toNatClampNeg < ah_ln h a := Nat.not_le.mp fun q => hin (Or.inr q)
  show W p G.1 e R s m args below meth c H locs cells slots _ (F0 m pc ls (.int i :: ma_rf a :: st.map ma_v))
  rw [ma_rf_pos ha0]
  exact W.sald cx.1 cx.2.1 hcell (ma_isArr ok cx.2.2.2.2.2.2.2.1 (t := 3) (by decide) _ _) (fun q => by cases q) (by show ¬ (i < 0 ∨ (arrV _ _ _).slots.size ≤ _); rw [arrV_size]; exact hin) (by show (arrV _ _ _).slots[_]? = _; rw [arrV_read _ _ hlt]; rfl) rfl rfl hd (K p e R s m args below meth c ok cx H locs cells slots ls nw hl)
theorem mx_zald {a : Nat} {i : Int32} (hd : decode y.2.1 pc = .ok (.baload, 1)) (hkd : ah_kd h a = 44) (hin : vp_in i (ah_ln h a)) (K : MX G y d (pc + 1) al (iv (ah_I h a i.toNatClampNeg) :: st) h Q E) : MX G y d pc al (iv i :: rv a :: st) h Q E := by
  intro p e R s m args below meth c ok cx H locs cells slots ls nw hl
  obtain ⟨ha0, hba, hcell⟩ := nw.1.arr (t := 4) hkd (by decide)
  have hlt : i.toNatClampNeg < ah_ln h a := Nat.not_le.mp fun q => hin (Or.inr q)
  show W p G.1 e R s m args below meth c H locs cells slots _ (F0 m pc ls (.int i :: ma_rf a :: st.map ma_v))
  rw [ma_rf_pos ha0]
  exact W.zald cx.1 cx.2.1 hcell (ma_isArr ok cx.2.2.2.2.2.2.2.1 (t := 4) (by decide) _ _) (fun q => by cases q) (by show ¬ (i < 0 ∨ (arrV _ _ _).slots.size ≤ _); rw [arrV_size]; exact hin) (by show (arrV _ _ _).slots[_]? = _; rw [arrV_read _ _ hlt]; rfl) rfl rfl hd (K p e R s m args below meth c ok cx H locs cells slots ls nw hl)
theorem mx_aald (t : Nat) {a : Nat} {i : Int32} (hd : decode y.2.1 pc = .ok (.aaload, 1)) (ht : 5 ≤ t ∧ t < 16) (hkd : ah_kd h a = 40 + t) (hin : vp_in i (ah_ln h a)) (K : MX G y d (pc + 1) al (rv (ah_R h a i.toNatClampNeg) :: st) h Q E) : MX G y d pc al (iv i :: rv a :: st) h Q E := by
  intro p e R s m args below meth c ok cx H locs cells slots ls nw hl
  obtain ⟨ha0, hba, hcell⟩ := nw.1.arr (t := t) hkd ht.2
  have hlt : i.toNatClampNeg < ah_ln h a := Nat.not_le.mp fun q => hin (Or.inr q)
  show W p G.1 e R s m args below meth c H locs cells slots _ (F0 m pc ls (.int i :: ma_rf a :: st.map ma_v))
  rw [ma_rf_pos ha0]
  have hty : (ma_aty t).isReference = true ∧ ∀ j, ah_val (ma_aty t) h a j = rv (ah_R h a j) := by
    obtain ⟨h1, h2⟩ := ht
    rcases (show t = 5 ∨ t = 6 ∨ t = 7 ∨ t = 8 ∨ t = 9 ∨ t = 10 ∨ t = 11 ∨ t = 12 ∨ t = 13 ∨ t = 14 ∨ t = 15 by omega) with rfl | rfl | rfl | rfl | rfl | rfl | rfl | rfl | rfl | rfl | rfl <;> exact ⟨rfl, fun _ => rfl⟩
  exact W.aald (v := ma_rf (ah_R h a i.toNatClampNeg)) cx.1 cx.2.1 hcell (ma_isArr ok cx.2.2.2.2.2.2.2.1 (t := t) ht.2 _ _) hty.1 (fun q => by cases q) (by show ¬ (i < 0 ∨ (arrV _ _ _).slots.size ≤ _); rw [arrV_size]; exact hin) (by show (arrV _ _ _).slots[_]? = _; rw [arrV_read _ _ hlt, hty.2]; rfl) rfl rfl hd (K p e R s m args below meth c ok cx H locs cells slots ls nw hl)
/-- the law's script -/
theorem mx_xald {a : Nat} {i : Int32} (hd : decode y.2.1 pc = .ok (.iaload, 1)) (hkd : ah_kd h a = 39) (hin : vp_in i (ah_ln h a)) (K : MX G y d (pc + 1) al (iv (ah_I h a i.toNatClampNeg) :: st) h Q E) : MX G y d pc al (iv i :: rv a :: st) h Q E := by
  intro p e R s m args below meth c ok cx H locs cells slots ls nw hl
  obtain ⟨ha0, cell, hcell, h3, h4, h5, h6⟩ := nw.1.scr hkd
  have hlt : i.toNatClampNeg < ah_ln h a := Nat.not_le.mp fun q => hin (Or.inr q)
  show W p G.1 e R s m args below meth c H locs cells slots _ (F0 m pc ls (.int i :: ma_rf a :: st.map ma_v))
  rw [ma_rf_pos ha0]
  exact W.iald cx.1 cx.2.1 hcell (State.isArrayOf_alike cx.2.2.2.2.2.2.2.1.alike h3) h4 (by rw [h5]; exact hin) (h6 _ hlt) rfl rfl hd (K p e R s m args below meth c ok cx H locs cells slots ls nw hl)
theorem mx_xlen {a : Nat} (hd : decode y.2.1 pc = .ok (.arraylength, 1)) (hkd : ah_kd h a = 39) (K : MX G y d (pc + 1) al (iv (nI (ah_ln h a)) :: st) h Q E) : MX G y d pc al (rv a :: st) h Q E := by
  intro p e R s m args below meth c ok cx H locs cells slots ls nw hl
  obtain ⟨ha0, cell, hcell, h3, h4, h5, h6⟩ := nw.1.scr hkd
  show W p G.1 e R s m args below meth c H locs cells slots _ (F0 m pc ls (ma_rf a :: st.map ma_v))
  rw [ma_rf_pos ha0]
  exact W.alen cx.1 cx.2.1 hcell (State.isArrayOf_alike cx.2.2.2.2.2.2.2.1.alike h3) (by rw [h5]; rfl) rfl rfl hd (K p e R s m args below meth c ok cx H locs cells slots ls nw hl)
theorem mx_alen (t : Nat) {a : Nat} (hd : decode y.2.1 pc = .ok (.arraylength, 1)) (ht : t < 16) (hkd : ah_kd h a = 40 + t) (K : MX G y d (pc + 1) al (iv (nI (ah_ln h a)) :: st) h Q E) : MX G y d pc al (rv a :: st) h Q E := by
  intro p e R s m args below meth c ok cx H locs cells slots ls nw hl
  obtain ⟨ha0, hba, hcell⟩ := nw.1.arr (t := t) hkd ht
  show W p G.1 e R s m args below meth c H locs cells slots _ (F0 m pc ls (ma_rf a :: st.map ma_v))
  rw [ma_rf_pos ha0]
  exact W.alen cx.1 cx.2.1 hcell (ma_isArr ok cx.2.2.2.2.2.2.2.1 (t := t) ht _ _) (by show (arrV _ _ _).slots.size.toInt32 = _; rw [arrV_size]; rfl) rfl rfl hd (K p e R s m args below meth c ok cx H locs cells slots ls nw hl)
/-! ===== array stores ===== -/
theorem ma_rel.ast {h' : ah_T} {H H' : Heap} {a t j : Nat} {v : ma_V} (r0 : ma_rel G h H) (hk : ah_kd h a = 40 + t) (ht : t < 16) (e : H'[a - 1]? = some ((ma_arr G h a t).setSlot j (ma_v v))) (z : H'.size = H.size) (oq : ∀ q : Nat, q ≠ a - 1 → H'[q]? = H[q]?) (e0 : h'.1 = h.1) (eo : ∀ b, b ≠ a → ah_eq h h' b) (ek : ah_kd h' a = ah_kd h a) (el : ah_ln h' a = ah_ln h a)
    (ev : ah_val (ma_aty t) h' a j = v) (ej : ∀ i, i ≠ j → ah_val (ma_aty t) h' a i = ah_val (ma_aty t) h a i) : ma_rel G h' H' := by
  obtain ⟨ha0, hba, hcell⟩ := r0.arr hk ht
  refine r0.upd z oq hba ha0 (by show h'.1.1 = h.1.1; rw [e0]) eo (Or.inr ⟨hba, Or.inr (Or.inl ⟨t, ek.trans hk, ht, ?_⟩)⟩)
  rw [e]
  unfold ma_arr
  rw [arrV_store, el]
  congr 2
  funext q
  by_cases hq : q = j
  · rw [hq]; simp [updV, ev]
  · simp [updV, hq, ej q hq]
theorem mx_iast {a : Nat} {i : Int32} {x : Int32} (hd : decode y.2.1 pc = .ok (.iastore, 1)) (hkd : ah_kd h a = 40) (hin : vp_in i (ah_ln h a)) (K : MX G y d (pc + 1) al st (ah_wI h a i.toNatClampNeg (x)) Q E) : MX G y d pc al (iv x :: iv i :: rv a :: st) h Q E := by
  intro p e R s m args below meth c ok cx H locs cells slots ls nw hl
  obtain ⟨ha0, hba, hcell⟩ := nw.1.arr (t := 0) hkd (by decide)
  show W p G.1 e R s m args below meth c H locs cells slots _ (F0 m pc ls (.int x :: .int i :: ma_rf a :: st.map ma_v))
  rw [ma_rf_pos ha0]
  refine W.iast cx.1 cx.2.1 hcell (ma_isArr ok cx.2.2.2.2.2.2.2.1 (t := 0) (by decide) _ _) (fun q => by cases q) (by show ¬ (i < 0 ∨ (arrV _ _ _).slots.size ≤ _); rw [arrV_size]; exact hin) rfl rfl hd fun H1 e1 z oq => ?_
  exact ma_Wmono (K p e R s m args below meth c ok cx H1 _ cells slots ls ⟨nw.1.ast (t := 0) (v := iv x) hkd (by decide) e1 z oq rfl (fun b hb => ah_eq.wI hb) rfl rfl (congrArg iv ah_I_same) (fun j hj => ah_val_wI _ hj), fun q hq => by
    rcases List.mem_append.mp hq with hq | hq
    · exact nw.2.1 q hq
    · rw [List.mem_singleton.mp hq]; exact hba, nw.2.2.1, nw.2.2.2⟩ hl) (fun t => ma_end_ext ⟨Nat.le_refl _, fun _ _ => ⟨rfl, rfl, fun _ _ _ => rfl⟩⟩)
theorem mx_last {a : Nat} {i : Int32} {x : Int64} (hd : decode y.2.1 pc = .ok (.lastore, 1)) (hkd : ah_kd h a = 41) (hin : vp_in i (ah_ln h a)) (K : MX G y d (pc + 1) al st (ah_wJ h a i.toNatClampNeg (x)) Q E) : MX G y d pc al (jv x :: iv i :: rv a :: st) h Q E := by
  intro p e R s m args below meth c ok cx H locs cells slots ls nw hl
  obtain ⟨ha0, hba, hcell⟩ := nw.1.arr (t := 1) hkd (by decide)
  show W p G.1 e R s m args below meth c H locs cells slots _ (F0 m pc ls (.long x :: .int i :: ma_rf a :: st.map ma_v))
  rw [ma_rf_pos ha0]
  refine W.last cx.1 cx.2.1 hcell (ma_isArr ok cx.2.2.2.2.2.2.2.1 (t := 1) (by decide) _ _) (fun q => by cases q) (by show ¬ (i < 0 ∨ (arrV _ _ _).slots.size ≤ _); rw [arrV_size]; exact hin) rfl rfl hd fun H1 e1 z oq => ?_
  exact ma_Wmono (K p e R s m args below meth c ok cx H1 _ cells slots ls ⟨nw.1.ast (t := 1) (v := jv x) hkd (by decide) e1 z oq rfl (fun b hb => ah_eq.wJ hb) rfl rfl (congrArg jv ah_J_same) (fun j hj => ah_val_wJ _ hj), fun q hq => by
    rcases List.mem_append.mp hq with hq | hq
    · exact nw.2.1 q hq
    · rw [List.mem_singleton.mp hq]; exact hba, nw.2.2.1, nw.2.2.2⟩ hl) (fun t => ma_end_ext ⟨Nat.le_refl _, fun _ _ => ⟨rfl, rfl, fun _ _ _ => rfl⟩⟩)
theorem mx_bast {a : Nat} {i : Int32} {x : Int32} (hd : decode y.2.1 pc = .ok (.bastore, 1)) (hkd : ah_kd h a = 42) (hin : vp_in i (ah_ln h a)) (K : MX G y d (pc + 1) al st (ah_wI h a i.toNatClampNeg (vp_nar .byte x)) Q E) : MX G y d pc al (iv x :: iv i :: rv a :: st) h Q E := by
  intro p e R s m args below meth c ok cx H locs cells slots ls nw hl
  obtain ⟨ha0, hba, hcell⟩ := nw.1.arr (t := 2) hkd (by decide)
  show W p G.1 e R s m args below meth c H locs cells slots _ (F0 m pc ls (.int x :: .int i :: ma_rf a :: st.map ma_v))
  rw [ma_rf_pos ha0]
  refine W.bast cx.1 cx.2.1 hcell (ma_isArr ok cx.2.2.2.2.2.2.2.1 (t := 2) (by decide) _ _) (fun q => by cases q) (by show ¬ (i < 0 ∨ (arrV _ _ _).slots.size ≤ _); rw [arrV_size]; exact hin) rfl rfl hd fun H1 e1 z oq => ?_
  exact ma_Wmono (K p e R s m args below meth c ok cx H1 _ cells slots ls ⟨nw.1.ast (t := 2) (v := iv (vp_nar .byte x)) hkd (by decide) e1 z oq rfl (fun b hb => ah_eq.wI hb) rfl rfl (congrArg iv ah_I_same) (fun j hj => ah_val_wI _ hj), fun q hq => by
    rcases List.mem_append.mp hq with hq | hq
    · exact nw.2.1 q hq
    · rw [List.mem_singleton.mp hq]; exact hba, nw.2.2.1, nw.2.2.2⟩ hl) (fun t => ma_end_ext ⟨Nat.le_refl _, fun _ _ => ⟨rfl, rfl, fun _ _ _ => rfl⟩⟩)
theorem mx_sast {a : Nat} {i : Int32} {x : Int32} (hd : decode y.2.1 pc = .ok (.sastore, 1)) (hkd : ah_kd h a = 43) (hin : vp_in i (ah_ln h a)) (K : MX G y d (pc + 1) al st (ah_wI h a i.toNatClampNeg (vp_nar .short x)) Q E) : MX G y d pc al (iv x :: iv i :: rv a :: st) h Q E := by
  intro p e R s m args below meth c ok cx H locs cells slots ls nw hl
  obtain ⟨ha0, hba, hcell⟩ := nw.1.arr (t := 3) hkd (by decide)
  show W p G.1 e R s m args below meth c H locs cells slots _ (F0 m pc ls (.int x :: .int i :: ma_rf a :: st.map ma_v))
  rw [ma_rf_pos ha0]
  refine W.sast cx.1 cx.2.1 hcell (ma_isArr ok cx.2.2.2.2.2.2.2.1 (t := 3) (by decide) _ _) (fun q => by cases q) (by show ¬ (i < 0 ∨ (arrV _ _ _).slots.size ≤ _); rw [arrV_size]; exact hin) rfl rfl hd fun H1 e1 z oq => ?_
  exact ma_Wmono (K p e R s m args below meth c ok cx H1 _ cells slots ls ⟨nw.1.ast (t := 3) (v := iv (vp_nar .short x)) hkd (by decide) e1 z oq rfl (fun b hb => ah_eq.wI hb) rfl rfl (congrArg iv ah_I_same) (fun j hj => ah_val_wI _ hj), fun q hq => by
    rcases List.mem_append.mp hq with hq | hq
    · exact nw.2.1 q hq
    · rw [List.mem_singleton.mp hq]; exact hba, nw.2.2.1, nw.2.2.2⟩ hl) (fun t => ma_end_ext ⟨Nat.le_refl _, fun _ _ => ⟨rfl, rfl, fun _ _ _ => rfl⟩⟩)
theorem mx_zast {a : Nat} {i : Int32} {x : Int32} (hd : decode y.2.1 pc = .ok (.bastore, 1)) (hkd : ah_kd h a = 44) (hin : vp_in i (ah_ln h a)) (K : MX G y d (pc + 1) al st (ah_wI h a i.toNatClampNeg (vp_nar .boolean x)) Q E) : MX G y d pc al (iv x :: iv i :: rv a :: st) h Q E := by
  intro p e R s m args below meth c ok cx H locs cells slots ls nw hl
  obtain ⟨ha0, hba, hcell⟩ := nw.1.arr (t := 4) hkd (by decide)
  show W p G.1 e R s m args below meth c H locs cells slots _ (F0 m pc ls (.int x :: .int i :: ma_rf a :: st.map ma_v))
  rw [ma_rf_pos ha0]
  refine W.zast cx.1 cx.2.1 hcell (ma_isArr ok cx.2.2.2.2.2.2.2.1 (t := 4) (by decide) _ _) (fun q => by cases q) (by show ¬ (i < 0 ∨ (arrV _ _ _).slots.size ≤ _); rw [arrV_size]; exact hin) rfl rfl hd fun H1 e1 z oq => ?_
  exact ma_Wmono (K p e R s m args below meth c ok cx H1 _ cells slots ls ⟨nw.1.ast (t := 4) (v := iv (vp_nar .boolean x)) hkd (by decide) e1 z oq rfl (fun b hb => ah_eq.wI hb) rfl rfl (congrArg iv ah_I_same) (fun j hj => ah_val_wI _ hj), fun q hq => by
    rcases List.mem_append.mp hq with hq | hq
    · exact nw.2.1 q hq
    · rw [List.mem_singleton.mp hq]; exact hba, nw.2.2.1, nw.2.2.2⟩ hl) (fun t => ma_end_ext ⟨Nat.le_refl _, fun _ _ => ⟨rfl, rfl, fun _ _ _ => rfl⟩⟩)
end

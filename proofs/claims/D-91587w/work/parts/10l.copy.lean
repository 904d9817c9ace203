/-! ===== System.arraycopy, within the bounds ===== -/
/-- n numbers out of a from sp on are laid into b from dp on -/
def ah_cp (h : ah_T) (a sp b dp n : Nat) : ah_T := (h.1, h.2.1, h.2.2.1, (fun q j => if q = b ∧ dp ≤ j ∧ j < dp + n then h.2.2.2.1 a (sp + (j - dp)) else h.2.2.2.1 q j), (fun q j => if q = b ∧ dp ≤ j ∧ j < dp + n then h.2.2.2.2.1 a (sp + (j - dp)) else h.2.2.2.2.1 q j), h.2.2.2.2.2)
theorem ah_ext.cp {h : ah_T} {a sp b dp n : Nat} : ah_ext h (ah_cp h a sp b dp n) := ⟨Nat.le_refl _, fun _ _ => ⟨rfl, rfl, fun _ _ _ => rfl⟩⟩
theorem ma_nn {z : Int32} (hz : ¬ z < 0) : z.toInt = (z.toNatClampNeg : Int) := by
  have hz0 : (0 : Int) ≤ z.toInt := by
    have := Int32.not_lt.mp hz
    simpa using Int32.le_iff_toInt_le.mp this
  show z.toInt = ((z.toInt.toNat : Nat) : Int)
  omega
section
variable {G : ma_G} {y : ma_M} {d pc : Nat} {al : List (Option ma_V)} {st : List ma_V} {h : ah_T} {Q : Option ma_V → ah_T → Prop} {E : Nat → ah_T → Prop}
theorem mx_nmG {h' : ah_T} (x : ah_ext h h') (lv : ah_liv h) (K : ∀ h1 : ah_T, h1 = h' → ah_ext h h1 → ah_liv h → MX G y d pc al st h1 Q E) : MX G y d pc al st h' Q E := K _ rfl x lv
theorem mx_nmC {h' : ah_T} (x : ah_ext h h') (K : ∀ h1 : ah_T, h1 = h' → ah_ext h h1 → MX G y d pc al st h1 Q E) : MX G y d pc al st h' Q E := K _ rfl x
theorem mx_copy (t : Nat) {a b idx : Nat} {sp dp n : Int32} (ht : t < 4) (hq : Cond.methodLink y.1.cls idx arraycopyName ∈ lw_all) (hnat : Cond.native arraycopyName ∈ lw_all) (hstat : Cond.static arraycopyName ∈ lw_all) (hini : Cond.initialized "java/lang/System" ∈ lw_all) (hd : decode y.2.1 pc = .ok (.invokestatic idx, 3)) (hw : 2 * st.length + 40 ≤ 300) (hka : ah_kd h a = 40 + t) (hkb : ah_kd h b = 40 + t) (h1 : ¬ sp < 0) (h2 : ¬ dp < 0) (h3 : ¬ n < 0) (h4 : sp.toNatClampNeg + n.toNatClampNeg ≤ ah_ln h a) (h5 : dp.toNatClampNeg + n.toNatClampNeg ≤ ah_ln h b) (hfit : ∀ i, i < n.toNatClampNeg → fits (ma_aty t) (ma_v (ah_val (ma_aty t) h a (sp.toNatClampNeg + i))) = true)
    (K : ah_ext h (ah_cp h a sp.toNatClampNeg b dp.toNatClampNeg n.toNatClampNeg) → MX G y (d + 1) (pc + 3) al st (ah_cp h a sp.toNatClampNeg b dp.toNatClampNeg n.toNatClampNeg) Q E) : MX G y (d + 1) pc al (iv n :: iv dp :: rv b :: iv sp :: rv a :: st) h Q E := by
  intro p e R s m args below meth c ok cx H locs cells slots ls nw hl T hT X
  have cx0 := cx
  obtain ⟨hx, hb, hml, hr, hlk, hown, hhd, hW, hfr, hlo, hnm⟩ := cx
  have hts := ma_wd ok hW args
  obtain ⟨ha0, hba, hca⟩ := nw.1.arr hka (by omega)
  obtain ⟨hb0, hbb, hcb⟩ := nw.1.arr hkb (by omega)
  obtain ⟨k, comp, hk, hkind⟩ := mm_cls ok hW (show t < 16 by omega)
  have hfacts : refKind (ma_aty t) = false ∧ ∀ (h : ah_T) (a j : Nat), (∃ x, ah_val (ma_aty t) h a j = iv x ∧ x = ah_I h a j ∧ ma_aty t ≠ .long) ∨ ah_val (ma_aty t) h a j = jv (ah_J h a j) ∧ ma_aty t = .long := by
    rcases (show t = 0 ∨ t = 1 ∨ t = 2 ∨ t = 3 by omega) with rfl | rfl | rfl | rfl
    · exact ⟨rfl, fun h a j => Or.inl ⟨_, rfl, rfl, by decide⟩⟩
    · exact ⟨rfl, fun h a j => Or.inr ⟨rfl, rfl⟩⟩
    · exact ⟨rfl, fun h a j => Or.inl ⟨_, rfl, rfl, by decide⟩⟩
    · exact ⟨rfl, fun h a j => Or.inl ⟨_, rfl, rfl, by decide⟩⟩
  have hsum := ma_sum2 st
  have hget : ∀ i, i < n.toNatClampNeg → (ma_arr G h a t).slots.getD (sp.toNatClampNeg + i) .null = ma_v (ah_val (ma_aty t) h a (sp.toNatClampNeg + i)) := fun i hi => by
    rw [Array.getD_eq_getD_getElem?]
    show ((arrV _ _ _).slots[_]?).getD _ = _
    rw [arrV_read _ _ (by omega)]
    rfl
  obtain ⟨vm', X', step⟩ := X.arraycopy hx hown (hts _ hq) (hts _ hnat) (hts _ hstat) (hts _ hini) (src := a - 1) (dst := b - 1) (cs := ma_arr G h a t) (cd := ma_arr G h b t) (srcPos := sp) (destPos := dp) (n := n) (by rw [hT]; exact hca) (by rw [hT]; exact hcb)
    (fun _ h => by cases h) (fun _ h => by cases h) (fun h => by cases h) (fun h => by cases h) hk hk hkind hkind (by simp [hfacts.1]) h1 h2 h3
    (by rw [ma_nn h1, ma_nn h3]; show ¬ _ > ((arrV _ _ _).slots.size : Int); rw [arrV_size]; omega)
    (by rw [ma_nn h2, ma_nn h3]; show ¬ _ > ((arrV _ _ _).slots.size : Int); rw [arrV_size]; omega)
    (fun vm₁ _ i hi => by
      rw [hget i hi]
      refine ⟨hfit i hi, ?_⟩
      rcases hfacts.2 h a (sp.toNatClampNeg + i) with ⟨x, q, -⟩ | ⟨q, -⟩
      · rw [q]; exact trivial
      · rw [q]; exact trivial)
    (g := F0 m pc ls (.int n :: .int dp :: .ref (b - 1) :: .int sp :: .ref (a - 1) :: st.map ma_v)) rfl (by rw [hml]; exact hl.1) (rest := st.map ma_v) rfl (by rw [hb]; exact hd) (by omega) (by
      have : nativeFrameWords "java/lang/System" "arraycopy" 5 ≤ 25 := by decide +kernel
      show 2 * 0 + _ + _ ≤ _
      omega)
  have e1 : copied (ma_arr G h a t) (ma_arr G h b t) sp dp n = ma_arr G (ah_cp h a sp.toNatClampNeg b dp.toNatClampNeg n.toNatClampNeg) b t := by
    have := va_copied ma_v (G.2.2.2.2.1 t) (G.2.2.2.2.1 t) (n0 := ah_ln h a) (n1 := ah_ln h b) (dp := dp.toNatClampNeg) (fun j => ah_val (ma_aty t) h a j) (fun j => ah_val (ma_aty t) h b j) h4
    refine this.trans ?_
    show arrV _ (ah_ln h b) _ = arrV _ (ah_ln h b) _
    congr 1
    funext j
    congr 1
    unfold va_cpy
    rcases (show t = 0 ∨ t = 1 ∨ t = 2 ∨ t = 3 by omega) with rfl | rfl | rfl | rfl
    all_goals
      by_cases hj : dp.toNatClampNeg ≤ j ∧ j < dp.toNatClampNeg + n.toNatClampNeg
      · rw [if_pos hj]
        first
          | exact congrArg iv (if_pos (show b = b ∧ _ from ⟨rfl, hj⟩)).symm
          | exact congrArg jv (if_pos (show b = b ∧ _ from ⟨rfl, hj⟩)).symm
      · rw [if_neg hj]
        first
          | exact congrArg iv (if_neg (fun q : b = b ∧ _ => hj q.2)).symm
          | exact congrArg jv (if_neg (fun q : b = b ∧ _ => hj q.2)).symm
  rw [e1] at X' step
  have hlt : b - 1 < T.heap.size := by rw [hT]; exact (Array.getElem?_eq_some_iff.mp hcb).1
  have hrel : ma_rel G (ah_cp h a sp.toNatClampNeg b dp.toNatClampNeg n.toNatClampNeg) ((T.setVm vm').setCell (b - 1) (ma_arr G (ah_cp h a sp.toNatClampNeg b dp.toNatClampNeg n.toNatClampNeg) b t)).heap := by
    refine nw.1.upd (a := b) (by rw [size_setCell]; show T.heap.size = _; rw [hT]) (fun q hq => by rw [heapAt_setCell_ne _ (Ne.symm hq)]; show T.heap[q]? = _; rw [hT]) hbb hb0 rfl (fun q hq => ⟨rfl, rfl, fun j => if_neg (fun z => hq z.1), fun j => if_neg (fun z => hq z.1), fun j => rfl⟩) (Or.inr ⟨hbb, Or.inr (Or.inl ⟨t, hkb, by omega, heapAt_setCell_self _ hlt⟩)⟩)
  obtain ⟨t1, b1, b2⟩ := K ah_ext.cp p e R s m args below meth c ok cx0 _ _ cells slots ls ⟨hrel, fun q hq => by
    rcases List.mem_append.mp hq with hq | hq
    · exact nw.2.1 q hq
    · obtain ⟨z, -, hz⟩ := List.mem_map.mp hq
      rw [← hz]; exact hbb, nw.2.2.1, nw.2.2.2⟩ hl _ rfl X'
  refine ⟨t1, ?_, ma_end_ext ah_ext.cp b2⟩
  show Steps p.tables e below (T.setTop (F0 m pc ls (.int n :: .int dp :: ma_rf b :: .int sp :: ma_rf a :: st.map ma_v))) t1
  rw [ma_rf_pos ha0, ma_rf_pos hb0]
  exact step t1 b1
end

/-! ===== exceptions that the machine throws: the words ===== -/
def tw_x : Cond → Bool
  | .declares _ => true
  | .castable _ _ => true
  | .laysStatic _ _ _ => true
  | _ => false
def tw_r (a : Cond) : Bool := decide (a = .isRef (.static "java/lang/Throwable" "UNASSIGNED_STACK" "[Ljava/lang/StackTraceElement;")) || decide (a = .isRef (.static "java/lang/Throwable" "SUPPRESSED_SENTINEL" "Ljava/util/List;"))
def tw_ok (a : Cond) : Bool := (decide (a ∈ lw_tbl) && ((a.onTables && a.keeps) || tw_x a || decide (a = .arrayClass .byte))) || tw_r a
theorem tw_npe : (Bundle.npeArmAtoms 8).all tw_ok = true := by decide +kernel
def tw_up1 : List String := ["java/lang/IndexOutOfBoundsException", "java/lang/RuntimeException", "java/lang/Exception"]
def tw_up2 : List String := ["java/lang/RuntimeException", "java/lang/Exception"]
theorem tw_aio : (Bundle.messageArmAtoms "java/lang/ArrayIndexOutOfBoundsException" tw_up1).all tw_ok = true := by decide +kernel
theorem tw_nas : (Bundle.messageArmAtoms "java/lang/NegativeArraySizeException" tw_up2).all tw_ok = true := by decide +kernel
section
variable {G : ma_G} {h : ah_T} {T : State} {fs : List Frame} {args : Array Value}
theorem tw_ls (hW : G.2.1.WarmedH T.vm) (r0 : ma_rel G h T.heap) {C n d : String} (hl : (Cond.laysStatic C n d).before G.2.2.1 G.2.1 = true) : (Cond.laysStatic C n d).before args (T.setFrames fs) = true := by
  obtain ⟨c, k, i, f, a, cell, hc, hi, hst, ha, hcell, hs, hcls, hlt, hty⟩ := Cond.laysStatic_spec (Cond.laysStatic_setVm hW.alike hl)
  have hlt' : a < G.2.1.heap.size := (Array.getElem?_eq_some_iff.mp hcell).1
  exact Cond.laysStatic_of (s := T.setFrames fs) hc hi hst ha (by show T.heap[a]? = _; rw [r0.2.2.1 a hlt']; exact hcell) hs hcls hlt hty
theorem tw_ir (ok : ma_ok G) (hW : G.2.1.WarmedH T.vm) (r0 : ma_rel G h T.heap) {C n d : String} (hl : Cond.laysStatic C n d ∈ lw_tbl) (hini : Cond.initialized C ∈ lw_tbl) (hr : Cond.isRef (.static C n d) ∈ flatC (Cond.and given_1 narrow_1)) : (Cond.isRef (.static C n d)).before args (T.setFrames fs) = true := by
  have hA : ∀ a : Nat, a < G.2.1.heap.size → ¬ (fun q => G.2.1.heap.size ≤ q) a := fun a ha q => absurd ha (Nat.not_lt.mpr q)
  have hZ : ∃ v, (v = Value.null ∨ ∃ t, v = Value.ref t) ∧ va_Z C n d v (fun q => G.2.1.heap.size ≤ q) T T.heap := by
    rcases va_Zqof (ok.1 _ hl) (ok.1 _ hini) (flat_of_before _ ok.2.2.2 _ hr) hA with hZ | ⟨t, hZ⟩
    · exact ⟨_, Or.inl rfl, (va_Z.moved hW.alike hZ).kept (ma_old r0)⟩
    · exact ⟨_, Or.inr ⟨t, rfl⟩, (va_Z.moved hW.alike hZ).kept (ma_old r0)⟩
  obtain ⟨v, hv, cf, kf, fi, f, a, cell, h1, h2, h3, h4, h5, h6, h7, h8⟩ := hZ
  have h1' : (T.setFrames fs).fieldFound? C n d = some (cf, kf, fi, f) := h1
  have h5' : (T.setFrames fs).heap[a]? = some cell := h5
  have he : (Term.static C n d).eval args (T.setFrames fs) none [] (T.setFrames fs) = some v := by
    simp [Term.eval, State.fieldNamed?, h1', h2, h4, h5', h5, h6, h7]
  simp only [Cond.before, Cond.holds, Cond.value, he]
  rcases hv with e | ⟨x, e⟩ <;> simp [e]
theorem tw_all (ok : ma_ok G) (hW : G.2.1.WarmedH T.vm) (r0 : ma_rel G h T.heap) {ws : List Cond} (hws : ws.all tw_ok = true) : ∀ a ∈ ws, a.before args (T.setFrames fs) = true := by
  intro a ha
  have h1 := List.all_eq_true.mp hws a ha
  unfold tw_ok at h1
  rcases Bool.or_eq_true_iff.mp h1 with h1 | h1
  · obtain ⟨g1, g2⟩ := Bool.and_eq_true_iff.mp h1
    have gm : a ∈ lw_tbl := of_decide_eq_true g1
    rcases Bool.or_eq_true_iff.mp g2 with g2 | g2
    · rcases Bool.or_eq_true_iff.mp g2 with g2 | g2
      · exact word_at (U := T.setFrames fs) hW (Or.inl g2) (ok.1 _ gm)
      · cases a with
        | declares x => exact va_Nw.use rfl (va_Nw.warmD (U := T.setFrames fs) hW (va_Nw.of rfl (ok.1 _ gm)))
        | castable x z => exact va_Nw.use rfl (va_Nw.warmC (U := T.setFrames fs) hW (va_Nw.of rfl (ok.1 _ gm)))
        | laysStatic x z w => exact tw_ls hW r0 (ok.1 _ gm)
        | _ => simp [tw_x] at g2
    · exact word_at (U := T.setFrames fs) hW (Or.inr ⟨_, of_decide_eq_true g2⟩) (ok.1 _ gm)
  · unfold tw_r at h1
    rcases Bool.or_eq_true_iff.mp h1 with h1 | h1
    · rw [of_decide_eq_true h1]
      exact tw_ir ok hW r0 (by decide +kernel) (by decide +kernel) st_unassigned_stack
    · rw [of_decide_eq_true h1]
      exact tw_ir ok hW r0 (by decide +kernel) (by decide +kernel) st_suppressed_sentinel
end

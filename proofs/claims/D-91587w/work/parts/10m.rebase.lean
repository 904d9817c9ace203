/-! ===== a walk begun anew where it stands: as if its method were called here ===== -/
section
variable {p : Program} {l : Launch} {e : Env} {R : Room} {s : State} {m : MethodId} {args : Array Value} {below : List Frame} {meth : Method} {c : Code} {T : State} {locs : List Loc} {cells slots : Nat}
theorem ma_rebase (X : Stand p l e R s m args below meth c T locs cells slots) (hc : cells ≤ R.cells) (hs : slots ≤ R.slots) : Stand p l e ({ frames := R.frames, cells := R.cells - cells, slots := R.slots - slots, locals := R.locals } : Room) (T.setFrames (.invoking m args :: below)) m args below meth c T [] 0 0 := by
  obtain ⟨g₀, hg⟩ := Option.isSome_iff_exists.mp X.here.top
  obtain ⟨r, hr⟩ := State.topJava?_eq_some.mp hg
  obtain ⟨t, ht, hfr⟩ := State.frames_cons hr
  have hcur : T.cur < T.threads.size := State.cur_lt_of_frames hr
  have hf : (T.setFrames (.invoking m args :: below)).frames = .invoking m args :: below := State.frames_setFrames _ hcur
  have hme : (T.setFrames (.invoking m args :: below)).me = { T.me with frames := .invoking m args :: below } := by
    simp [State.me, State.setFrames, Array.getElem?_modify, ht]
  have hlim : e.platform.stackLimits (T.setFrames (.invoking m args :: below)).me = e.platform.stackLimits T.me := by
    rw [hme]; rfl
  have hmeth : (T.setFrames (.invoking m args :: below)).vm.method? m = some meth := X.method'
  have hroom : (T.setFrames (.invoking m args :: below)).hasRoom e.platform ({ frames := R.frames, cells := R.cells - cells, slots := R.slots - slots, locals := R.locals } : Room) = true := by
    have h0 := X.room
    simp only [State.hasRoom, Bool.and_eq_true, decide_eq_true_eq] at h0 ⊢
    rw [State.localsInUse_invoking hf hmeth X.code, hf, hlim, X.limits, hme]
    rw [State.localsInUse_invoking X.frames X.method X.code, X.frames] at h0
    have h1 := X.heapSize
    have h2 := X.used
    have h3 := X.bytes
    obtain ⟨⟨⟨⟨a1, a2, a3, a4, a5, a6⟩, a7⟩, a8⟩, a9⟩ := h0
    refine ⟨⟨⟨⟨a1, a2, a3, a4, a5, ?_⟩, ?_⟩, ?_⟩, X.book⟩
    · show T.me.stackBytes = 0
      rw [h3]; exact a6
    · show T.heap.size + (R.cells - cells) ≤ _
      omega
    · show T.slotsUsed + (R.slots - slots) ≤ _
      omega
  refine ⟨X.admits, X.cas, X.clock, hf, hroom, ?_, hmeth, X.code, X.here, X.tail, ?_, hlim.symm, ?_, ?_⟩
  · have h0 := X.hears
    have hv : ∀ q, (T.setFrames (.invoking m args :: below)).code? q = s.code? q := fun q => by
      have h1 : T.vm.method? q = s.vm.method? q := X.warmed.alike.method? q
      have h2 : ∀ u : State, u.code? q = (u.vm.method? q).bind (·.code) := fun u => by
        simp only [State.code?, Vm.method?]
        cases u.vm.classes[q.cls]? with
        | none => rfl
        | some k => cases k.methods[q.idx]? <;> rfl
      rw [h2, h2]
      show (T.vm.method? q).bind _ = _
      rw [h1]
    have hv2 : (T.setFrames (.invoking m args :: below)).vm.method? m = s.vm.method? m := X.warmed.alike.method? m
    unfold State.hears at h0 ⊢
    split at h0
    · rw [hv]; exact h0
    · rfl
    · rfl
    · rw [hv2]; exact h0
  · exact State.WarmedH.refl (T.setFrames (.invoking m args :: below))
  · rw [hme]
  · have h := (State.sameButNew.refl (T.setFrames (.invoking m args :: below)) (x := { t with frames := .invoking m args :: below }) (by simp [State.setFrames, Array.getElem?_modify, ht])).setFrames T.frames (by simpa [State.setFrames] using hcur)
    rw [State.setFrames_setFrames] at h
    have hT : T.setFrames T.frames = T := by
      have h3 : T.threads.modify T.cur (fun t => { t with frames := T.frames }) = T.threads := by
        apply Array.ext_getElem?
        intro i
        rw [Array.getElem?_modify]
        by_cases hi : T.cur = i
        · rw [if_pos hi, ← hi, ht]
          have : T.frames = t.frames := by simp [State.frames, ht]
          simp [this]
        · rw [if_neg hi]
      show ({ T with threads := _ } : State) = T
      rw [h3]
    rw [hT] at h
    exact h
end

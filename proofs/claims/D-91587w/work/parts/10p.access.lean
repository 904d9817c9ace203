/-! ===== array accesses that throw; a catch by the second row ===== -/
section
variable {G : ma_G} {y : ma_M} {d pc : Nat} {al : List (Option ma_V)} {st : List ma_V} {h : ah_T} {Q : Option ma_V → ah_T → Prop} {E : Nat → ah_T → Prop}
theorem mx_nul_baload {i : Int32} (hd : decode y.2.1 pc = .ok (.baload, 1)) (hh : y.2.2.2.2.all (fun q => !(decide (q.1 ≤ pc) && decide (pc < q.2.1))) = true) (h40 : 40 ≤ d) (hst : st.length ≤ 20) (hr : 1 ≤ ah_rc h ∧ 8 ≤ ah_rs h) (K : E (ah_sz h) (ah_exn h 0 1 8)) : MX G y d pc al (iv i :: rv 0 :: st) h Q E := mx_npe_of (st := st) hh h40 hst hr.1 hr.2 K (fun p e R s m args below meth c T locs cells slots ls X hx hb target hs => X.baloadNull hx (g := F0 m pc ls (.int i :: .null :: st.map ma_v)) rfl rfl (by rw [hb]; exact hd) target hs)
theorem mx_out_baload (t : Nat) {a : Nat} {i : Int32} (hd : decode y.2.1 pc = .ok (.baload, 1)) (hh : y.2.2.2.2.all (fun q => !(decide (q.1 ≤ pc) && decide (pc < q.2.1))) = true) (h40 : 40 ≤ d) (hst : st.length ≤ 20) (ht : t < 16) (hk : ah_kd h a = 40 + t) (hin : ¬ vp_in i (ah_ln h a)) (hN : ah_ln h a < 2 ^ 31) (hr : 3 ≤ ah_rc h ∧ 222 ≤ ah_rs h) (K : E (ah_sz h + 2) (ah_exn h 1 3 222)) : MX G y d pc al (iv i :: rv a :: st) h Q E := by
  have hsz : (ma_arr G h a t).slots.size = ah_ln h a := arrV_size ..
  refine mx_aio_of (st := st) (index_text_bytes i (n := (ma_arr G h a t).slots.size) (by rw [hsz]; exact hN)) (index_text_modelled i _) hh h40 hst hr.1 hr.2 K (fun p e R s m args below meth c T locs cells slots ls ok cx nw X target hs => ?_)
  obtain ⟨ha0, -, hcell⟩ := nw.1.arr hk ht
  have hs' := X.baloadOut cx.1 hcell (ma_isArr ok cx.2.2.2.2.2.2.2.1 ht _ _) (by rw [hsz]; exact Classical.not_not.mp hin) (g := F0 m pc ls (.int i :: .ref (a - 1) :: st.map ma_v)) rfl rfl (by rw [cx.2.1]; exact hd) target hs
  show Steps p.tables e below (T.setTop (F0 m pc ls (.int i :: ma_rf a :: st.map ma_v))) target
  rw [ma_rf_pos ha0]
  exact hs'
theorem mx_nul_saload {i : Int32} (hd : decode y.2.1 pc = .ok (.saload, 1)) (hh : y.2.2.2.2.all (fun q => !(decide (q.1 ≤ pc) && decide (pc < q.2.1))) = true) (h40 : 40 ≤ d) (hst : st.length ≤ 20) (hr : 1 ≤ ah_rc h ∧ 8 ≤ ah_rs h) (K : E (ah_sz h) (ah_exn h 0 1 8)) : MX G y d pc al (iv i :: rv 0 :: st) h Q E := mx_npe_of (st := st) hh h40 hst hr.1 hr.2 K (fun p e R s m args below meth c T locs cells slots ls X hx hb target hs => X.saloadNull hx (g := F0 m pc ls (.int i :: .null :: st.map ma_v)) rfl rfl (by rw [hb]; exact hd) target hs)
theorem mx_out_saload (t : Nat) {a : Nat} {i : Int32} (hd : decode y.2.1 pc = .ok (.saload, 1)) (hh : y.2.2.2.2.all (fun q => !(decide (q.1 ≤ pc) && decide (pc < q.2.1))) = true) (h40 : 40 ≤ d) (hst : st.length ≤ 20) (ht : t < 16) (hk : ah_kd h a = 40 + t) (hin : ¬ vp_in i (ah_ln h a)) (hN : ah_ln h a < 2 ^ 31) (hr : 3 ≤ ah_rc h ∧ 222 ≤ ah_rs h) (K : E (ah_sz h + 2) (ah_exn h 1 3 222)) : MX G y d pc al (iv i :: rv a :: st) h Q E := by
  have hsz : (ma_arr G h a t).slots.size = ah_ln h a := arrV_size ..
  refine mx_aio_of (st := st) (index_text_bytes i (n := (ma_arr G h a t).slots.size) (by rw [hsz]; exact hN)) (index_text_modelled i _) hh h40 hst hr.1 hr.2 K (fun p e R s m args below meth c T locs cells slots ls ok cx nw X target hs => ?_)
  obtain ⟨ha0, -, hcell⟩ := nw.1.arr hk ht
  have hs' := X.saloadOut cx.1 hcell (ma_isArr ok cx.2.2.2.2.2.2.2.1 ht _ _) (by rw [hsz]; exact Classical.not_not.mp hin) (g := F0 m pc ls (.int i :: .ref (a - 1) :: st.map ma_v)) rfl rfl (by rw [cx.2.1]; exact hd) target hs
  show Steps p.tables e below (T.setTop (F0 m pc ls (.int i :: ma_rf a :: st.map ma_v))) target
  rw [ma_rf_pos ha0]
  exact hs'
theorem mx_nul_iaload {i : Int32} (hd : decode y.2.1 pc = .ok (.iaload, 1)) (hh : y.2.2.2.2.all (fun q => !(decide (q.1 ≤ pc) && decide (pc < q.2.1))) = true) (h40 : 40 ≤ d) (hst : st.length ≤ 20) (hr : 1 ≤ ah_rc h ∧ 8 ≤ ah_rs h) (K : E (ah_sz h) (ah_exn h 0 1 8)) : MX G y d pc al (iv i :: rv 0 :: st) h Q E := mx_npe_of (st := st) hh h40 hst hr.1 hr.2 K (fun p e R s m args below meth c T locs cells slots ls X hx hb target hs => X.ialoadNull hx (g := F0 m pc ls (.int i :: .null :: st.map ma_v)) rfl rfl (by rw [hb]; exact hd) target hs)
theorem mx_out_iaload (t : Nat) {a : Nat} {i : Int32} (hd : decode y.2.1 pc = .ok (.iaload, 1)) (hh : y.2.2.2.2.all (fun q => !(decide (q.1 ≤ pc) && decide (pc < q.2.1))) = true) (h40 : 40 ≤ d) (hst : st.length ≤ 20) (ht : t < 16) (hk : ah_kd h a = 40 + t) (hin : ¬ vp_in i (ah_ln h a)) (hN : ah_ln h a < 2 ^ 31) (hr : 3 ≤ ah_rc h ∧ 222 ≤ ah_rs h) (K : E (ah_sz h + 2) (ah_exn h 1 3 222)) : MX G y d pc al (iv i :: rv a :: st) h Q E := by
  have hsz : (ma_arr G h a t).slots.size = ah_ln h a := arrV_size ..
  refine mx_aio_of (st := st) (index_text_bytes i (n := (ma_arr G h a t).slots.size) (by rw [hsz]; exact hN)) (index_text_modelled i _) hh h40 hst hr.1 hr.2 K (fun p e R s m args below meth c T locs cells slots ls ok cx nw X target hs => ?_)
  obtain ⟨ha0, -, hcell⟩ := nw.1.arr hk ht
  have hs' := X.ialoadOut cx.1 hcell (ma_isArr ok cx.2.2.2.2.2.2.2.1 ht _ _) (by rw [hsz]; exact Classical.not_not.mp hin) (g := F0 m pc ls (.int i :: .ref (a - 1) :: st.map ma_v)) rfl rfl (by rw [cx.2.1]; exact hd) target hs
  show Steps p.tables e below (T.setTop (F0 m pc ls (.int i :: ma_rf a :: st.map ma_v))) target
  rw [ma_rf_pos ha0]
  exact hs'
theorem mx_nul_laload {i : Int32} (hd : decode y.2.1 pc = .ok (.laload, 1)) (hh : y.2.2.2.2.all (fun q => !(decide (q.1 ≤ pc) && decide (pc < q.2.1))) = true) (h40 : 40 ≤ d) (hst : st.length ≤ 20) (hr : 1 ≤ ah_rc h ∧ 8 ≤ ah_rs h) (K : E (ah_sz h) (ah_exn h 0 1 8)) : MX G y d pc al (iv i :: rv 0 :: st) h Q E := mx_npe_of (st := st) hh h40 hst hr.1 hr.2 K (fun p e R s m args below meth c T locs cells slots ls X hx hb target hs => X.laloadNull hx (g := F0 m pc ls (.int i :: .null :: st.map ma_v)) rfl rfl (by rw [hb]; exact hd) target hs)
theorem mx_out_laload (t : Nat) {a : Nat} {i : Int32} (hd : decode y.2.1 pc = .ok (.laload, 1)) (hh : y.2.2.2.2.all (fun q => !(decide (q.1 ≤ pc) && decide (pc < q.2.1))) = true) (h40 : 40 ≤ d) (hst : st.length ≤ 20) (ht : t < 16) (hk : ah_kd h a = 40 + t) (hin : ¬ vp_in i (ah_ln h a)) (hN : ah_ln h a < 2 ^ 31) (hr : 3 ≤ ah_rc h ∧ 222 ≤ ah_rs h) (K : E (ah_sz h + 2) (ah_exn h 1 3 222)) : MX G y d pc al (iv i :: rv a :: st) h Q E := by
  have hsz : (ma_arr G h a t).slots.size = ah_ln h a := arrV_size ..
  refine mx_aio_of (st := st) (index_text_bytes i (n := (ma_arr G h a t).slots.size) (by rw [hsz]; exact hN)) (index_text_modelled i _) hh h40 hst hr.1 hr.2 K (fun p e R s m args below meth c T locs cells slots ls ok cx nw X target hs => ?_)
  obtain ⟨ha0, -, hcell⟩ := nw.1.arr hk ht
  have hs' := X.laloadOut cx.1 hcell (ma_isArr ok cx.2.2.2.2.2.2.2.1 ht _ _) (by rw [hsz]; exact Classical.not_not.mp hin) (g := F0 m pc ls (.int i :: .ref (a - 1) :: st.map ma_v)) rfl rfl (by rw [cx.2.1]; exact hd) target hs
  show Steps p.tables e below (T.setTop (F0 m pc ls (.int i :: ma_rf a :: st.map ma_v))) target
  rw [ma_rf_pos ha0]
  exact hs'
theorem mx_nul_bastore {i : Int32} {x : Int32} (hd : decode y.2.1 pc = .ok (.bastore, 1)) (hh : y.2.2.2.2.all (fun q => !(decide (q.1 ≤ pc) && decide (pc < q.2.1))) = true) (h40 : 40 ≤ d) (hst : st.length ≤ 20) (hr : 1 ≤ ah_rc h ∧ 8 ≤ ah_rs h) (K : E (ah_sz h) (ah_exn h 0 1 8)) : MX G y d pc al (iv x :: iv i :: rv 0 :: st) h Q E := mx_npe_of (st := st) hh h40 hst hr.1 hr.2 K (fun p e R s m args below meth c T locs cells slots ls X hx hb target hs => X.bastoreNull hx (g := F0 m pc ls (.int x :: .int i :: .null :: st.map ma_v)) rfl rfl (by rw [hb]; exact hd) target hs)
theorem mx_out_bastore (t : Nat) {a : Nat} {i : Int32} {x : Int32} (hd : decode y.2.1 pc = .ok (.bastore, 1)) (hh : y.2.2.2.2.all (fun q => !(decide (q.1 ≤ pc) && decide (pc < q.2.1))) = true) (h40 : 40 ≤ d) (hst : st.length ≤ 20) (ht : t < 16) (hk : ah_kd h a = 40 + t) (hin : ¬ vp_in i (ah_ln h a)) (hN : ah_ln h a < 2 ^ 31) (hr : 3 ≤ ah_rc h ∧ 222 ≤ ah_rs h) (K : E (ah_sz h + 2) (ah_exn h 1 3 222)) : MX G y d pc al (iv x :: iv i :: rv a :: st) h Q E := by
  have hsz : (ma_arr G h a t).slots.size = ah_ln h a := arrV_size ..
  refine mx_aio_of (st := st) (index_text_bytes i (n := (ma_arr G h a t).slots.size) (by rw [hsz]; exact hN)) (index_text_modelled i _) hh h40 hst hr.1 hr.2 K (fun p e R s m args below meth c T locs cells slots ls ok cx nw X target hs => ?_)
  obtain ⟨ha0, -, hcell⟩ := nw.1.arr hk ht
  have hs' := X.bastoreOut cx.1 hcell (ma_isArr ok cx.2.2.2.2.2.2.2.1 ht _ _) (by rw [hsz]; exact Classical.not_not.mp hin) (g := F0 m pc ls (.int x :: .int i :: .ref (a - 1) :: st.map ma_v)) rfl rfl (by rw [cx.2.1]; exact hd) target hs
  show Steps p.tables e below (T.setTop (F0 m pc ls (.int x :: .int i :: ma_rf a :: st.map ma_v))) target
  rw [ma_rf_pos ha0]
  exact hs'
theorem mx_nul_sastore {i : Int32} {x : Int32} (hd : decode y.2.1 pc = .ok (.sastore, 1)) (hh : y.2.2.2.2.all (fun q => !(decide (q.1 ≤ pc) && decide (pc < q.2.1))) = true) (h40 : 40 ≤ d) (hst : st.length ≤ 20) (hr : 1 ≤ ah_rc h ∧ 8 ≤ ah_rs h) (K : E (ah_sz h) (ah_exn h 0 1 8)) : MX G y d pc al (iv x :: iv i :: rv 0 :: st) h Q E := mx_npe_of (st := st) hh h40 hst hr.1 hr.2 K (fun p e R s m args below meth c T locs cells slots ls X hx hb target hs => X.sastoreNull hx (g := F0 m pc ls (.int x :: .int i :: .null :: st.map ma_v)) rfl rfl (by rw [hb]; exact hd) target hs)
theorem mx_out_sastore (t : Nat) {a : Nat} {i : Int32} {x : Int32} (hd : decode y.2.1 pc = .ok (.sastore, 1)) (hh : y.2.2.2.2.all (fun q => !(decide (q.1 ≤ pc) && decide (pc < q.2.1))) = true) (h40 : 40 ≤ d) (hst : st.length ≤ 20) (ht : t < 16) (hk : ah_kd h a = 40 + t) (hin : ¬ vp_in i (ah_ln h a)) (hN : ah_ln h a < 2 ^ 31) (hr : 3 ≤ ah_rc h ∧ 222 ≤ ah_rs h) (K : E (ah_sz h + 2) (ah_exn h 1 3 222)) : MX G y d pc al (iv x :: iv i :: rv a :: st) h Q E := by
  have hsz : (ma_arr G h a t).slots.size = ah_ln h a := arrV_size ..
  refine mx_aio_of (st := st) (index_text_bytes i (n := (ma_arr G h a t).slots.size) (by rw [hsz]; exact hN)) (index_text_modelled i _) hh h40 hst hr.1 hr.2 K (fun p e R s m args below meth c T locs cells slots ls ok cx nw X target hs => ?_)
  obtain ⟨ha0, -, hcell⟩ := nw.1.arr hk ht
  have hs' := X.sastoreOut cx.1 hcell (ma_isArr ok cx.2.2.2.2.2.2.2.1 ht _ _) (by rw [hsz]; exact Classical.not_not.mp hin) (g := F0 m pc ls (.int x :: .int i :: .ref (a - 1) :: st.map ma_v)) rfl rfl (by rw [cx.2.1]; exact hd) target hs
  show Steps p.tables e below (T.setTop (F0 m pc ls (.int x :: .int i :: ma_rf a :: st.map ma_v))) target
  rw [ma_rf_pos ha0]
  exact hs'
theorem mx_nul_iastore {i : Int32} {x : Int32} (hd : decode y.2.1 pc = .ok (.iastore, 1)) (hh : y.2.2.2.2.all (fun q => !(decide (q.1 ≤ pc) && decide (pc < q.2.1))) = true) (h40 : 40 ≤ d) (hst : st.length ≤ 20) (hr : 1 ≤ ah_rc h ∧ 8 ≤ ah_rs h) (K : E (ah_sz h) (ah_exn h 0 1 8)) : MX G y d pc al (iv x :: iv i :: rv 0 :: st) h Q E := mx_npe_of (st := st) hh h40 hst hr.1 hr.2 K (fun p e R s m args below meth c T locs cells slots ls X hx hb target hs => X.iastoreNull hx (g := F0 m pc ls (.int x :: .int i :: .null :: st.map ma_v)) rfl rfl (by rw [hb]; exact hd) target hs)
theorem mx_out_iastore (t : Nat) {a : Nat} {i : Int32} {x : Int32} (hd : decode y.2.1 pc = .ok (.iastore, 1)) (hh : y.2.2.2.2.all (fun q => !(decide (q.1 ≤ pc) && decide (pc < q.2.1))) = true) (h40 : 40 ≤ d) (hst : st.length ≤ 20) (ht : t < 16) (hk : ah_kd h a = 40 + t) (hin : ¬ vp_in i (ah_ln h a)) (hN : ah_ln h a < 2 ^ 31) (hr : 3 ≤ ah_rc h ∧ 222 ≤ ah_rs h) (K : E (ah_sz h + 2) (ah_exn h 1 3 222)) : MX G y d pc al (iv x :: iv i :: rv a :: st) h Q E := by
  have hsz : (ma_arr G h a t).slots.size = ah_ln h a := arrV_size ..
  refine mx_aio_of (st := st) (index_text_bytes i (n := (ma_arr G h a t).slots.size) (by rw [hsz]; exact hN)) (index_text_modelled i _) hh h40 hst hr.1 hr.2 K (fun p e R s m args below meth c T locs cells slots ls ok cx nw X target hs => ?_)
  obtain ⟨ha0, -, hcell⟩ := nw.1.arr hk ht
  have hs' := X.iastoreOut cx.1 hcell (ma_isArr ok cx.2.2.2.2.2.2.2.1 ht _ _) (by rw [hsz]; exact Classical.not_not.mp hin) (g := F0 m pc ls (.int x :: .int i :: .ref (a - 1) :: st.map ma_v)) rfl rfl (by rw [cx.2.1]; exact hd) target hs
  show Steps p.tables e below (T.setTop (F0 m pc ls (.int x :: .int i :: ma_rf a :: st.map ma_v))) target
  rw [ma_rf_pos ha0]
  exact hs'
theorem mx_nul_lastore {i : Int32} {x : Int64} (hd : decode y.2.1 pc = .ok (.lastore, 1)) (hh : y.2.2.2.2.all (fun q => !(decide (q.1 ≤ pc) && decide (pc < q.2.1))) = true) (h40 : 40 ≤ d) (hst : st.length ≤ 20) (hr : 1 ≤ ah_rc h ∧ 8 ≤ ah_rs h) (K : E (ah_sz h) (ah_exn h 0 1 8)) : MX G y d pc al (jv x :: iv i :: rv 0 :: st) h Q E := mx_npe_of (st := st) hh h40 hst hr.1 hr.2 K (fun p e R s m args below meth c T locs cells slots ls X hx hb target hs => X.lastoreNull hx (g := F0 m pc ls (.long x :: .int i :: .null :: st.map ma_v)) rfl rfl (by rw [hb]; exact hd) target hs)
theorem mx_out_lastore (t : Nat) {a : Nat} {i : Int32} {x : Int64} (hd : decode y.2.1 pc = .ok (.lastore, 1)) (hh : y.2.2.2.2.all (fun q => !(decide (q.1 ≤ pc) && decide (pc < q.2.1))) = true) (h40 : 40 ≤ d) (hst : st.length ≤ 20) (ht : t < 16) (hk : ah_kd h a = 40 + t) (hin : ¬ vp_in i (ah_ln h a)) (hN : ah_ln h a < 2 ^ 31) (hr : 3 ≤ ah_rc h ∧ 222 ≤ ah_rs h) (K : E (ah_sz h + 2) (ah_exn h 1 3 222)) : MX G y d pc al (jv x :: iv i :: rv a :: st) h Q E := by
  have hsz : (ma_arr G h a t).slots.size = ah_ln h a := arrV_size ..
  refine mx_aio_of (st := st) (index_text_bytes i (n := (ma_arr G h a t).slots.size) (by rw [hsz]; exact hN)) (index_text_modelled i _) hh h40 hst hr.1 hr.2 K (fun p e R s m args below meth c T locs cells slots ls ok cx nw X target hs => ?_)
  obtain ⟨ha0, -, hcell⟩ := nw.1.arr hk ht
  have hs' := X.lastoreOut cx.1 hcell (ma_isArr ok cx.2.2.2.2.2.2.2.1 ht _ _) (by rw [hsz]; exact Classical.not_not.mp hin) (g := F0 m pc ls (.long x :: .int i :: .ref (a - 1) :: st.map ma_v)) rfl rfl (by rw [cx.2.1]; exact hd) target hs
  show Steps p.tables e below (T.setTop (F0 m pc ls (.long x :: .int i :: ma_rf a :: st.map ma_v))) target
  rw [ma_rf_pos ha0]
  exact hs'
theorem mx_neg {i : Int32} {atype : ArrayType} (hd : decode y.2.1 pc = .ok (.newarray atype, 2)) (hh : y.2.2.2.2.all (fun q => !(decide (q.1 ≤ pc) && decide (pc < q.2.1))) = true) (h40 : 40 ≤ d) (hst : st.length ≤ 20) (hi : i < 0) (hr : 3 ≤ ah_rc h ∧ 222 ≤ ah_rs h) (K : E (ah_sz h + 2) (ah_exn h 2 3 222)) : MX G y d pc al (iv i :: st) h Q E := mx_nas_of (st := st) hi hh h40 hst hr.1 hr.2 K (fun p e R s m args below meth c T locs cells slots ls X hx hb target hs => X.newarrayNegative hx (g := F0 m pc ls (.int i :: st.map ma_v)) rfl hi rfl (by rw [hb]; exact hd) target hs)
end

/-! ===== what the acts tell: the class ===== -/
/-- the defs' values, one by one -/
def evL (Ds : List PD) (vs : Nat → Int64) : Nat → Nat → Option Int64
  | 0 => fun _ => none
  | k + 1 => fun j => if j = k then (Ds.getD k pd0) vs (evL Ds vs k) else evL Ds vs k j
/-- what one text tells, cut -/
def asS (nm : List Nat) (Ds : List PD) (vs : Nat → Int64) (w : Nat) (wo lo hi : Int64) : Int64 :=
  if 0 ≤ kix w nm 0 then (match evL Ds vs ((kix w nm 0).toNat + 1) (kix w nm 0).toNat with
    | some v => jMax lo (jMin hi v)
    | none => wo) else wo
/-- the text in force -/
def foN (fr : Nat → Int32) (x : Int32) : Nat → Option Nat
  | 0 => none
  | k + 1 => if (fr k).toInt ≤ x.toInt ∧ (match foN fr x k with
    | none => true
    | some b => decide ((fr b).toInt ≤ (fr k).toInt)) = true then some k else foN fr x k
def askS (S : MS) (tx : Nat → List Nat × List PD) (vs : Nat → Int64) (x : Int32) (w : Nat) (wo lo hi : Int64) : Int64 :=
  match foN (S.1 36) x (nT S) with
  | none => wo
  | some u => asS (tx u).1 (tx u).2 vs w wo lo hi
/-- the texts, told by tx -/
def CIk (G : ma_G) (h : ah_T) (X : Nat) (S : MS) (tx : Nat → List Nat × List PD) : Prop := ∀ u, u < 4 → (u < nT S → CIm G h X S u (ah_R h (X + 1437) u) (tx u).1 (tx u).2) ∧ (nT S ≤ u → ah_R h (X + 1437) u = 0)
/-- only what a text's work writes was written: the asked's defs -/
def wfr (A : Nat) (h g : ah_T) : Prop := (g.1 = h.1 ∧ ah_kd g = ah_kd h ∧ ah_ln g = ah_ln h ∧ ah_R g = ah_R h) ∧ (∀ a k, a ≠ A + 3 → ah_I g a k = ah_I h a k) ∧ ∀ a k, a ≠ A + 2 → ah_J g a k = ah_J h a k
section
variable {G : ma_G} {A W X Lw d u : Nat} {h g g2 : ah_T} {S S' S2 : MS} {nm : List Nat} {Ds : List PD} {tx : Nat → List Nat × List PD} {Q : Option ma_V → ah_T → Prop} {E : Nat → ah_T → Prop} {x1 x2 : Int32}
theorem CIl.ch (x : CIl G h X S) : ∃ tx, CIk G h X S tx := by
  have c : ∀ u, ∃ z : List Nat × List PD, u < 4 → u < nT S → CIm G h X S u (ah_R h (X + 1437) u) z.1 z.2 := fun u => by
    by_cases q : u < 4 ∧ u < nT S
    · obtain ⟨nm, Ds, y⟩ := (x u q.1).1 q.2
      exact ⟨(nm, Ds), fun _ _ => y⟩
    · exact ⟨([], []), fun a b => absurd ⟨a, b⟩ q⟩
  exact ⟨fun u => Classical.choose (c u), fun u hu => ⟨fun ht => Classical.choose_spec (c u) hu ht, (x u hu).2⟩⟩
theorem evL_s {vs : Nat → Int64} : ∀ {k j : Nat}, j < k → evL Ds vs k j = evL Ds vs (j + 1) j
  | 0, j, h => by omega
  | k + 1, j, h => by
    by_cases c : j = k
    · rw [c]
    · rw [show evL Ds vs (k + 1) j = if j = k then (Ds.getD k pd0) vs (evL Ds vs k) else evL Ds vs k j from rfl, if_neg c]
      exact evL_s (by omega)
theorem foN_lt {fr : Nat → Int32} {x : Int32} : ∀ {k u : Nat}, foN fr x k = some u → u < k
  | 0, u, e => by simp [foN] at e
  | k + 1, u, e => by
    rw [foN] at e
    by_cases c : (fr k).toInt ≤ x.toInt ∧ (match foN fr x k with
      | none => true
      | some b => decide ((fr b).toInt ≤ (fr k).toInt)) = true
    · rw [if_pos c] at e; injection e with e; omega
    · rw [if_neg c] at e; have := foN_lt e; omega
theorem wfr.rf : wfr A h h := ⟨⟨rfl, rfl, rfl, rfl⟩, fun _ _ _ => rfl, fun _ _ _ => rfl⟩
theorem wfr.tr (x : wfr A h g) (z : wfr A g g2) : wfr A h g2 := ⟨⟨z.1.1.trans x.1.1, z.1.2.1.trans x.1.2.1, z.1.2.2.1.trans x.1.2.2.1, z.1.2.2.2.trans x.1.2.2.2⟩, fun a k ha => (z.2.1 a k ha).trans (x.2.1 a k ha), fun a k ha => (z.2.2 a k ha).trans (x.2.2 a k ha)⟩
theorem wfr.wI (x : wfr A h g) {k : Nat} {v : Int32} : wfr A h (ah_wI g (A + 3) k v) := x.tr ⟨⟨rfl, rfl, rfl, rfl⟩, fun a j ha => rd_Ia ha, fun _ _ _ => rfl⟩
theorem wfr.wJ (x : wfr A h g) {k : Nat} {v : Int64} : wfr A h (ah_wJ g (A + 2) k v) := x.tr ⟨⟨rfl, rfl, rfl, rfl⟩, fun _ _ _ => rfl, fun a j ha => rd_Ja ha⟩
theorem wfr.ext (x : wfr A h g) : ah_ext h g := ⟨by unfold ah_sz; rw [x.1.1]; exact Nat.le_refl _, fun a _ => ⟨by rw [x.1.2.1], by rw [x.1.2.2.1], fun k _ _ => by rw [x.1.2.2.2]⟩⟩
theorem askd.wf (x : askd h A W) (z : wfr A h g) : askd g A W := ⟨x.1.ext z.ext, by rw [z.1.2.2.2]; exact x.2.1, by rw [z.1.2.1]; exact x.2.2⟩
/-- all defs up to one are worked out -/
theorem c_works {d0 : Nat} (N : nmC h Lw nm) (D : LDs G A W Lw h nm Ds) (dp : ∀ i, i < nm.length → dep i (Ds.getD i pd0)) (hd : d0 < nm.length) (hA : A + 3 < Lw) (as : askd h A W)
    (K : ∀ g, wfr A h g → ads g A d0 = evL Ds (avs h A) (d0 + 1) d0 → Q (some (iv (if (evL Ds (avs h A) (d0 + 1) d0).isSome = true then 1 else 0))) g) :
    MX G mi_X17_works (d + 49) 0 [some (rv Lw), some (rv A), some (iv (nI d0)), none, none] [] h Q E := by
  have n10 := N.2.1
  refine v_X17_works (d := d + 48) N.1 as.1 ?_
  refine mx_up (α := Unit) (fun k _ => [some (rv Lw), some (rv A), some (iv (nI d0)), some (iv (nI k)), none]) (d0 + 1) (fun k _ g => wfr A h g ∧ ∀ j, j < k → ads g A j = evL Ds (avs h A) k j) (fun k _ g hk hI KK => ?_) (fun _ g hI => ?_) 0 () h (Nat.zero_le _) ⟨wfr.rf, fun j hj => by omega⟩
  · obtain ⟨z, q⟩ := hI
    have k10 : k < 10 := by omega
    refine v_X17_works_2 (d := d + 48) (N.1.ext z.ext) (as.1.ext z.ext) ⟨fun c => absurd c (by rw [i3_lt, nI_x (by omega), nI_x (by omega)]; omega), fun _ => ⟨vp_in_nI (by omega) (by decide), fun h5 e5 X5 => ?_⟩⟩
    rw [nI_clamp (by omega), show vp_nar .boolean (0 : Int32) = 0 from rfl] at e5
    rw [nI_clamp (by omega), nI_1, z.1.2.2.2]
    have z5 : wfr A h h5 := by rw [e5]; exact z.wI
    have i5 : ah_I h5 (A + 3) k = 0 := by rw [e5, rd_Ih]
    have q5 : ∀ j, j < k → ads h5 A j = evL Ds (avs h A) k j := fun j hj => by
      rw [← q j hj]; unfold ads; rw [e5, rd_II, rd_JI, if_neg (fun (y : A + 3 = A + 3 ∧ j = k) => by omega)]
    clear e5
    obtain ⟨T, lo, hi', t1, t2, t3, t4⟩ := D.2.2.2 k (by omega)
    rw [t1]
    have kT : ah_kd h5 T = ah_kd h T := by rw [z5.1.2.1]
    refine ⟨by obtain ⟨ci, c1, c2⟩ := t4.2.2.1; exact ⟨ci, c1, by rw [z.1.2.1]; exact c2⟩, ?_⟩
    rw [kT]
    have ea : avs h5 A = avs h A := by unfold avs; funext i; exact z5.2.2 _ _ (by omega)
    have ev : (Ds.getD k pd0) (avs h5 A) (ads h5 A) = evL Ds (avs h A) (k + 1) k := by
      rw [show evL Ds (avs h A) (k + 1) k = if k = k then (Ds.getD k pd0) (avs h A) (evL Ds (avs h A) k) else evL Ds (avs h A) k k from rfl, if_pos rfl, ea]
      exact dp k (by omega) _ _ _ _ (fun _ _ => rfl) q5
    refine t4.2.2.2 h5 d _ _ (fun a a1 a2 _ => ⟨by rw [z5.1.2.1], fun j _ => by rw [z5.1.2.2.2], fun j _ => z5.2.1 _ _ (by omega), fun j => z5.2.2 _ _ (by omega)⟩) (as.wf z5) (fun v hv => ?_) (fun hv => ?_)
    · intro _ h10 e10 _
      refine KK () h10 ⟨by rw [e10]; exact z5.wJ, fun j hj => ?_⟩
      unfold ads
      rw [e10, rd_IJ, rd_JJ]
      by_cases c : j = k
      · subst c
        rw [i5, if_pos rfl, if_pos ⟨rfl, rfl⟩, ← ev, hv]
      · rw [if_neg (fun (y : A + 2 = A + 2 ∧ j = k) => c y.2)]
        have := q5 j (by omega)
        unfold ads at this
        rw [this, show evL Ds (avs h A) (k + 1) j = if j = k then (Ds.getD k pd0) (avs h A) (evL Ds (avs h A) k) else evL Ds (avs h A) k j from rfl, if_neg c]
    · intro _
      refine ⟨(as.wf z5).2.2, v_X17_works_33 (d := d + 48) (N.1.ext z5.ext) (as.1.ext z5.ext) ⟨vp_in_nI (by omega) (by decide), fun h2 e2 _ => ?_⟩⟩
      rw [nI_clamp (by omega), show vp_nar .boolean (1 : Int32) = 1 from rfl] at e2
      rw [nI_1]
      refine KK () h2 ⟨by rw [e2]; exact z5.wI, fun j hj => ?_⟩
      unfold ads
      rw [e2, rd_II, rd_JI]
      by_cases c : j = k
      · subst c
        rw [if_pos (⟨rfl, rfl⟩ : A + 3 = A + 3 ∧ j = j), if_neg (show ¬ (1 : Int32) = 0 by decide), ← ev, hv]
      · rw [if_neg (fun (y : A + 3 = A + 3 ∧ j = k) => c y.2)]
        have := q5 j (by omega)
        unfold ads at this
        rw [this, show evL Ds (avs h A) (k + 1) j = if j = k then (Ds.getD k pd0) (avs h A) (evL Ds (avs h A) k) else evL Ds (avs h A) k j from rfl, if_neg c]
  · obtain ⟨z, q⟩ := hI
    have q := q d0 (by omega)
    have K := K g z q
    refine v_X17_works_2 (d := d + 48) (N.1.ext z.ext) (as.1.ext z.ext) ⟨fun _ => ⟨vp_in_nI (by omega) (by decide), fun c => ?_, fun c => ?_⟩, fun c => absurd (by rw [i3_lt, nI_x (by omega), nI_x (by omega)]; omega) c⟩
    · rw [nI_clamp (by omega)] at c
      unfold ads at q
      rw [if_neg c] at q
      rw [← q] at K
      exact K
    · rw [nI_clamp (by omega)] at c
      unfold ads at q
      rw [if_pos c] at q
      rw [← q] at K
      exact K
/-- the class's text in force -/
theorem c_lawOf (L : LY0 h X) (C : CI0 h X S) (T : CIk G h X S tx) (K : Q (some (rv (match foN (S.1 36) x1 (nT S) with
    | none => 0
    | some u => ah_R h (X + 1437) u))) h) : MX G mi_X0_lawOf d 0 [some (rv X), some (iv x1), none, none] [] h Q E := by
  have iT := C.iT
  have t4 := iT.2
  refine v_X0_lawOf L ?_
  refine mx_up (α := Unit) (fun k _ => [some (rv X), some (iv x1), some (rv (match foN (S.1 36) x1 k with
    | none => 0
    | some u => ah_R h (X + 1437) u)), some (iv (nI k))]) (nT S) (fun _ _ g => g = h) (fun k _ g hk hI KK => ?_) (fun _ g hI => ?_) 0 () h (Nat.zero_le _) rfl
  · subst hI
    have y := (T k (by omega)).1 hk
    refine v_X0_lawOf_4 L ⟨fun c => absurd c (by rw [iT.1, i3_le, nI_x (by omega), nI_x (by omega)]; omega), fun _ => ⟨vp_in_nI (by omega) (by decide), ?_⟩⟩
    rw [nI_clamp (by omega), nI_1, y.1.2.2.2]
    have KK := KK () g rfl
    rw [show foN (S.1 36) x1 (k + 1) = if (S.1 36 k).toInt ≤ x1.toInt ∧ (match foN (S.1 36) x1 k with
      | none => true
      | some b => decide ((S.1 36 b).toInt ≤ (S.1 36 k).toInt)) = true then some k else foN (S.1 36) x1 k from rfl] at KK
    refine ⟨ly17_k y.1.2.1.1, fun c => ?_, fun c => ⟨fun c2 => ?_, fun c2 => ?_⟩⟩
    · rw [i3_lt] at c
      rw [if_neg (by omega)] at KK
      exact KK
    · rw [i3_lt] at c
      cases e : foN (S.1 36) x1 k with
      | none =>
        rw [e] at KK
        simp only at KK
        rw [if_pos ⟨by omega, trivial⟩] at KK
        exact KK
      | some b =>
        rw [e] at c2
        simp only at c2
        have := (T b (by have := foN_lt e; omega)).1 (by have := foN_lt e; omega)
        have := this.1.1
        omega
    · rw [i3_lt] at c
      cases e : foN (S.1 36) x1 k with
      | none => rw [e] at c2; exact absurd rfl c2
      | some b =>
        rw [e] at KK
        simp only at KK ⊢
        have yb := (T b (by have := foN_lt e; omega)).1 (by have := foN_lt e; omega)
        rw [yb.1.2.2.2]
        refine ⟨ly17_k yb.1.2.1.1, fun c3 => ?_, fun c3 => ?_⟩
        · rw [i3_lt] at c3
          rw [if_neg (by rw [decide_eq_true_eq]; omega)] at KK
          exact KK
        · rw [i3_lt] at c3
          rw [if_pos ⟨by omega, by rw [decide_eq_true_eq]; omega⟩] at KK
          exact KK
  · subst hI
    exact v_X0_lawOf_4 L ⟨fun _ => K, fun c => absurd (by rw [iT.1, i3_le]; exact Int.le_refl _) c⟩
theorem ly0_L6 (L : LY0 h X) : LY6 h (X + 1433) := by
  refine ⟨ly0_K_1433 L, fun q hq => ?_⟩
  rw [show lyT6 = [(0, 7, 0, 1, 41, 11), (0, 7, 1, 2, 41, 10), (0, 7, 2, 3, 44, 10)] from rfl] at hq
  simp only [List.mem_cons, List.not_mem_nil, or_false] at hq
  rcases hq with hq | hq | hq
  · rw [hq]; exact ⟨ly0_K_1433 L, ly0_R_1433_0 L, ly0_K_1434 L, ly0_N_1434 L⟩
  · rw [hq]; exact ⟨ly0_K_1433 L, ly0_R_1433_1 L, ly0_K_1435 L, ly0_N_1435 L⟩
  · rw [hq]; exact ⟨ly0_K_1433 L, ly0_R_1433_2 L, ly0_K_1436 L, ly0_N_1436 L⟩
/-- what the text in force tells -/
theorem c_asks {w : Nat} {wo lo hi : Int64} (L : LY0 h X) (hw : wrd w) (T : CIk G h X S tx) (t4 : nT S ≤ 4) (ef : ah_R h X 23 = (match foN (S.1 36) x1 (nT S) with
    | none => 0
    | some u => ah_R h (X + 1437) u)) (K : ∀ g, wfr (X + 1433) h g → Q (some (jv (askS S tx (avs h (X + 1433)) x1 w wo lo hi))) g) :
    MX G mi_X0_asks (d + 50) 0 [some (rv X), some (jv (lN (n256 8 w))), none, some (jv wo), none, some (jv lo), none, some (jv hi), none, none] [] h Q E := by
  refine v_X0_asks (d := d + 49) L ?_
  unfold askS at K
  cases e : foN (S.1 36) x1 (nT S) with
  | none =>
    rw [e] at ef K
    simp only at ef K
    exact ⟨fun c => absurd ef c, fun _ => v_X0_asks_19 (d := d + 49) L ⟨fun _ => K h wfr.rf, fun c => absurd rfl c⟩⟩
  | some u =>
    rw [e] at ef K
    simp only at ef K
    have ul := foN_lt e
    obtain ⟨⟨y1, y2, y3, y4⟩, y5, y6, y7, y8, y9⟩ := (T u (by omega)).1 ul
    have n10 := y2.2.1
    rw [ef]
    refine ⟨fun _ => ⟨ly17_k y2.1, c_find17 y2 hw (fun x hx => ?_)⟩, fun c => by omega⟩
    intro _
    unfold asS at K
    rcases kix_bd w (tx u).1 0 with q | q
    · refine v_X0_asks_19 (d := d + 49) L ⟨fun _ => ?_, fun c => absurd ?_ c⟩
      · have := K h wfr.rf
        rw [if_neg (by omega)] at this
        exact this
      · rw [i3_eq, hx, q]; rfl
    · rw [if_pos (by omega)] at K
      refine v_X0_asks_19 (d := d + 49) L ⟨fun c => ?_, fun _ => ?_⟩
      · rw [c] at hx
        rw [← hx] at q
        exact absurd q.1 (by decide)
      rw [ef]
      obtain ⟨b1, b2⟩ := x_nI (x := x) (n := 10) (by omega) (by omega)
      have ek : (kix w (tx u).1 0).toNat = x.toNatClampNeg := by rw [← hx]; rfl
      rw [ek] at K
      have hd : x.toNatClampNeg < (tx u).1.length := by rw [← ek]; omega
      refine ⟨ly17_k y2.1, ?_⟩
      rw [b1]
      refine c_works (d := d) y2 y3 y8 hd (by omega) ⟨ly0_L6 L, ly0_R_1433_3 L, ly0_K_1430 L⟩ (fun g z ev => ?_)
      intro _
      have K := K g z
      rw [nI_clamp (by omega)]
      cases ee : evL (tx u).2 (avs h (X + 1433)) (x.toNatClampNeg + 1) x.toNatClampNeg with
      | none =>
        rw [ee] at K
        exact ⟨fun c => absurd rfl c, fun _ => K⟩
      | some v =>
        rw [ee] at K ev
        refine ⟨fun _ => ⟨vp_in_nI (by omega) (by decide), ?_⟩, fun c => absurd (show (1 : Int32) = 0 from c) (by decide)⟩
        have ej : ah_J g (X + 1435) x.toNatClampNeg = v := by
          unfold ads at ev
          by_cases c : ah_I g (X + 1433 + 3) x.toNatClampNeg = 0
          · rw [if_pos c] at ev; injection ev
          · rw [if_neg c] at ev; simp at ev
        rw [ej]; exact K
end

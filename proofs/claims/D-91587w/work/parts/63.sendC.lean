/-! ===== send: a bushel more, by the class ===== -/
def cn_l (x : Int) : Int := if x < 100000 then x else 100000000
theorem cn_l_lt {x : Int} (h : x < 100000) : cn_l x = x := if_pos h
theorem cn_l_ge {x : Int} (h : ¬ x < 100000) : cn_l x = 100000000 := if_neg h
def cn_h (g : ah_T) (X b o : Nat) (c : Nat → Nat → Int) (t : sn_T) : Prop := (∀ i, i < b → (ah_I g (X + 1488) i).toInt = t.1 i) ∧ (∀ j, j < o → (ah_I g (X + 1489) j).toInt = t.2.1 j) ∧ (∀ i j, i < b → j < o → (ah_I g (X + (1477 + i)) j).toInt = c i j) ∧ ∀ i j, i < b → j < o → (ah_I g (X + (1483 + i)) j).toInt = t.2.2 i j
def cn_v (g : ah_T) (X b o : Nat) (s : bf_S) : Prop := (∀ i, i < b → (ah_I g (X + 1490) i).toInt = cn_l (s.1 i) ∧ (ah_I g (X + 1492) i).toInt = if s.2 i = -1 then -1 else s.2 i - b) ∧ ∀ j, j < o → (ah_I g (X + 1491) j).toInt = cn_l (s.1 (b + j)) ∧ (s.2 (b + j) ≠ -1 → (ah_I g (X + 1493) j).toInt = s.2 (b + j))
def cn_f (b o : Nat) (c fl : Nat → Nat → Int) (hv : Nat → Int) (r k : Nat) (x : Int32) : Prop := (x = 0 ∧ sn_s b o c fl hv r k = sn_s b o c fl hv r 0 ∧ ∀ a ∈ sn_A b o c fl k, ¬ bf_on (sn_s b o c fl hv r 0) a) ∨ (x = 1 ∧ ¬ bf_fix (sn_A b o c fl (b * o)) (sn_s b o c fl hv r 0))
theorem i3_8 : (100000000 : Int32).toInt = 100000000 := by decide
section
variable {G : ma_G} {d X b o : Nat} {h g g' : ah_T} {Q : Option ma_V → ah_T → Prop} {E : Nat → ah_T → Prop} {c : Nat → Nat → Int} {t : sn_T} {s : bf_S}
theorem cn_h.ch (hb : b ≤ 5) (x : cn_h g X b o c t) (m : crg X 1490 1494 g g') : cn_h g' X b o c t :=
  ⟨fun i hi => by rw [m.2.2.2.2.2 _ _ (by omega)]; exact x.1 i hi, fun i hi => by rw [m.2.2.2.2.2 _ _ (by omega)]; exact x.2.1 i hi, fun i j hi hj => by rw [m.2.2.2.2.2 _ _ (by omega)]; exact x.2.2.1 i j hi hj, fun i j hi hj => by rw [m.2.2.2.2.2 _ _ (by omega)]; exact x.2.2.2 i j hi hj⟩
/-- an arc from a bin to an order -/
theorem cn_v_o {i j : Nat} {w : Int} {x y : Int32} (hi : i < b) (V : cn_v g X b o s) (q : bf_on s (i, b + j, w)) (hs : s.1 (b + j) ≤ 100000) (hx : x.toInt = s.1 i + w) (hy : y.toInt = i) : cn_v (ah_wI (ah_wI g (X + 1491) j x) (X + 1493) j y) X b o (bf_rx s (i, b + j, w)) := by
  rw [bf_rx_on q]
  have q2 : s.1 i + w < s.1 (b + j) := q.2
  refine ⟨fun k hk => ?_, fun k hk => ?_⟩
  · show (ah_I _ (X + 1490) k).toInt = cn_l (bf_up s.1 (b + j) (s.1 i + w) k) ∧ (ah_I _ (X + 1492) k).toInt = if bf_up s.2 (b + j) i k = -1 then -1 else bf_up s.2 (b + j) i k - b
    rw [rd_Ia (by omega), rd_Ia (by omega), rd_Ia (by omega), rd_Ia (by omega), bf_up_ne _ _ (by omega), bf_up_ne _ _ (by omega)]
    exact V.1 k hk
  · show (ah_I _ (X + 1491) k).toInt = cn_l (bf_up s.1 (b + j) (s.1 i + w) (b + k)) ∧ (bf_up s.2 (b + j) i (b + k) ≠ -1 → (ah_I _ (X + 1493) k).toInt = bf_up s.2 (b + j) i (b + k))
    rw [rd_Ia (by omega), rd_II, rd_II]
    by_cases e : k = j
    · subst e
      rw [if_pos ⟨rfl, rfl⟩, if_pos ⟨rfl, rfl⟩, bf_up_same, bf_up_same, cn_l_lt (by omega)]
      exact ⟨hx, fun _ => hy⟩
    · rw [if_neg (fun q => e q.2), if_neg (fun q => e q.2), bf_up_ne _ _ (by omega), bf_up_ne _ _ (by omega), rd_Ia (by omega)]
      exact V.2 k hk
/-- an arc from an order to a bin -/
theorem cn_v_b {i j : Nat} {w : Int} {x y : Int32} (hi : i < b) (V : cn_v g X b o s) (q : bf_on s (b + j, i, w)) (hs : s.1 i ≤ 100000) (hx : x.toInt = s.1 (b + j) + w) (hy : y.toInt = j) : cn_v (ah_wI (ah_wI g (X + 1490) i x) (X + 1492) i y) X b o (bf_rx s (b + j, i, w)) := by
  rw [bf_rx_on q]
  have q2 : s.1 (b + j) + w < s.1 i := q.2
  refine ⟨fun k hk => ?_, fun k hk => ?_⟩
  · show (ah_I _ (X + 1490) k).toInt = cn_l (bf_up s.1 i (s.1 (b + j) + w) k) ∧ (ah_I _ (X + 1492) k).toInt = if bf_up s.2 i (b + j : Nat) k = -1 then -1 else bf_up s.2 i (b + j : Nat) k - b
    rw [rd_Ia (by omega), rd_II, rd_II]
    by_cases e : k = i
    · subst e
      rw [if_pos ⟨rfl, rfl⟩, if_pos ⟨rfl, rfl⟩, bf_up_same, bf_up_same, cn_l_lt (by omega), if_neg (by omega)]
      exact ⟨hx, by rw [hy]; omega⟩
    · rw [if_neg (fun q => e q.2), if_neg (fun q => e q.2), bf_up_ne _ _ e, bf_up_ne _ _ e, rd_Ia (by omega)]
      exact V.1 k hk
  · show (ah_I _ (X + 1491) k).toInt = cn_l (bf_up s.1 i (s.1 (b + j) + w) (b + k)) ∧ (bf_up s.2 i (b + j : Nat) (b + k) ≠ -1 → (ah_I _ (X + 1493) k).toInt = bf_up s.2 i (b + j : Nat) (b + k))
    rw [rd_Ia (by omega), rd_Ia (by omega), rd_Ia (by omega), rd_Ia (by omega), bf_up_ne _ _ (by omega), bf_up_ne _ _ (by omega)]
    exact V.2 k hk
theorem c_find_84s {r i j : Nat} {x3 : Int32} {p : Nat → Int} (C : sn_C b o c) (P : sn_P b o c t.2.2 p) (hb : b ≤ 5) (ho : o ≤ 4) (hr : r ≤ 9) (hi : i < b) (hj : j < o) (L : LY0 g X) (V : cn_v g X b o (sn_s b o c t.2.2 t.1 r (o * i + j))) (F : cn_f b o c t.2.2 t.1 r (o * i + j) x3) (H : cn_h g X b o c t)
    (K : ∀ g' x', crg X 1490 1494 g g' → cn_v g' X b o (sn_s b o c t.2.2 t.1 r (o * i + j + 1)) → cn_f b o c t.2.2 t.1 r (o * i + j + 1) x' → MX G mi_X0_find d 84 [some (rv X), some (iv (nI b)), some (iv (nI o)), some (iv x'), some (iv (nI i)), some (iv (nI (j + 1)))] [] g' Q E) :
    MX G mi_X0_find d 84 [some (rv X), some (iv (nI b)), some (iv (nI o)), some (iv x3), some (iv (nI i)), some (iv (nI j))] [] g Q E := by
  have hk := sn_ij_lt hi hj
  obtain ⟨k1, k2⟩ := sn_ij (i := i) hj
  have BD := (sn_bd (hv := t.1) C P hb ho hr (Nat.le_of_lt hk)).2
  have ea : sn_a b o c t.2.2 (o * i + j) = (i, b + j, c i j) :: (if 0 < t.2.2 i j then [(b + j, i, - c i j)] else []) := by unfold sn_a; rw [k1, k2]
  have em : ∀ a ∈ sn_a b o c t.2.2 (o * i + j), a ∈ sn_A b o c t.2.2 (b * o) := fun a ha => sn_A_mem.2 ⟨_, hk, ha⟩
  have eA : sn_A b o c t.2.2 (o * i + j + 1) = sn_A b o c t.2.2 (o * i + j) ++ sn_a b o c t.2.2 (o * i + j) := rfl
  have eS := sn_sk (b := b) (o := o) (c := c) (fl := t.2.2) (hv := t.1) r (o * i + j)
  rw [eS] at K
  have hc := C i j hi hj
  have hc2 : (ah_I g (X + (1477 + i)) j).toInt = c i j := H.2.2.1 i j hi hj
  have hf : (ah_I g (X + (1483 + i)) j).toInt = t.2.2 i j := H.2.2.2 i j hi hj
  -- the flag: on tells that the round began not still
  have fon : ∀ s1 a, (s1 = sn_s b o c t.2.2 t.1 r (o * i + j) ∨ ¬ bf_fix (sn_A b o c t.2.2 (b * o)) (sn_s b o c t.2.2 t.1 r 0)) → a ∈ sn_a b o c t.2.2 (o * i + j) → bf_on s1 a → ¬ bf_fix (sn_A b o c t.2.2 (b * o)) (sn_s b o c t.2.2 t.1 r 0) := by
    intro s1 a e ha on
    rcases e with e | e
    · subst e
      rcases F with ⟨-, f2, -⟩ | ⟨-, f2⟩
      · rw [f2] at on
        exact fun z => z a (em a ha) on
      · exact f2
    · exact e
  have hi5 : i < 5 := by omega
  have hj4 : j < 4 := by omega
  have T : ∀ g1 s1 x', crg X 1490 1494 g g1 → s1 = bf_rx (sn_s b o c t.2.2 t.1 r (o * i + j)) (i, b + j, c i j) → cn_v g1 X b o s1 → ((¬ bf_on (sn_s b o c t.2.2 t.1 r (o * i + j)) (i, b + j, c i j) ∧ x' = x3) ∨ (x' = 1 ∧ ¬ bf_fix (sn_A b o c t.2.2 (b * o)) (sn_s b o c t.2.2 t.1 r 0))) →
      MX G mi_X0_find d 167 [some (rv X), some (iv (nI b)), some (iv (nI o)), some (iv x'), some (iv (nI i)), some (iv (nI j))] [] g1 Q E := by
    intro g1 s1 x' m es V1 F1
    have wi := (V1.1 i hi).1
    have wj := (V1.2 j hj).1
    have si := BD i (by omega)
    have sj := BD (b + j) (by omega)
    have ci : s1.1 i = (sn_s b o c t.2.2 t.1 r (o * i + j)).1 i := by
      rw [es]
      by_cases q : bf_on (sn_s b o c t.2.2 t.1 r (o * i + j)) (i, b + j, c i j)
      · rw [bf_rx_on q]; exact bf_up_ne _ _ (by show i ≠ b + j; omega)
      · rw [bf_rx_off q]
    have cj : -900 ≤ s1.1 (b + j) ∧ s1.1 (b + j) ≤ 100000 := by
      rw [es]
      by_cases q : bf_on (sn_s b o c t.2.2 t.1 r (o * i + j)) (i, b + j, c i j)
      · rw [bf_rx_on q]
        have q2 : (sn_s b o c t.2.2 t.1 r (o * i + j)).1 i + c i j < (sn_s b o c t.2.2 t.1 r (o * i + j)).1 (b + j) := q.2
        show -900 ≤ bf_up _ (b + j) ((sn_s b o c t.2.2 t.1 r (o * i + j)).1 i + c i j) (b + j) ∧ bf_up _ (b + j) ((sn_s b o c t.2.2 t.1 r (o * i + j)).1 i + c i j) (b + j) ≤ 100000
        rw [bf_up_same]
        omega
      · rw [bf_rx_off q]; omega
    have off : ¬ (0 < t.2.2 i j ∧ bf_on s1 (b + j, i, - c i j)) → bf_rd (sn_a b o c t.2.2 (o * i + j)) (sn_s b o c t.2.2 t.1 r (o * i + j)) = s1 := by
      intro z
      rw [ea]
      by_cases q : 0 < t.2.2 i j
      · rw [if_pos q]
        show bf_rx (bf_rx _ _) _ = s1
        rw [← es]
        exact bf_rx_off (fun w => z ⟨q, w⟩)
      · rw [if_neg q]
        exact es.symm
    have Foff : ¬ (0 < t.2.2 i j ∧ bf_on s1 (b + j, i, - c i j)) → cn_f b o c t.2.2 t.1 r (o * i + j + 1) x' := by
      intro z
      rcases F1 with ⟨f1, f2⟩ | f1
      · have e1 : s1 = sn_s b o c t.2.2 t.1 r (o * i + j) := by rw [es, bf_rx_off f1]
        rcases F with ⟨y1, y2, y3⟩ | y
        · refine Or.inl ⟨f2.trans y1, ?_, fun a ha => ?_⟩
          · rw [eS, off z, e1, y2]
          · rw [eA] at ha
            rcases List.mem_append.1 ha with q | q
            · exact y3 a q
            · rw [ea] at q
              rw [← y2]
              rcases List.mem_cons.1 q with q | q
              · rw [q]; exact f1
              · by_cases w : 0 < t.2.2 i j
                · rw [if_pos w] at q
                  rw [List.mem_singleton.1 q, ← e1]
                  exact fun u => z ⟨w, u⟩
                · rw [if_neg w] at q; exact absurd q List.not_mem_nil
        · exact Or.inr ⟨f2.trans y.1, y.2⟩
      · exact Or.inr f1
    have hf1 : (ah_I g1 (X + (1483 + i)) j).toInt = t.2.2 i j := by rw [m.2.2.2.2.2 _ _ (by omega)]; exact hf
    have hc3 : (ah_I g1 (X + (1477 + i)) j).toInt = c i j := by rw [m.2.2.2.2.2 _ _ (by omega)]; exact hc2
    refine v_X0_find_167 (L.ext m.ext) ?_
    rw [nI_clamp (n := i) (by omega), nI_clamp (n := j) (by omega), nI_1]
    refine ⟨vp_in_nI hi5 (by decide), vp_in_nI hj4 (by decide), fun q => ?_, fun q => ?_⟩
    · rw [i3_le, hf1, i3_0] at q
      have z : ¬ (0 < t.2.2 i j ∧ bf_on s1 (b + j, i, - c i j)) := fun z => by have := z.1; omega
      exact K g1 x' m (by rw [off z]; exact V1) (Foff z)
    · rw [i3_le, hf1, i3_0] at q
      refine ⟨fun q2 => ?_, fun q2 => ?_⟩
      · rw [i3_le, wj, i3_8] at q2
        have z : ¬ (0 < t.2.2 i j ∧ bf_on s1 (b + j, i, - c i j)) := fun z => by
          have z : s1.1 (b + j) < 100000 := z.2.1
          rw [cn_l_lt z] at q2
          omega
        exact K g1 x' m (by rw [off z]; exact V1) (Foff z)
      · rw [i3_le, wj, i3_8] at q2
        have q2' : s1.1 (b + j) < 100000 := by
          apply Classical.byContradiction
          intro z
          rw [cn_l_ge z] at q2
          omega
        have wj' : (ah_I g1 (X + 1491) j).toInt = s1.1 (b + j) := by rw [wj, cn_l_lt q2']
        have sb : (ah_I g1 (X + 1491) j - ah_I g1 (X + (1477 + i)) j).toInt = s1.1 (b + j) - c i j := by
          rw [i3_sb (by rw [wj', hc3]; omega) (by rw [wj', hc3]; omega), wj', hc3]
        have li : cn_l (s1.1 i) ≤ s1.1 (b + j) - c i j ↔ s1.1 i ≤ s1.1 (b + j) - c i j := by
          by_cases w : s1.1 i < 100000
          · rw [cn_l_lt w]
          · rw [cn_l_ge w]; omega
        refine ⟨fun q3 => ?_, fun q3 => ?_⟩
        · rw [i3_le, sb, wi, li] at q3
          have z : ¬ (0 < t.2.2 i j ∧ bf_on s1 (b + j, i, - c i j)) := fun z => by
            have z : s1.1 (b + j) + - c i j < s1.1 i := z.2.2
            omega
          exact K g1 x' m (by rw [off z]; exact V1) (Foff z)
        · rw [i3_le, sb, wi, li] at q3
          intro h6 e6 _ h7 e7 _
          have on : bf_on s1 (b + j, i, - c i j) := ⟨q2', by show s1.1 (b + j) + - c i j < s1.1 i; omega⟩
          have hp : 0 < t.2.2 i j := by omega
          have es2 : bf_rd (sn_a b o c t.2.2 (o * i + j)) (sn_s b o c t.2.2 t.1 r (o * i + j)) = bf_rx s1 (b + j, i, - c i j) := by
            rw [ea, if_pos hp]
            show bf_rx (bf_rx _ _) _ = _
            rw [← es]
          subst e6; subst e7
          refine K _ _ ((m.wI (by decide) (by decide)).wI (by decide) (by decide)) ?_ (Or.inr ⟨rfl, ?_⟩)
          · rw [es2]
            exact cn_v_b hi V1 on (by rw [ci]; exact si.2.1) (by rw [sb]; omega) (nI_x (by omega))
          · rcases F1 with ⟨f1, f2⟩ | f1
            · exact fon s1 _ (Or.inl (by rw [es, bf_rx_off f1])) (by rw [ea, if_pos hp]; simp) on
            · exact f1.2
  have si := BD i (by omega)
  have sj := BD (b + j) (by omega)
  have vi := (V.1 i hi).1
  have vj := (V.2 j hj).1
  refine v_X0_find_84 L ⟨fun q => absurd q (nI_ge hj (by omega)), fun _ => ?_⟩
  rw [nI_clamp (n := i) (by omega), nI_clamp (n := j) (by omega)]
  refine ⟨vp_in_nI hi5 (by decide), fun q => ?_, fun q => ?_⟩
  · rw [i3_le, vi, i3_8] at q
    have z : ¬ bf_on (sn_s b o c t.2.2 t.1 r (o * i + j)) (i, b + j, c i j) := fun z => by
      have z : (sn_s b o c t.2.2 t.1 r (o * i + j)).1 i < 100000 := z.1
      rw [cn_l_lt z] at q
      omega
    exact T g _ x3 crg.rf (by rw [bf_rx_off z]) V (Or.inl ⟨z, rfl⟩)
  · rw [i3_le, vi, i3_8] at q
    have q' : (sn_s b o c t.2.2 t.1 r (o * i + j)).1 i < 100000 := by
      apply Classical.byContradiction
      intro z
      rw [cn_l_ge z] at q
      omega
    have vi' : (ah_I g (X + 1490) i).toInt = (sn_s b o c t.2.2 t.1 r (o * i + j)).1 i := by rw [vi, cn_l_lt q']
    have q'' := si.2.2 q'
    have ad : (ah_I g (X + 1490) i + ah_I g (X + (1477 + i)) j).toInt = (sn_s b o c t.2.2 t.1 r (o * i + j)).1 i + c i j := by
      rw [i3_ad (by rw [vi', hc2]; omega) (by rw [vi', hc2]; omega), vi', hc2]
    have lj : cn_l ((sn_s b o c t.2.2 t.1 r (o * i + j)).1 (b + j)) ≤ (sn_s b o c t.2.2 t.1 r (o * i + j)).1 i + c i j ↔ (sn_s b o c t.2.2 t.1 r (o * i + j)).1 (b + j) ≤ (sn_s b o c t.2.2 t.1 r (o * i + j)).1 i + c i j := by
      by_cases w : (sn_s b o c t.2.2 t.1 r (o * i + j)).1 (b + j) < 100000
      · rw [cn_l_lt w]
      · rw [cn_l_ge w]; omega
    refine ⟨vp_in_nI hj4 (by decide), fun q2 => ?_, fun q2 => ?_⟩
    · rw [i3_le, ad, vj, lj] at q2
      have z : ¬ bf_on (sn_s b o c t.2.2 t.1 r (o * i + j)) (i, b + j, c i j) := fun z => by
        have z : (sn_s b o c t.2.2 t.1 r (o * i + j)).1 i + c i j < (sn_s b o c t.2.2 t.1 r (o * i + j)).1 (b + j) := z.2
        omega
      exact T g _ x3 crg.rf (by rw [bf_rx_off z]) V (Or.inl ⟨z, rfl⟩)
    · rw [i3_le, ad, vj, lj] at q2
      intro h6 e6 _ h7 e7 _
      have on : bf_on (sn_s b o c t.2.2 t.1 r (o * i + j)) (i, b + j, c i j) := ⟨q', by show (sn_s b o c t.2.2 t.1 r (o * i + j)).1 i + c i j < (sn_s b o c t.2.2 t.1 r (o * i + j)).1 (b + j); omega⟩
      subst e6; subst e7
      exact T _ _ _ ((crg.rf.wI (by decide) (by decide)).wI (by decide) (by decide)) rfl (cn_v_o hi V on sj.2.1 ad (nI_x (by omega))) (Or.inr ⟨rfl, fon _ _ (Or.inl rfl) (by rw [ea]; exact List.mem_cons_self) on⟩)
/-- a round -/
theorem c_find_75 {r : Nat} {p : Nat → Int} (C : sn_C b o c) (P : sn_P b o c t.2.2 p) (hb : b ≤ 5) (ho : o ≤ 4) (hr : r ≤ 9) (L : LY0 g X) (V : cn_v g X b o (sn_s b o c t.2.2 t.1 r 0)) (H : cn_h g X b o c t)
    (K : ∀ g' x', crg X 1490 1494 g g' → cn_v g' X b o (sn_s b o c t.2.2 t.1 (r + 1) 0) → cn_f b o c t.2.2 t.1 r (b * o) x' → MX G mi_X0_find d 66 [some (rv X), some (iv (nI b)), some (iv (nI o)), some (iv x'), none, none] [] g' Q E) :
    MX G mi_X0_find d 75 [some (rv X), some (iv (nI b)), some (iv (nI o)), some (iv 0), some (iv 0), none] [] g Q E := by
  refine mx_up (α := Int32) (fun i x => [some (rv X), some (iv (nI b)), some (iv (nI o)), some (iv x), some (iv (nI i)), none]) b (fun i x g' => crg X 1490 1494 g g' ∧ cn_v g' X b o (sn_s b o c t.2.2 t.1 r (o * i)) ∧ cn_f b o c t.2.2 t.1 r (o * i) x) (fun i x g1 hi hI KK => ?_) (fun x g1 hI => ?_) 0 0 g (Nat.zero_le _) ⟨crg.rf, V, Or.inl ⟨rfl, rfl, fun a ha => absurd ha List.not_mem_nil⟩⟩
  · obtain ⟨m, V1, F1⟩ := hI
    refine v_X0_find_75 (L.ext m.ext) ⟨fun q => absurd q (nI_ge hi (by omega)), fun _ => ?_⟩
    refine mx_up (α := Int32) (fun j x => [some (rv X), some (iv (nI b)), some (iv (nI o)), some (iv x), some (iv (nI i)), some (iv (nI j))]) o (fun j x g' => crg X 1490 1494 g g' ∧ cn_v g' X b o (sn_s b o c t.2.2 t.1 r (o * i + j)) ∧ cn_f b o c t.2.2 t.1 r (o * i + j) x) (fun j x g2 hj hI2 KK2 => ?_) (fun x g2 hI2 => ?_) 0 x g1 (Nat.zero_le _) ⟨m, V1, F1⟩
    · obtain ⟨m2, V2, F2⟩ := hI2
      exact c_find_84s C P hb ho hr hi hj (L.ext m2.ext) V2 F2 (H.ch hb m2) (fun g3 x3 m3 V3 F3 => KK2 x3 g3 ⟨m2.tr m3, V3, F3⟩)
    · obtain ⟨m2, V2, F2⟩ := hI2
      refine v_X0_find_84 (L.ext m2.ext) ⟨fun _ => ?_, fun q => absurd (nI_le (Nat.le_refl _) (by omega)) q⟩
      rw [nI_1]
      refine KK x g2 ⟨m2, ?_, ?_⟩
      · rw [Nat.mul_add]; rwa [Nat.mul_one]
      · rw [Nat.mul_add]; rwa [Nat.mul_one]
  · obtain ⟨m, V1, F1⟩ := hI
    rw [Nat.mul_comm] at V1 F1
    exact v_X0_find_75 (L.ext m.ext) ⟨fun _ => K g1 x m V1 F1, fun q => absurd (nI_le (Nat.le_refl _) (by omega)) q⟩
theorem c_find_66 {p : Nat → Int} (C : sn_C b o c) (P : sn_P b o c t.2.2 p) (hb : b ≤ 5) (ho : o ≤ 4) (h1 : 1 ≤ b) (L : LY0 g X) (V : cn_v g X b o (sn_s b o c t.2.2 t.1 0 0)) (H : cn_h g X b o c t)
    (K : ∀ g', crg X 1490 1494 g g' → cn_v g' X b o (sn_F b o c t.2.2 t.1) → Q none g') :
    MX G mi_X0_find d 66 [some (rv X), some (iv (nI b)), some (iv (nI o)), some (iv 1), none, none] [] g Q E := by
  refine mx_ind (α := Nat × Int32) (fun z => [some (rv X), some (iv (nI b)), some (iv (nI o)), some (iv z.2), none, none]) (fun z g' => crg X 1490 1494 g g' ∧ ((z.2 = 1 ∧ z.1 ≤ b + o - 1 ∧ cn_v g' X b o (sn_s b o c t.2.2 t.1 z.1 0)) ∨ (z.2 = 0 ∧ cn_v g' X b o (sn_F b o c t.2.2 t.1)))) (fun z => b + o + 1 - z.1) (fun z g1 hI KK => ?_) (0, 1) g ⟨crg.rf, Or.inl ⟨rfl, Nat.zero_le _, V⟩⟩
  obtain ⟨m, hI⟩ := hI
  refine v_X0_find_66 (L.ext m.ext) ?_
  rcases hI with ⟨e1, e2, V1⟩ | ⟨e1, V1⟩
  · rw [e1]
    refine ⟨fun q => absurd q (by decide), fun _ => ?_⟩
    refine c_find_75 C P hb ho (by omega) (L.ext m.ext) V1 (H.ch hb m) (fun g2 x2 m2 V2 F2 => ?_)
    rcases F2 with ⟨f1, f2, f3⟩ | ⟨f1, f2⟩
    · refine KK (z.1 + 1, x2) g2 (by show b + o + 1 - (z.1 + 1) < _; omega) ⟨m.tr m2, Or.inr ⟨f1, ?_⟩⟩
      have fx : bf_fix (sn_A b o c t.2.2 (b * o)) (sn_s b o c t.2.2 t.1 z.1 0) := f3
      have y1 := sn_stay fx (r' := b + o) (by omega)
      have y2 := sn_stay fx (r' := z.1 + 1) (by omega)
      show cn_v g2 X b o (sn_s b o c t.2.2 t.1 (b + o) 0)
      rw [y1, ← y2]
      exact V2
    · refine KK (z.1 + 1, x2) g2 (by show b + o + 1 - (z.1 + 1) < _; omega) ⟨m.tr m2, Or.inl ⟨f1, ?_, V2⟩⟩
      show z.1 + 1 ≤ b + o - 1
      have : z.1 ≠ b + o - 1 := fun e => f2 (by rw [e]; exact sn_fix C P)
      omega
  · rw [e1]
    exact ⟨fun _ => K g1 m V1, fun q => absurd rfl q⟩
theorem c_find {p : Nat → Int} (C : sn_C b o c) (P : sn_P b o c t.2.2 p) (hb : b ≤ 5) (ho : o ≤ 4) (h1 : 1 ≤ b) (L : LY0 h X) (H : cn_h h X b o c t)
    (K : ∀ g', crg X 1490 1494 h g' → cn_v g' X b o (sn_F b o c t.2.2 t.1) → Q none g') :
    MX G mi_X0_find d 0 [some (rv X), some (iv (nI b)), some (iv (nI o)), none, none, none] [] h Q E := by
  refine v_X0_find L ?_
  refine mx_up (α := Unit) (fun k _ => [some (rv X), some (iv (nI b)), some (iv (nI o)), some (iv (nI k)), none, none]) b (fun k _ g => crg X 1490 1494 h g ∧ ∀ i, i < k → (ah_I g (X + 1490) i).toInt = cn_l (sn_f0 b t.1 i) ∧ (ah_I g (X + 1492) i).toInt = -1) (fun k _ g hk hI KK => ?_) (fun _ g hI => ?_) 0 () h (Nat.zero_le _) ⟨crg.rf, fun j hj => absurd hj (Nat.not_lt_zero _)⟩
  · obtain ⟨m, V⟩ := hI
    have fin : ∀ x : Int32, x.toInt = cn_l (sn_f0 b t.1 k) → MX G mi_X0_find d 2 [some (rv X), some (iv (nI b)), some (iv (nI o)), some (iv (nI (k + 1))), none, none] [] (ah_wI (ah_wI g (X + 1490) k x) (X + 1492) k (-1)) Q E := fun x hx => by
      refine KK () _ ⟨(m.wI (by decide) (by decide)).wI (by decide) (by decide), fun v hv => ?_⟩
      rw [rd_Ia (by omega), rd_II, rd_II]
      by_cases e : v = k
      · subst e; rw [if_pos ⟨rfl, rfl⟩, if_pos ⟨rfl, rfl⟩]; exact ⟨hx, tm_1⟩
      · rw [if_neg (fun q => e q.2), if_neg (fun q => e q.2), rd_Ia (by omega)]; exact V v (by omega)
    have hh : (ah_I g (X + 1488) k).toInt = t.1 k := by rw [m.2.2.2.2.2 _ _ (by omega)]; exact H.1 k hk
    refine v_X0_find_2 (L.ext m.ext) ⟨fun q => absurd q (nI_ge hk (by omega)), fun _ => ?_⟩
    rw [nI_1, nI_clamp (n := k) (by omega)]
    refine ⟨vp_in_nI (by omega) (by decide), fun q2 h4 e4 _ h5 e5 _ => ?_, fun q2 h4 e4 _ h5 e5 _ => ?_⟩
    · rw [i3_le, hh, i3_0] at q2
      subst e4; subst e5
      exact fin _ (by unfold sn_f0; rw [if_neg (by omega)]; decide)
    · rw [i3_le, hh, i3_0] at q2
      subst e4; subst e5
      exact fin _ (by unfold sn_f0; rw [if_pos (by omega)]; decide)
  · obtain ⟨m, V⟩ := hI
    refine v_X0_find_2 (L.ext m.ext) ⟨fun _ => ?_, fun q => absurd (nI_le (Nat.le_refl _) (by omega)) q⟩
    refine mx_up (α := Unit) (fun k _ => [some (rv X), some (iv (nI b)), some (iv (nI o)), some (iv (nI k)), none, none]) o (fun k _ g => crg X 1490 1494 h g ∧ (∀ i, i < b → (ah_I g (X + 1490) i).toInt = cn_l (sn_f0 b t.1 i) ∧ (ah_I g (X + 1492) i).toInt = -1) ∧ ∀ j, j < k → (ah_I g (X + 1491) j).toInt = 100000000) (fun k _ g hk hI KK => ?_) (fun _ g hI => ?_) 0 () g (Nat.zero_le _) ⟨m, V, fun j hj => absurd hj (Nat.not_lt_zero _)⟩
    · obtain ⟨m, V, W⟩ := hI
      refine v_X0_find_44 (L.ext m.ext) ⟨fun q => absurd q (nI_ge hk (by omega)), fun _ => ?_⟩
      rw [nI_1, nI_clamp (n := k) (by omega)]
      refine ⟨vp_in_nI (by omega) (by decide), fun h4 e4 _ => ?_⟩
      subst e4
      refine KK () _ ⟨m.wI (by decide) (by decide), fun i hi => ?_, fun j hj => ?_⟩
      · rw [rd_Ia (by omega), rd_Ia (by omega)]; exact V i hi
      · rw [rd_II]
        by_cases e : j = k
        · rw [if_pos ⟨rfl, e⟩]; exact i3_8
        · rw [if_neg (fun q => e q.2)]; exact W j (by omega)
    · obtain ⟨m, V, W⟩ := hI
      refine v_X0_find_44 (L.ext m.ext) ⟨fun _ => ?_, fun q => absurd (nI_le (Nat.le_refl _) (by omega)) q⟩
      refine c_find_66 C P hb ho h1 (L.ext m.ext) ⟨fun i hi => ⟨(V i hi).1, (V i hi).2⟩, fun j hj => ⟨?_, fun q => absurd rfl q⟩⟩ (H.ch hb m) (fun g2 m2 V2 => K g2 (m.tr m2) V2)
      rw [W j hj]
      show _ = cn_l (sn_f0 b t.1 (b + j))
      unfold sn_f0
      rw [if_neg (by omega)]
      decide
end

/-! ===== send: a bushel more, by the model ===== -/
theorem i3_ad {a b : Int32} (h0 : -2147483648 ≤ a.toInt + b.toInt) (h1 : a.toInt + b.toInt < 2147483648) : (a + b).toInt = a.toInt + b.toInt := by
  rw [Int32.toInt_add]
  exact Int.bmod_eq_of_le (by omega) (by omega)
theorem i3_sb {a b : Int32} (h0 : -2147483648 ≤ a.toInt - b.toInt) (h1 : a.toInt - b.toInt < 2147483648) : (a - b).toInt = a.toInt - b.toInt := by
  rw [Int32.toInt_sub]
  exact Int.bmod_eq_of_le (by omega) (by omega)
theorem i3_nI {x : Int32} {y : Nat} (h : x.toInt = (y : Int)) (hy : y < 2147483648) : x = nI y := by rw [i3_eq, nI_x hy, h]
theorem i3_1 : (1 : Int32).toInt = 1 := by decide
theorem i3_0 : (0 : Int32).toInt = 0 := by decide
theorem i3_5 : (100000 : Int32).toInt = 100000 := by decide
/-- the model's rows -/
def sn_h (g : ah_T) (M b o : Nat) (c : Nat → Nat → Int) (t : sn_T) : Prop := (∀ i, i < b → (ah_I g (M + 71) i).toInt = t.1 i) ∧ (∀ j, j < o → (ah_I g (M + 72) j).toInt = t.2.1 j) ∧ (∀ i j, i < b → j < o → (ah_I g (M + 73) (o * i + j)).toInt = c i j) ∧ ∀ i j, i < b → j < o → (ah_I g (M + 74) (o * i + j)).toInt = t.2.2 i j
def sn_v (g : ah_T) (M N : Nat) (s : bf_S) : Prop := ∀ v, v < N → (ah_I g (M + 75) v).toInt = s.1 v ∧ (ah_I g (M + 76) v).toInt = s.2 v
section
variable {G : ma_G} {d M b o : Nat} {h g g' : ah_T} {Q : Option ma_V → ah_T → Prop} {E : Nat → ah_T → Prop} {c : Nat → Nat → Int} {t : sn_T} {s : bf_S} {N : Nat}
theorem sn_h.ch (x : sn_h g M b o c t) (m : mch [75, 76] [] M g g') : sn_h g' M b o c t :=
  ⟨fun i hi => by rw [m.ar 71 (by decide) (by decide)]; exact x.1 i hi, fun i hi => by rw [m.ar 72 (by decide) (by decide)]; exact x.2.1 i hi, fun i j hi hj => by rw [m.ar 73 (by decide) (by decide)]; exact x.2.2.1 i j hi hj, fun i j hi hj => by rw [m.ar 74 (by decide) (by decide)]; exact x.2.2.2 i j hi hj⟩
theorem sn_v_on {u v : Nat} {w : Int} {x y : Int32} (V : sn_v g M N s) (q : bf_on s (u, v, w)) (hx : x.toInt = s.1 u + w) (hy : y.toInt = u) : sn_v (ah_wI (ah_wI g (M + 75) v x) (M + 76) v y) M N (bf_rx s (u, v, w)) := by
  rw [bf_rx_on q]
  intro z hz
  show (ah_I _ (M + 75) z).toInt = bf_up s.1 v (s.1 u + w) z ∧ (ah_I _ (M + 76) z).toInt = bf_up s.2 v u z
  rw [rd_Ia (by omega), rd_II, rd_II]
  by_cases e : z = v
  · subst e; rw [if_pos ⟨rfl, rfl⟩, if_pos ⟨rfl, rfl⟩, bf_up_same, bf_up_same]; exact ⟨hx, hy⟩
  · rw [if_neg (fun q => e q.2), if_neg (fun q => e q.2), bf_up_ne _ _ e, bf_up_ne _ _ e, rd_Ia (by omega)]; exact V z hz
theorem m_bushel_326 {bs : Nat} {hv wt : Nat → Int} (hb : b ≤ 5) (ho : o ≤ 4) (hbs : bs < o) (BI : sn_bi b o s.2) : ∀ {l : List Nat} {v : Nat} {fl : Nat → Nat → Int} {g : ah_T} {B : Int}, v < b + o → bf_ch s.2 v l → sn_r v l < b → -1000000 ≤ hv (sn_r v l) ∧ hv (sn_r v l) ≤ 1000000 → (∀ i j, i < b → j < o → -B ≤ fl i j ∧ fl i j ≤ B) → B + l.length ≤ 1000000 → LY8 g M → sn_v g M (b + o) s → sn_h g M b o c (hv, wt, fl) →
    (∀ g' r, mch [71, 74] [] M g g' → sn_h g' M b o c (bf_up hv (sn_r v l) (hv (sn_r v l) - 1), wt, sn_g b v l fl) → r.toInt = s.1 (b + bs) → Q (some (iv r)) g') →
    MX G mi_X8_bushel d 326 [some (rv M), some (iv (nI b)), some (iv (nI o)), none, some (iv (nI bs)), some (iv (nI v)), none, none] [] g Q E
  | [], v, fl, g, B, hv_, ch, hr, hh, hB, hl, L, V, H, K => by
    have hr : v < b := hr
    have ch : s.2 v = -1 := ch
    have hh : -1000000 ≤ hv v ∧ hv v ≤ 1000000 := hh
    refine v_X8_bushel_326 L ?_
    rw [nI_clamp (n := v) (by omega), nI_add, nI_clamp (n := b + bs) (by omega)]
    have e1 : ah_I g (M + 76) v = -1 := by rw [i3_eq, (V v hv_).2, ch]; decide
    refine ⟨vp_in_nI (by omega) (by decide), fun _ => ⟨vp_in_nI (by omega) (by decide), ?_⟩, fun q => absurd e1 q⟩
    intro h4 e4 _
    refine ⟨vp_in_nI (by omega) (by decide), ?_⟩
    subst e4
    refine K _ _ (mch.rf.wI (by decide)) ?_ ?_
    · refine ⟨fun i hi => ?_, fun j hj => ?_, fun i j hi hj => ?_, fun i j hi hj => ?_⟩
      · show _ = bf_up hv v (hv v - 1) i
        have hv1 : (ah_I g (M + 71) v).toInt = hv v := H.1 v hr
        rw [rd_II]
        by_cases e : i = v
        · subst e; rw [if_pos ⟨rfl, rfl⟩, bf_up_same, i3_sb (by rw [i3_1]; omega) (by rw [i3_1]; omega), i3_1]; omega
        · rw [if_neg (fun q => e q.2), bf_up_ne _ _ e]; exact H.1 i hi
      · rw [rd_Ia (by omega)]; exact H.2.1 j hj
      · rw [rd_Ia (by omega)]; exact H.2.2.1 i j hi hj
      · rw [rd_Ia (by omega)]; exact H.2.2.2 i j hi hj
    · exact (V (b + bs) (by omega)).1
  | y :: l, v, fl, g, B, hv_, ch, hr, hh, hB, hl, L, V, H, K => by
    have hr : sn_r y l < b := hr
    obtain ⟨b1, b2, b3⟩ := BI v y hv_ ch.1
    have e1 : ah_I g (M + 76) v = nI y := i3_nI ((V v hv_).2.trans ch.1) (by omega)
    have hl' : B + 1 + (l.length : Int) ≤ 1000000 := by simp only [List.length_cons] at hl; omega
    refine v_X8_bushel_326 L ?_
    rw [nI_clamp (n := v) (by omega), e1]
    refine ⟨vp_in_nI (by omega) (by decide), fun q => absurd q (by rw [i3_eq, nI_x (by omega), tm_1]; omega), fun _ => ⟨fun q => ?_, fun q => ?_⟩⟩
    · have q : v < b := by rw [nI_ltI (by omega) (by omega)] at q; exact q
      have b3 := b3 q
      have hin := sn_ij_lt (b := b) (o := o) (i := v) (j := y - b) q (by omega)
      have bo : b * o ≤ 20 := Nat.mul_le_mul hb ho
      have ix : nI o * nI v + nI y - nI b = nI (o * v + (y - b)) := by rw [pk_mul, nI_add, pk_sub (by omega)]; congr 1; omega
      rw [ix, nI_clamp (by omega)]
      refine ⟨vp_in_nI (by omega) (by decide), ?_⟩
      intro h8 e8 _
      subst e8
      have hf := H.2.2.2 v (y - b) q (by omega)
      have hf2 : -B ≤ fl v (y - b) ∧ fl v (y - b) ≤ B := hB v (y - b) q (by omega)
      have hf : (ah_I g (M + 74) (o * v + (y - b))).toInt = fl v (y - b) := hf
      have m : mch [71, 74] [] M g (ah_wI g (M + 74) (o * v + (y - b)) (ah_I g (M + 74) (o * v + (y - b)) - 1)) := mch.rf.wI (by decide)
      refine m_bushel_326 (hv := hv) (wt := wt) (B := B + 1) (fl := sn_u2 fl v (y - b) (-1)) hb ho hbs BI b1 ch.2 hr hh (fun i j hi hj => ?_) hl' (m.ly L) (fun z hz => ?_) ⟨fun i hi => ?_, fun j hj => ?_, fun i j hi hj => ?_, fun i j hi hj => ?_⟩ (fun g' r m2 z1 z2 => K g' r (m.tr m2) ?_ z2)
      · have := hB i j hi hj
        unfold sn_u2
        by_cases e : i = v ∧ j = y - b
        · rw [if_pos e]; omega
        · rw [if_neg e]; omega
      · rw [rd_Ia (by omega), rd_Ia (by omega)]; exact V z hz
      · rw [rd_Ia (by omega)]; exact H.1 i hi
      · rw [rd_Ia (by omega)]; exact H.2.1 j hj
      · rw [rd_Ia (by omega)]; exact H.2.2.1 i j hi hj
      · show _ = sn_u2 fl v (y - b) (-1) i j
        unfold sn_u2
        rw [rd_II]
        by_cases e : i = v ∧ j = y - b
        · obtain ⟨e1, e2⟩ := e
          subst e1; subst e2
          rw [if_pos ⟨rfl, rfl⟩, if_pos ⟨rfl, rfl⟩, i3_sb (by rw [i3_1]; omega) (by rw [i3_1]; omega), i3_1, hf]; omega
        · rw [if_neg e, if_neg]
          · exact H.2.2.2 i j hi hj
          · rintro ⟨-, q3⟩
            apply e
            have x1 := sn_ij (o := o) (i := i) (j := j) hj
            have x2 := sn_ij (o := o) (i := v) (j := y - b) (by omega)
            rw [q3] at x1
            exact ⟨x1.1.symm.trans x2.1, x1.2.symm.trans x2.2⟩
      · have : sn_g b v (y :: l) fl = sn_g b y l (sn_u2 fl v (y - b) (-1)) := by
          show sn_g b y l (if b ≤ v then _ else _) = _
          rw [if_neg (by omega)]
        rw [this]
        exact z1
    · have q : b ≤ v := by rw [nI_ltI (by omega) (by omega)] at q; omega
      have b2 := b2 q
      have hin := sn_ij_lt (b := b) (o := o) (i := y) (j := v - b) b2 (by omega)
      have bo : b * o ≤ 20 := Nat.mul_le_mul hb ho
      have ix : nI o * nI y + nI v - nI b = nI (o * y + (v - b)) := by rw [pk_mul, nI_add, pk_sub (by omega)]; congr 1; omega
      rw [ix, nI_clamp (by omega)]
      refine ⟨vp_in_nI (by omega) (by decide), ?_⟩
      intro h8 e8 _
      subst e8
      have hf : (ah_I g (M + 74) (o * y + (v - b))).toInt = fl y (v - b) := H.2.2.2 y (v - b) b2 (by omega)
      have hf2 : -B ≤ fl y (v - b) ∧ fl y (v - b) ≤ B := hB y (v - b) b2 (by omega)
      have m : mch [71, 74] [] M g (ah_wI g (M + 74) (o * y + (v - b)) (ah_I g (M + 74) (o * y + (v - b)) + 1)) := mch.rf.wI (by decide)
      refine m_bushel_326 (hv := hv) (wt := wt) (B := B + 1) (fl := sn_u2 fl y (v - b) 1) hb ho hbs BI b1 ch.2 hr hh (fun i j hi hj => ?_) hl' (m.ly L) (fun z hz => ?_) ⟨fun i hi => ?_, fun j hj => ?_, fun i j hi hj => ?_, fun i j hi hj => ?_⟩ (fun g' r m2 z1 z2 => K g' r (m.tr m2) ?_ z2)
      · have := hB i j hi hj
        unfold sn_u2
        by_cases e : i = y ∧ j = v - b
        · rw [if_pos e]; omega
        · rw [if_neg e]; omega
      · rw [rd_Ia (by omega), rd_Ia (by omega)]; exact V z hz
      · rw [rd_Ia (by omega)]; exact H.1 i hi
      · rw [rd_Ia (by omega)]; exact H.2.1 j hj
      · rw [rd_Ia (by omega)]; exact H.2.2.1 i j hi hj
      · show _ = sn_u2 fl y (v - b) 1 i j
        unfold sn_u2
        rw [rd_II]
        by_cases e : i = y ∧ j = v - b
        · obtain ⟨e1, e2⟩ := e
          subst e1; subst e2
          rw [if_pos ⟨rfl, rfl⟩, if_pos ⟨rfl, rfl⟩, i3_ad (by rw [i3_1]; omega) (by rw [i3_1]; omega), i3_1, hf]
        · rw [if_neg e, if_neg]
          · exact H.2.2.2 i j hi hj
          · rintro ⟨-, q3⟩
            apply e
            have x1 := sn_ij (o := o) (i := i) (j := j) hj
            have x2 := sn_ij (o := o) (i := y) (j := v - b) (by omega)
            rw [q3] at x1
            exact ⟨x1.1.symm.trans x2.1, x1.2.symm.trans x2.2⟩
      · have : sn_g b v (y :: l) fl = sn_g b y l (sn_u2 fl y (v - b) 1) := by
          show sn_g b y l (if b ≤ v then _ else _) = _
          rw [if_pos q]
        rw [this]
        exact z1
/-- the best order -/
theorem m_bushel_257 (hb : b ≤ 5) (ho : o ≤ 4) (L : LY8 g M) (V : sn_v g M (b + o) s) (H : sn_h g M b o c t) (hB : 0 ≤ sn_b b t.2.1 s.1 o) (hw : ∀ j, j < o → 0 ≤ t.2.1 j ∧ t.2.1 j ≤ 30)
    (K : ∀ g', mch [72] [] M g g' → sn_v g' M (b + o) s → sn_h g' M b o c (t.1, bf_up t.2.1 (sn_b b t.2.1 s.1 o).toNat (t.2.1 (sn_b b t.2.1 s.1 o).toNat - 1), t.2.2) → MX G mi_X8_bushel d 326 [some (rv M), some (iv (nI b)), some (iv (nI o)), none, some (iv (nI (sn_b b t.2.1 s.1 o).toNat)), some (iv (nI (b + (sn_b b t.2.1 s.1 o).toNat))), none, none] [] g' Q E) :
    MX G mi_X8_bushel d 257 [some (rv M), some (iv (nI b)), some (iv (nI o)), none, some (iv (-1)), some (iv 0), none, none] [] g Q E := by
  refine mx_up (α := Int32) (fun k x => [some (rv M), some (iv (nI b)), some (iv (nI o)), none, some (iv x), some (iv (nI k)), none, none]) o (fun k x g' => g' = g ∧ x.toInt = sn_b b t.2.1 s.1 k) (fun k x g' hk hI KK => ?_) (fun x g' hI => ?_) 0 (-1) g (Nat.zero_le _) ⟨rfl, by rw [tm_1]; rfl⟩
  · obtain ⟨e, hx⟩ := hI
    subst e
    have hin := sn_b_in (b := b) (wt := t.2.1) (f := s.1) k
    refine v_X8_bushel_257 L ⟨fun q => absurd q (nI_ge hk (by omega)), fun _ => ?_⟩
    have hw1 : (ah_I g' (M + 72) k).toInt = t.2.1 k := H.2.1 k hk
    rw [nI_clamp (n := k) (by omega), nI_1]
    refine ⟨vp_in_nI (by omega) (by decide), fun q => ?_, fun q => ?_⟩
    · rw [i3_le, hw1, i3_0] at q
      refine KK x g' ⟨rfl, ?_⟩
      rw [sn_b, if_neg (fun z => by have := z.1; omega)]; exact hx
    · rw [i3_le, hw1, i3_0] at q
      refine ⟨fun q2 => ?_, fun q2 => ?_⟩
      · rw [i3_lt, hx, i3_0] at q2
        refine KK (nI k) g' ⟨rfl, ?_⟩
        rw [sn_b, if_pos ⟨by omega, Or.inl q2⟩, nI_x (by omega)]
      · rw [i3_lt, hx, i3_0] at q2
        have hx2 : x = nI (sn_b b t.2.1 s.1 k).toNat := i3_nI (by rw [hx]; omega) (by omega)
        rw [hx2, nI_add, nI_add, nI_clamp (n := b + k) (by omega), nI_clamp (by omega)]
        have v1 := (V (b + k) (by omega)).1
        have v2 := (V (b + (sn_b b t.2.1 s.1 k).toNat) (by omega)).1
        refine ⟨vp_in_nI (by omega) (by decide), vp_in_nI (by omega) (by decide), fun q3 => ?_, fun q3 => ?_⟩
        · rw [i3_le, v1, v2] at q3
          rw [← hx2]
          refine KK x g' ⟨rfl, ?_⟩
          rw [sn_b, if_neg (fun z => by rcases z.2 with z | z <;> omega)]; exact hx
        · rw [i3_le, v1, v2] at q3
          refine KK (nI k) g' ⟨rfl, ?_⟩
          rw [sn_b, if_pos ⟨by omega, Or.inr (by omega)⟩, nI_x (by omega)]
  · obtain ⟨e, hx⟩ := hI
    subst e
    have hin := sn_b_in (b := b) (wt := t.2.1) (f := s.1) o
    have hx2 : x = nI (sn_b b t.2.1 s.1 o).toNat := i3_nI (by rw [hx]; omega) (by omega)
    refine v_X8_bushel_257 L ⟨fun _ => ?_, fun q => absurd (nI_le (Nat.le_refl o) (by omega)) q⟩
    rw [hx2, nI_clamp (by omega), nI_add]
    refine ⟨vp_in_nI (by omega) (by decide), ?_⟩
    intro h3 e3 _
    subst e3
    refine K _ (mch.rf.wI (by decide)) (fun z hz => by rw [rd_Ia (by omega), rd_Ia (by omega)]; exact V z hz) ⟨fun i hi => by rw [rd_Ia (by omega)]; exact H.1 i hi, fun j hj => ?_, fun i j hi hj => by rw [rd_Ia (by omega)]; exact H.2.2.1 i j hi hj, fun i j hi hj => by rw [rd_Ia (by omega)]; exact H.2.2.2 i j hi hj⟩
    show _ = bf_up t.2.1 (sn_b b t.2.1 s.1 o).toNat (t.2.1 (sn_b b t.2.1 s.1 o).toNat - 1) j
    have hw1 : (ah_I g' (M + 72) (sn_b b t.2.1 s.1 o).toNat).toInt = t.2.1 (sn_b b t.2.1 s.1 o).toNat := H.2.1 _ (by omega)
    have hw2 := hw (sn_b b t.2.1 s.1 o).toNat (by omega)
    rw [rd_II]
    by_cases e : j = (sn_b b t.2.1 s.1 o).toNat
    · rw [if_pos ⟨rfl, e⟩, e, bf_up_same, i3_sb (by rw [i3_1]; omega) (by rw [i3_1]; omega), i3_1, hw1]
    · rw [if_neg (fun q => e q.2), bf_up_ne _ _ e]; exact H.2.1 j hj
/-- one step: two arcs -/
theorem m_bushel_69s {r k : Nat} {x4 : Int32} {p : Nat → Int} (C : sn_C b o c) (P : sn_P b o c t.2.2 p) (hb : b ≤ 5) (ho : o ≤ 4) (hr : r ≤ 9) (hk : k < b * o) (L : LY8 g M) (V : sn_v g M (b + o) (sn_s b o c t.2.2 t.1 r k)) (H : sn_h g M b o c t)
    (K : ∀ g', mch [75, 76] [] M g g' → sn_v g' M (b + o) (sn_s b o c t.2.2 t.1 r (k + 1)) → MX G mi_X8_bushel d 69 [some (rv M), some (iv (nI b)), some (iv (nI o)), some (iv (nI (b + o))), some (iv x4), some (iv (nI (k + 1))), none, none] [] g' Q E) :
    MX G mi_X8_bushel d 69 [some (rv M), some (iv (nI b)), some (iv (nI o)), some (iv (nI (b + o))), some (iv x4), some (iv (nI k)), none, none] [] g Q E := by
  obtain ⟨k1, k2, k3⟩ := sn_k hk
  have bo : b * o ≤ 20 := Nat.mul_le_mul hb ho
  have BD := (sn_bd (hv := t.1) C P hb ho hr (Nat.le_of_lt hk)).2
  rw [sn_sk] at K
  generalize sn_s b o c t.2.2 t.1 r k = s at *
  have ek : o * (k / o) + k % o = k := Nat.div_add_mod k o
  have hc := C _ _ k1 k2
  have hc2 : (ah_I g (M + 73) k).toInt = c (k / o) (k % o) := by have := H.2.2.1 _ _ k1 k2; rwa [ek] at this
  have hf : (ah_I g (M + 74) k).toInt = t.2.2 (k / o) (k % o) := by have := H.2.2.2 _ _ k1 k2; rwa [ek] at this
  have vi := (V (k / o) (by omega)).1
  have vj := (V (b + k % o) (by omega)).1
  have bi := BD (k / o) (by omega)
  have bj := BD (b + k % o) (by omega)
  have kd1 : k / o < 11 := by omega
  have kd2 : k < 20 := by omega
  -- the second arc
  have T : ∀ g1 s1, mch [75, 76] [] M g g1 → s1 = bf_rx s (k / o, b + k % o, c (k / o) (k % o)) → sn_v g1 M (b + o) s1 →
      MX G mi_X8_bushel d 160 [some (rv M), some (iv (nI b)), some (iv (nI o)), some (iv (nI (b + o))), some (iv x4), some (iv (nI k)), some (iv (nI (k / o))), some (iv (nI (b + k % o)))] [] g1 Q E := by
    intro g1 s1 m es V1
    have H1 := H.ch m
    have wi := (V1 (k / o) (by omega)).1
    have wj := (V1 (b + k % o) (by omega)).1
    have ci : s1.1 (k / o) = s.1 (k / o) := by
      rw [es]
      by_cases q : bf_on s (k / o, b + k % o, c (k / o) (k % o))
      · rw [bf_rx_on q]; exact bf_up_ne _ _ (by show k / o ≠ b + k % o; omega)
      · rw [bf_rx_off q]
    have cj : -900 ≤ s1.1 (b + k % o) ∧ s1.1 (b + k % o) ≤ 100000 := by
      rw [es]
      by_cases q : bf_on s (k / o, b + k % o, c (k / o) (k % o))
      · rw [bf_rx_on q]
        show -900 ≤ bf_up s.1 (b + k % o) _ (b + k % o) ∧ bf_up s.1 (b + k % o) _ (b + k % o) ≤ 100000
        rw [bf_up_same]
        have := q.2
        simp only at this ⊢
        omega
      · rw [bf_rx_off q]; omega
    have off : ¬ (0 < t.2.2 (k / o) (k % o) ∧ bf_on s1 (b + k % o, k / o, - c (k / o) (k % o))) → bf_rd (sn_a b o c t.2.2 k) s = s1 := by
      intro z
      unfold sn_a
      by_cases q : 0 < t.2.2 (k / o) (k % o)
      · rw [if_pos q]
        show bf_rx (bf_rx s _) _ = s1
        rw [← es]
        exact bf_rx_off (fun w => z ⟨q, w⟩)
      · rw [if_neg q]
        exact es.symm
    have hf1 : (ah_I g1 (M + 74) k).toInt = t.2.2 (k / o) (k % o) := by rw [m.ar 74 (by decide) (by decide)]; exact hf
    have hc3 : (ah_I g1 (M + 73) k).toInt = c (k / o) (k % o) := by rw [m.ar 73 (by decide) (by decide)]; exact hc2
    have sb : (ah_I g1 (M + 75) (b + k % o) - ah_I g1 (M + 73) k).toInt = s1.1 (b + k % o) - c (k / o) (k % o) := by
      rw [i3_sb (by rw [wj, hc3]; omega) (by rw [wj, hc3]; omega), wj, hc3]
    refine v_X8_bushel_160 (m.ly L) ?_
    rw [nI_clamp (n := k) (by omega), nI_clamp (n := k / o) (by omega), nI_clamp (n := b + k % o) (by omega), nI_1]
    refine ⟨vp_in_nI (by omega) (by decide), fun q => ?_, fun q => ?_⟩
    · rw [i3_le, hf1, i3_0] at q
      exact K g1 m (by rw [off (fun z => by have := z.1; omega)]; exact V1)
    · rw [i3_le, hf1, i3_0] at q
      refine ⟨vp_in_nI (by omega) (by decide), fun q2 => ?_, fun q2 => ?_⟩
      · rw [i3_le, wj, i3_5] at q2
        exact K g1 m (by rw [off (fun z => by have z : s1.1 (b + k % o) < 100000 := z.2.1; omega)]; exact V1)
      · rw [i3_le, wj, i3_5] at q2
        refine ⟨vp_in_nI (by omega) (by decide), fun q3 => ?_, fun q3 => ?_⟩
        · rw [i3_le, sb, wi] at q3
          exact K g1 m (by rw [off (fun z => by have z : s1.1 (b + k % o) + - c (k / o) (k % o) < s1.1 (k / o) := z.2.2; omega)]; exact V1)
        · rw [i3_le, sb, wi] at q3
          intro h9 e9 _ h10 e10 _
          have on : bf_on s1 (b + k % o, k / o, - c (k / o) (k % o)) := ⟨by show s1.1 (b + k % o) < 100000; omega, by show s1.1 (b + k % o) + - c (k / o) (k % o) < s1.1 (k / o); omega⟩
          have es2 : bf_rd (sn_a b o c t.2.2 k) s = bf_rx s1 (b + k % o, k / o, - c (k / o) (k % o)) := by
            unfold sn_a
            rw [if_pos (by omega)]
            show bf_rx (bf_rx s _) _ = _
            rw [← es]
          subst e9; subst e10
          refine K _ ((m.wI (by decide)).wI (by decide)) ?_
          rw [es2]
          exact sn_v_on V1 on (by rw [sb]; omega) (nI_x (by omega))
  have ad : (ah_I g (M + 75) (k / o) + ah_I g (M + 73) k).toInt = s.1 (k / o) + c (k / o) (k % o) := by
    rw [i3_ad (by rw [vi, hc2]; omega) (by rw [vi, hc2]; omega), vi, hc2]
  refine v_X8_bushel_69 L ⟨fun q => absurd q (by rw [pk_mul]; exact nI_ge hk (by omega)), fun _ => ?_⟩
  rw [pk_rem (by omega) k3 (by omega), pk_div (by omega) k3 (by omega), nI_add, nI_clamp (n := k) (by omega), nI_clamp (n := k / o) (by omega), nI_clamp (n := b + k % o) (by omega)]
  refine ⟨nI_ne0 k3 (by omega), nI_ne0 k3 (by omega), vp_in_nI (by omega) (by decide), fun q => ?_, fun q => ?_⟩
  · rw [i3_le, vi, i3_5] at q
    refine T g s mch.rf ?_ V
    rw [bf_rx_off]
    intro z
    have z : s.1 (k / o) < 100000 := z.1
    omega
  · rw [i3_le, vi, i3_5] at q
    refine ⟨vp_in_nI (by omega) (by decide), vp_in_nI (by omega) (by decide), fun q2 => ?_, fun q2 => ?_⟩
    · rw [i3_le, ad, vj] at q2
      refine T g s mch.rf ?_ V
      rw [bf_rx_off]
      intro z
      have z : s.1 (k / o) + c (k / o) (k % o) < s.1 (b + k % o) := z.2
      omega
    · rw [i3_le, ad, vj] at q2
      intro h9 e9 _ h10 e10 _
      have on : bf_on s (k / o, b + k % o, c (k / o) (k % o)) := ⟨by show s.1 (k / o) < 100000; omega, by show s.1 (k / o) + c (k / o) (k % o) < s.1 (b + k % o); omega⟩
      subst e9; subst e10
      exact T _ _ ((mch.rf.wI (by decide)).wI (by decide)) rfl (sn_v_on V on ad (nI_x (by omega)))
/-- all rounds -/
theorem m_bushel_60 {p : Nat → Int} (C : sn_C b o c) (P : sn_P b o c t.2.2 p) (hb : b ≤ 5) (ho : o ≤ 4) (L : LY8 g M) (V : sn_v g M (b + o) (sn_s b o c t.2.2 t.1 0 0)) (H : sn_h g M b o c t)
    (K : ∀ g', mch [75, 76] [] M g g' → sn_v g' M (b + o) (sn_F b o c t.2.2 t.1) → MX G mi_X8_bushel d 257 [some (rv M), some (iv (nI b)), some (iv (nI o)), none, some (iv (-1)), some (iv 0), none, none] [] g' Q E) :
    MX G mi_X8_bushel d 60 [some (rv M), some (iv (nI b)), some (iv (nI o)), some (iv (nI (b + o))), some (iv 0), none, none, none] [] g Q E := by
  have bo : b * o ≤ 20 := Nat.mul_le_mul hb ho
  refine mx_up (α := Unit) (fun r _ => [some (rv M), some (iv (nI b)), some (iv (nI o)), some (iv (nI (b + o))), some (iv (nI r)), none, none, none]) (b + o) (fun r _ g' => mch [75, 76] [] M g g' ∧ sn_v g' M (b + o) (sn_s b o c t.2.2 t.1 r 0)) (fun r _ g' hr hI KK => ?_) (fun _ g' hI => ?_) 0 () g (Nat.zero_le _) ⟨mch.rf, V⟩
  · obtain ⟨m, V1⟩ := hI
    refine v_X8_bushel_60 (m.ly L) ⟨fun q => absurd q (nI_ge hr (by omega)), fun _ => ?_⟩
    refine mx_up (α := Unit) (fun k _ => [some (rv M), some (iv (nI b)), some (iv (nI o)), some (iv (nI (b + o))), some (iv (nI r)), some (iv (nI k)), none, none]) (b * o) (fun k _ g' => mch [75, 76] [] M g g' ∧ sn_v g' M (b + o) (sn_s b o c t.2.2 t.1 r k)) (fun k _ g2 hk hI2 KK2 => ?_) (fun _ g2 hI2 => ?_) 0 () g' (Nat.zero_le _) ⟨m, V1⟩
    · obtain ⟨m2, V2⟩ := hI2
      exact m_bushel_69s C P hb ho (by omega) hk (m2.ly L) V2 (H.ch m2) (fun g3 m3 V3 => KK2 () g3 ⟨m2.tr m3, V3⟩)
    · obtain ⟨m2, V2⟩ := hI2
      refine v_X8_bushel_69 (m2.ly L) ⟨fun _ => ?_, fun q => absurd (by rw [pk_mul]; exact nI_le (Nat.le_refl _) (by omega)) q⟩
      rw [nI_1]
      exact KK () g2 ⟨m2, V2⟩
  · obtain ⟨m, V1⟩ := hI
    exact v_X8_bushel_60 (m.ly L) ⟨fun _ => K g' m V1, fun q => absurd (nI_le (Nat.le_refl _) (by omega)) q⟩
theorem m_bushel {m q : Int} {n : Nat} (C : sn_C b o c) (hb : b ≤ 5) (ho : o ≤ 4) (I : sn_I b o c m q n t) (hq : q ≤ m) (hn : n < q) (hn2 : n ≤ 1000) (L : LY8 h M) (H : sn_h h M b o c t)
    (K : ∀ g r, mch [71, 72, 74, 75, 76] [] M h g → sn_h g M b o c (sn_n b o c t) → r.toInt = sn_c b o c t → Q (some (iv r)) g) :
    MX G mi_X8_bushel d 0 [some (rv M), some (iv (nI b)), some (iv (nI o)), none, none, none, none, none] [] h Q E := by
  obtain ⟨s1, s2, s3, s4, s5, s6, s7, s8, s9, s10⟩ := sn_step C hb ho I hq hn
  obtain ⟨I1, I2, I3, I4, I5, p, P⟩ := I
  refine v_X8_bushel L ?_
  rw [nI_add]
  refine mx_up (α := Unit) (fun k _ => [some (rv M), some (iv (nI b)), some (iv (nI o)), some (iv (nI (b + o))), some (iv (nI k)), none, none, none]) (b + o) (fun k _ g => mch [75, 76] [] M h g ∧ ∀ v, v < k → (ah_I g (M + 75) v).toInt = sn_f0 b t.1 v ∧ (ah_I g (M + 76) v).toInt = -1) (fun k _ g hk hI KK => ?_) (fun _ g hI => ?_) 0 () h (Nat.zero_le _) ⟨mch.rf, fun j hj => absurd hj (Nat.not_lt_zero _)⟩
  · obtain ⟨m, V⟩ := hI
    have fin : ∀ x : Int32, x.toInt = sn_f0 b t.1 k → MX G mi_X8_bushel d 7 [some (rv M), some (iv (nI b)), some (iv (nI o)), some (iv (nI (b + o))), some (iv (nI (k + 1))), none, none, none] [] (ah_wI (ah_wI g (M + 75) k x) (M + 76) k (-1)) Q E := fun x hx => by
      refine KK () _ ⟨(m.wI (by decide)).wI (by decide), fun v hv => ?_⟩
      rw [rd_Ia (by omega), rd_II, rd_II]
      by_cases e : v = k
      · subst e; rw [if_pos ⟨rfl, rfl⟩, if_pos ⟨rfl, rfl⟩]; exact ⟨hx, tm_1⟩
      · rw [if_neg (fun q => e q.2), if_neg (fun q => e q.2), rd_Ia (by omega)]; exact V v (by omega)
    refine v_X8_bushel_7 (m.ly L) ⟨fun q => absurd q (nI_ge hk (by omega)), fun _ => ?_⟩
    rw [nI_1, nI_clamp (n := k) (by omega)]
    refine ⟨fun q => ⟨vp_in_nI (by omega) (by decide), fun h4 e4 _ h5 e5 _ => ?_⟩, fun q => ?_⟩
    · rw [nI_leI (by omega) (by omega)] at q
      subst e4; subst e5
      exact fin _ (by unfold sn_f0; rw [if_neg (by omega)]; decide)
    · rw [nI_leI (by omega) (by omega)] at q
      have hh : (ah_I g (M + 71) k).toInt = t.1 k := by rw [m.ar 71 (by decide) (by decide)]; exact H.1 k (by omega)
      refine ⟨vp_in_nI (by omega) (by decide), fun q2 => ⟨vp_in_nI (by omega) (by decide), fun h4 e4 _ h5 e5 _ => ?_⟩, fun q2 => ⟨vp_in_nI (by omega) (by decide), fun h4 e4 _ h5 e5 _ => ?_⟩⟩
      · rw [i3_le, hh, i3_0] at q2
        subst e4; subst e5
        exact fin _ (by unfold sn_f0; rw [if_neg (by omega)]; decide)
      · rw [i3_le, hh, i3_0] at q2
        subst e4; subst e5
        exact fin _ (by unfold sn_f0; rw [if_pos (by omega)]; decide)
  · obtain ⟨m, V⟩ := hI
    refine v_X8_bushel_7 (m.ly L) ⟨fun _ => ?_, fun q => absurd (nI_le (Nat.le_refl _) (by omega)) q⟩
    refine m_bushel_60 C P hb ho (m.ly L) V (H.ch m) (fun g2 m2 V2 => ?_)
    have m12 := m.tr m2
    refine m_bushel_257 hb ho (m12.ly L) V2 (H.ch m12) (by rw [s1]; omega) I2 (fun g3 m3 V3 H3 => ?_)
    rw [s1] at H3 ⊢
    rw [Int.toNat_natCast] at H3 ⊢
    have hh := I1 _ s7
    have hlen : (sn_L b o c t).length ≤ 9 := by
      have nd := bf_ch_nd s5
      have K9 := (sn_bd (hv := t.1) C P hb ho (r := b + o) (by omega) (Nat.zero_le (b * o))).1
      have := bf_ch_len (sn_ar C P) (fun v _ => by rcases sn_f00 b t.1 v with e | e <;> omega) K9 (v := b + sn_B b o c t) (by omega) s5
      omega
    refine m_bushel_326 (B := 1000) hb ho s2 s6 (by omega) s5 s7 (by omega) (fun i j hi hj => ?_) (by omega) (m3.ly (m12.ly L)) V3 H3 (fun g4 r m4 H4 hr => ?_)
    · have := I3 i j hi hj; omega
    · exact K g4 r (((m12.mono (by decide) (by decide)).tr (m3.mono (by decide) (by decide))).tr (m4.mono (by decide) (by decide))) H4 hr
end

/-! ===== send: the class's call ===== -/
section
variable {G : ma_G} {d X b o : Nat} {h g g' : ah_T} {Q : Option ma_V → ah_T → Prop} {E : Nat → ah_T → Prop} {c : Nat → Nat → Int} {t : sn_T} {s : bf_S} {x7 x8 x9 : Int32}
theorem cn_u2 {hv wt : Nat → Int} {fl : Nat → Nat → Int} {i j : Nat} {x : Int32} {z : Int} (hb : b ≤ 5) (hi : i < b) (hx : x.toInt = fl i j + z) (H : cn_h g X b o c (hv, wt, fl)) : cn_h (ah_wI g (X + (1483 + i)) j x) X b o c (hv, wt, sn_u2 fl i j z) := by
  refine ⟨fun k hk => ?_, fun k hk => ?_, fun k l hk hl => ?_, fun k l hk hl => ?_⟩
  · rw [rd_Ia (by omega)]; exact H.1 k hk
  · rw [rd_Ia (by omega)]; exact H.2.1 k hk
  · rw [rd_Ia (by omega)]; exact H.2.2.1 k l hk hl
  · show _ = sn_u2 fl i j z k l
    unfold sn_u2
    rw [rd_II]
    by_cases e : k = i ∧ l = j
    · obtain ⟨e1, e2⟩ := e
      subst e1; subst e2
      rw [if_pos ⟨rfl, rfl⟩, if_pos ⟨rfl, rfl⟩]; exact hx
    · rw [if_neg e, if_neg (by omega)]; exact H.2.2.2 k l hk hl
theorem cn_v.ch (hb : b ≤ 5) (x : cn_v g X b o s) (m : crg X 1483 1490 g g') : cn_v g' X b o s :=
  ⟨fun i hi => by rw [m.2.2.2.2.2 _ _ (by omega), m.2.2.2.2.2 _ _ (by omega)]; exact x.1 i hi, fun i hi => by rw [m.2.2.2.2.2 _ _ (by omega), m.2.2.2.2.2 _ _ (by omega)]; exact x.2 i hi⟩
/-- the way back, two steps at once -/
theorem c_send_471 {wt : Nat → Int} (hb : b ≤ 5) (ho : o ≤ 4) (BI : sn_bi b o s.2) : ∀ {n : Nat} {l : List Nat} {j : Nat} {fl : Nat → Nat → Int} {hv : Nat → Int} {g : ah_T} {B : Int}, l.length ≤ n → j < o → bf_ch s.2 (b + j) l → s.2 (b + j) ≠ -1 → (∀ v, v < b + o → v ∈ l → b ≤ v → s.2 v ≠ -1) → sn_r (b + j) l < b → -1000000 ≤ hv (sn_r (b + j) l) ∧ hv (sn_r (b + j) l) ≤ 1000000 → (∀ i j, i < b → j < o → -B ≤ fl i j ∧ fl i j ≤ B) → 0 ≤ B → B + l.length ≤ 1000000 → LY0 g X → cn_v g X b o s → cn_h g X b o c (hv, wt, fl) →
    (∀ g', crg X 1483 1490 g g' → cn_h g' X b o c (bf_up hv (sn_r (b + j) l) (hv (sn_r (b + j) l) - 1), wt, sn_g b (b + j) l fl) → MX G mi_X0_send (d + 1) 374 [some (rv X), none, some (iv (nI b)), none, some (iv (nI o)), none, none, some (iv x7), some (iv x8), some (iv (x9 + 1)), none, none, none] [] g' Q E) →
    MX G mi_X0_send (d + 1) 471 [some (rv X), none, some (iv (nI b)), none, some (iv (nI o)), none, none, some (iv x7), some (iv x8), some (iv x9), none, some (iv (nI j)), none] [] g Q E := by
  intro n
  induction n with
  | zero =>
    intro l j fl hv g B hl hj ch ne nes hr hh hB hB0 hl2 L V H K
    cases l with
    | nil => exact absurd ch ne
    | cons y l => simp at hl
  | succ n ih =>
    intro l j fl hv g B hl hj ch ne nes hr hh hB hB0 hl2 L V H K
    cases l with
    | nil => exact absurd ch ne
    | cons y l =>
      obtain ⟨b1, b2, -⟩ := BI (b + j) y (by omega) ch.1
      have b2 := b2 (by omega)
      have ev : ah_I g (X + 1493) j = nI y := i3_nI (((V.2 j hj).2 ne).trans ch.1) (by omega)
      refine v_X0_send_471 L ⟨fun q => absurd q (by rw [i3_eq, nI_x (by omega), tm_1]; omega), fun _ => ?_⟩
      rw [nI_clamp (n := j) (by omega), ev, nI_clamp (n := y) (by omega)]
      refine ⟨vp_in_nI (by omega) (by decide), vp_in_nI (by omega) (by decide), ?_⟩
      intro h4 e4 _
      have hf : (ah_I g (X + (1483 + y)) j).toInt = fl y j := H.2.2.2 y j b2 hj
      have hf2 := hB y j b2 hj
      have len : ((y :: l).length : Int) = l.length + 1 := by simp
      rw [len] at hl2
      have x1 : (ah_I g (X + (1483 + y)) j + 1).toInt = fl y j + 1 := by rw [i3_ad (by rw [i3_1]; omega) (by rw [i3_1]; omega), i3_1, hf]
      have m4 : crg X 1483 1490 g h4 := by rw [e4]; exact crg.rf.wI (by omega) (by omega)
      have H4 : cn_h h4 X b o c (hv, wt, sn_u2 fl y j 1) := by rw [e4]; exact cn_u2 hb b2 x1 H
      have V4 := V.ch hb m4
      have L4 := L.ext m4.ext
      have g1 : sn_g b (b + j) (y :: l) fl = sn_g b y l (sn_u2 fl y j 1) := by
        show sn_g b y l (if b ≤ b + j then _ else _) = _
        rw [if_pos (by omega), show b + j - b = j by omega]
      have hB4 : ∀ i k, i < b → k < o → -(B + 1) ≤ sn_u2 fl y j 1 i k ∧ sn_u2 fl y j 1 i k ≤ B + 1 := fun i k hi hk => by
        have := hB i k hi hk
        unfold sn_u2
        by_cases e : i = y ∧ k = j
        · rw [if_pos e]; omega
        · rw [if_neg e]; omega
      clear e4
      rw [g1] at K
      cases l with
      | nil =>
        have rt : s.2 y = -1 := ch.2
        have ev2 : ah_I h4 (X + 1492) y = -1 := by rw [i3_eq, (V4.1 y b2).2, if_pos rt, tm_1]
        refine ⟨fun q => absurd ev2 q, fun _ => ?_⟩
        intro h8 e8 x8_
        have hh : -1000000 ≤ hv y ∧ hv y ≤ 1000000 := hh
        have hv4 : (ah_I h4 (X + 1488) y).toInt = hv y := H4.1 y b2
        have m8 : crg X 1483 1490 g h8 := by rw [e8]; exact m4.wI (by decide) (by decide)
        rw [ev2]
        refine v_X0_send_471 (L.ext m8.ext) ⟨fun _ => ?_, fun q => absurd rfl q⟩
        refine K h8 m8 ?_
        rw [e8]
        refine ⟨fun k hk => ?_, fun k hk => ?_, fun k l hk hl => ?_, fun k l hk hl => ?_⟩
        · show _ = bf_up hv y (hv y - 1) k
          rw [rd_II]
          by_cases e : k = y
          · subst e; rw [if_pos ⟨rfl, rfl⟩, bf_up_same, i3_sb (by rw [i3_1]; omega) (by rw [i3_1]; omega), i3_1, hv4]
          · rw [if_neg (fun q => e q.2), bf_up_ne _ _ e]; exact H4.1 k hk
        · rw [rd_Ia (by omega)]; exact H4.2.1 k hk
        · rw [rd_Ia (by omega)]; exact H4.2.2.1 k l hk hl
        · rw [rd_Ia (by omega)]; exact H4.2.2.2 k l hk hl
      | cons z l =>
        obtain ⟨d1, -, d3⟩ := BI y z b1 ch.2.1
        have d3 := d3 b2
        have c21 : s.2 y = (z : Int) := ch.2.1
        have ev2 : ah_I h4 (X + 1492) y = nI (z - b) := i3_nI (by rw [(V4.1 y b2).2, if_neg (by omega)]; omega) (by omega)
        refine ⟨fun _ => ?_, fun q => absurd (ev2.symm.trans q) (by rw [i3_eq, nI_x (by omega), tm_1]; omega)⟩
        rw [ev2, nI_clamp (n := z - b) (by omega)]
        refine ⟨vp_in_nI (by omega) (by decide), ?_⟩
        intro h7 e7 _
        have hf7 : (ah_I h4 (X + (1483 + y)) (z - b)).toInt = sn_u2 fl y j 1 y (z - b) := H4.2.2.2 y (z - b) b2 (by omega)
        have hf8 := hB4 y (z - b) b2 (by omega)
        have len2 : ((z :: l).length : Int) = l.length + 1 := by simp
        rw [len2] at hl2
        have x2 : (ah_I h4 (X + (1483 + y)) (z - b) - 1).toInt = sn_u2 fl y j 1 y (z - b) + -1 := by rw [i3_sb (by rw [i3_1]; omega) (by rw [i3_1]; omega), i3_1, hf7]; omega
        have m7 : crg X 1483 1490 g h7 := by rw [e7]; exact m4.wI (by omega) (by omega)
        have H7 : cn_h h7 X b o c (hv, wt, sn_u2 (sn_u2 fl y j 1) y (z - b) (-1)) := by rw [e7]; exact cn_u2 hb b2 x2 H4
        have g2 : sn_g b y (z :: l) (sn_u2 fl y j 1) = sn_g b z l (sn_u2 (sn_u2 fl y j 1) y (z - b) (-1)) := by
          show sn_g b z l (if b ≤ y then _ else _) = _
          rw [if_neg (by omega)]
        rw [g2] at K
        have ez : z = b + (z - b) := by omega
        have hl3 : l.length ≤ n := by simp at hl; omega
        have K' : ∀ g', crg X 1483 1490 h7 g' → cn_h g' X b o c (bf_up hv (sn_r (b + (z - b)) l) (hv (sn_r (b + (z - b)) l) - 1), wt, sn_g b (b + (z - b)) l (sn_u2 (sn_u2 fl y j 1) y (z - b) (-1))) → MX G mi_X0_send (d + 1) 374 [some (rv X), none, some (iv (nI b)), none, some (iv (nI o)), none, none, some (iv x7), some (iv x8), some (iv (x9 + 1)), none, none, none] [] g' Q E := fun g' m' H' => by
          rw [← ez] at H'
          exact K g' (m7.tr m') H'
        refine ih (B := B + 2) hl3 (by omega) (by rw [← ez]; exact ch.2.2) (by rw [← ez]; exact nes z d1 (by simp) d3) (fun v hv hm hbv => nes v hv (by simp [hm]) hbv) (by rw [← ez]; exact hr) (by rw [← ez]; exact hh) (fun i k hi hk => ?_) (by omega) (by omega) (L.ext m7.ext) (V.ch hb m7) H7 K'
        have := hB4 i k hi hk
        unfold sn_u2 at this ⊢
        by_cases e : i = y ∧ k = z - b
        · rw [if_pos e]; omega
        · rw [if_neg e]; omega
theorem c_send_394 (hb : b ≤ 5) (ho : o ≤ 4) (L : LY0 g X) (V : cn_v g X b o s) (H : cn_h g X b o c t) (R : ∀ j, j < o → s.1 (b + j) < 100000) (hB : 0 ≤ sn_b b t.2.1 s.1 o) (hw : ∀ j, j < o → 0 ≤ t.2.1 j ∧ t.2.1 j ≤ 30)
    (K : ∀ g' x, crg X 1483 1490 g g' → cn_h g' X b o c (t.1, bf_up t.2.1 (sn_b b t.2.1 s.1 o).toNat (t.2.1 (sn_b b t.2.1 s.1 o).toNat - 1), t.2.2) → x.toInt = s.1 (b + (sn_b b t.2.1 s.1 o).toNat) → MX G mi_X0_send (d + 1) 471 [some (rv X), none, some (iv (nI b)), none, some (iv (nI o)), none, none, some (iv x7), some (iv (x8 + x)), some (iv x9), none, some (iv (nI (sn_b b t.2.1 s.1 o).toNat)), none] [] g' Q E) :
    MX G mi_X0_send (d + 1) 394 [some (rv X), none, some (iv (nI b)), none, some (iv (nI o)), none, none, some (iv x7), some (iv x8), some (iv x9), some (iv (-1)), some (iv 0), none] [] g Q E := by
  refine mx_up (α := Int32) (fun k x => [some (rv X), none, some (iv (nI b)), none, some (iv (nI o)), none, none, some (iv x7), some (iv x8), some (iv x9), some (iv x), some (iv (nI k)), none]) o (fun k x g' => g' = g ∧ x.toInt = sn_b b t.2.1 s.1 k) (fun k x g' hk hI KK => ?_) (fun x g' hI => ?_) 0 (-1) g (Nat.zero_le _) ⟨rfl, by rw [tm_1]; rfl⟩
  · obtain ⟨e, hx⟩ := hI
    subst e
    have hin := sn_b_in (b := b) (wt := t.2.1) (f := s.1) k
    refine v_X0_send_394 L ⟨fun q => absurd q (nI_ge hk (by omega)), fun _ => ?_⟩
    have hw1 : (ah_I g' (X + 1489) k).toInt = t.2.1 k := H.2.1 k hk
    rw [nI_clamp (n := k) (by omega), nI_1]
    refine ⟨vp_in_nI (by omega) (by decide), fun q => ?_, fun q => ?_⟩
    · rw [i3_le, hw1, i3_0] at q
      refine KK x g' ⟨rfl, ?_⟩
      rw [sn_b, if_neg (fun z => by have := z.1; omega)]; exact hx
    · rw [i3_le, hw1, i3_0] at q
      refine ⟨fun q2 => ?_, fun q2 => ?_⟩
      · rw [i3_eq, hx, tm_1] at q2
        refine KK (nI k) g' ⟨rfl, ?_⟩
        rw [sn_b, if_pos ⟨by omega, Or.inl (by omega)⟩, nI_x (by omega)]
      · rw [i3_eq, hx, tm_1] at q2
        have hx2 : x = nI (sn_b b t.2.1 s.1 k).toNat := i3_nI (by rw [hx]; omega) (by omega)
        rw [hx2, nI_clamp (n := (sn_b b t.2.1 s.1 k).toNat) (by omega)]
        have v1 := (V.2 k hk).1
        have v2 := (V.2 (sn_b b t.2.1 s.1 k).toNat (by omega)).1
        rw [cn_l_lt (R k hk)] at v1
        rw [cn_l_lt (R _ (by omega))] at v2
        refine ⟨vp_in_nI (by omega) (by decide), fun q3 => ?_, fun q3 => ?_⟩
        · rw [i3_le, v1, v2] at q3
          rw [← hx2]
          refine KK x g' ⟨rfl, ?_⟩
          rw [sn_b, if_neg (fun z => by rcases z.2 with z | z <;> omega)]; exact hx
        · rw [i3_le, v1, v2] at q3
          refine KK (nI k) g' ⟨rfl, ?_⟩
          rw [sn_b, if_pos ⟨by omega, Or.inr (by omega)⟩, nI_x (by omega)]
  · obtain ⟨e, hx⟩ := hI
    subst e
    have hin := sn_b_in (b := b) (wt := t.2.1) (f := s.1) o
    have hx2 : x = nI (sn_b b t.2.1 s.1 o).toNat := i3_nI (by rw [hx]; omega) (by omega)
    have v2 := (V.2 (sn_b b t.2.1 s.1 o).toNat (by omega)).1
    rw [cn_l_lt (R _ (by omega))] at v2
    refine v_X0_send_394 L ⟨fun _ => ?_, fun q => absurd (nI_le (Nat.le_refl o) (by omega)) q⟩
    rw [hx2, nI_clamp (n := (sn_b b t.2.1 s.1 o).toNat) (by omega)]
    refine ⟨vp_in_nI (by omega) (by decide), ?_⟩
    intro h3 e3 _
    subst e3
    refine K _ _ (crg.rf.wI (by decide) (by decide)) ⟨fun i hi => by rw [rd_Ia (by omega)]; exact H.1 i hi, fun j hj => ?_, fun i j hi hj => by rw [rd_Ia (by omega)]; exact H.2.2.1 i j hi hj, fun i j hi hj => by rw [rd_Ia (by omega)]; exact H.2.2.2 i j hi hj⟩ v2
    show _ = bf_up t.2.1 (sn_b b t.2.1 s.1 o).toNat (t.2.1 (sn_b b t.2.1 s.1 o).toNat - 1) j
    have hw1 : (ah_I g' (X + 1489) (sn_b b t.2.1 s.1 o).toNat).toInt = t.2.1 (sn_b b t.2.1 s.1 o).toNat := H.2.1 _ (by omega)
    have hw2 := hw (sn_b b t.2.1 s.1 o).toNat (by omega)
    rw [rd_II]
    by_cases e : j = (sn_b b t.2.1 s.1 o).toNat
    · rw [if_pos ⟨rfl, e⟩, e, bf_up_same, i3_sb (by rw [i3_1]; omega) (by rw [i3_1]; omega), i3_1, hw1]
    · rw [if_neg (fun q => e q.2), bf_up_ne _ _ e]; exact H.2.1 j hj
/-- all bushels -/
theorem c_send_374 {y z : Int} {x : Int32} (C : sn_C b o c) (hb : b ≤ 5) (ho : o ≤ 4) (h1 : 1 ≤ b) (I : sn_I b o c y z 0 t) (hz : z ≤ y) (hz2 : 0 ≤ z ∧ z ≤ 200) (hx : x.toInt = z) (L : LY0 h X) (H : cn_h h X b o c t)
    (K : ∀ g r, crg X 1483 1494 h g → r.toInt = sn_Z b o c t z.toNat → ∀ h2 : ah_T, h2 = ah_wI g X 20 (0 : Int32) → ah_ext g h2 → Q (some (iv r)) h2) :
    MX G mi_X0_send (d + 1) 374 [some (rv X), none, some (iv (nI b)), none, some (iv (nI o)), none, none, some (iv x), some (iv 0), some (iv 0), none, none, none] [] h Q E := by
  have ex : x = nI z.toNat := i3_nI (by rw [hx]; omega) (by omega)
  subst ex
  refine mx_up (α := Int32) (fun k x => [some (rv X), none, some (iv (nI b)), none, some (iv (nI o)), none, none, some (iv (nI z.toNat)), some (iv x), some (iv (nI k)), none, none, none]) z.toNat (fun k x g => crg X 1483 1494 h g ∧ cn_h g X b o c (sn_it b o c t k) ∧ x.toInt = sn_Z b o c t k) (fun k x g hk hI KK => ?_) (fun x g hI => ?_) 0 0 h (Nat.zero_le _) ⟨crg.rf, H, i3_0⟩
  · obtain ⟨mm, H1, q⟩ := hI
    refine v_X0_send_374 (L.ext mm.ext) ⟨fun c => absurd c (nI_ge hk (by omega)), fun _ => ?_⟩
    have J := sn_it_I C hb ho I hz k (by omega)
    have B1 := sn_Z_b C hb ho I hz k (by omega)
    have B2 := sn_Z_b C hb ho I hz (k + 1) (by omega)
    have B3 : sn_Z b o c t (k + 1) = sn_Z b o c t k + sn_c b o c (sn_it b o c t k) := rfl
    obtain ⟨s1, s2, s3, s4, s5, s6, s7, s8, s9, s10⟩ := sn_step C hb ho J hz (by omega)
    have N0 : sn_it b o c t (k + 1) = sn_n b o c (sn_it b o c t k) := rfl
    generalize sn_it b o c t k = t1 at *
    obtain ⟨J1, J2, J3, J4, J5, p, P⟩ := J
    refine c_find C P hb ho h1 (L.ext mm.ext) H1 (fun g2 m2 V2 => ?_)
    intro _
    have mm2 : crg X 1483 1494 h g2 := mm.tr (m2.mn (by decide) (by decide))
    refine c_send_394 hb ho (L.ext mm2.ext) V2 (H1.ch hb m2) s4 (by rw [s1]; omega) J2 (fun g3 x3 m3 H3 hx3 => ?_)
    rw [s1] at H3 hx3 ⊢
    rw [Int.toNat_natCast] at H3 hx3 ⊢
    have mm3 : crg X 1483 1494 h g3 := mm2.tr (m3.mn (by decide) (by decide))
    have hh := J1 _ s7
    have hlen : (sn_L b o c t1).length ≤ 9 := by
      have K9 := (sn_bd (hv := t1.1) C P hb ho (r := b + o) (by omega) (Nat.zero_le (b * o))).1
      have := bf_ch_len (sn_ar C P) (fun v _ => by rcases sn_f00 b t1.1 v with e | e <;> omega) K9 (v := b + sn_B b o c t1) (by omega) s5
      omega
    refine c_send_471 (n := 9) (B := 1000) hb ho s6 hlen s2 s5 (s9 _ (by omega) (s4 _ s2) (by omega)) (fun v hv _ hbv => s9 v hv (by have := s4 (v - b) (by omega); rwa [show b + (v - b) = v by omega] at this) hbv) s7 (by omega) (fun i j hi hj => ?_) (by omega) (by omega) (L.ext mm3.ext) (V2.ch hb m3) H3 (fun g4 m4 H4 => ?_)
    · have := J3 i j hi hj; omega
    rw [nI_1]
    refine KK _ g4 ⟨mm3.tr (m4.mn (by decide) (by decide)), by rw [N0]; exact H4, ?_⟩
    have hx3 : x3.toInt = sn_c b o c t1 := hx3
    rw [i3_ad (by rw [q, hx3]; omega) (by rw [q, hx3]; omega), q, hx3, B3]
  · obtain ⟨mm, H1, q⟩ := hI
    exact v_X0_send_374 (L.ext mm.ext) ⟨fun _ => K g x mm q, fun c => absurd (nI_le (Nat.le_refl _) (by omega)) c⟩
end
section
variable {G : ma_G} {d X a n b m e : Nat} {h : ah_T} {S : MS} {Q : Option ma_V → ah_T → Prop} {E : Nat → ah_T → Prop} {x1 x2 x3 x4 x5 : Int32} {ts tm : Nat → Int32} {nu : Nat → Int64}
theorem crg.tr_ {g : ah_T} (w : crg X 1476 1494 h g) (L : LY0 h X) (x : CIt h X ts tm nu) : CIt g X ts tm nu := by
  have z : dyn pT (X + 5, 0) X h g := w.dy (by decide)
  exact x.dy L z (fun _ _ _ => trivial) (by show X + 5 < _; omega)
/-- the orders -/
theorem c_send_310 {x6 : Int32} {y : Int} {c : Nat → Nat → Int} (hx6 : x6.toInt = y) (hb : b < 4) (hn : n ≤ 5) (hm : m ≤ 4) (L : LY0 h X) (T : CIt h X ts tm nu) (tb : (m : Int) ≤ (tm b).toInt) (rm : 3 ≤ ah_rc h ∧ 222 ≤ ah_rs h) (ok : sok1 nu b m 30)
    (h1 : ∀ i, i < n → (ah_I h (X + 1488) i).toInt = snv nu a i) (h3 : ∀ i j, i < n → j < m → (ah_I h (X + (1477 + i)) j).toInt = c i j) (h4 : ∀ i j, i < n → j < m → (ah_I h (X + (1483 + i)) j).toInt = 0)
    (K9 : y < bf_sum (snv nu b) m → ∀ g, crg X 1476 1494 h g → ∀ h3 : ah_T, h3 = ah_wI g X 20 (9 : Int32) → ah_ext g h3 → Q (some (iv (-1 : Int32))) h3)
    (K : ¬ y < bf_sum (snv nu b) m → ∀ g x, crg X 1476 1494 h g → cn_h g X n m c (sn0 nu a b) → x.toInt = bf_sum (snv nu b) m → MX G mi_X0_send (d + 41) 374 [some (rv X), none, some (iv (nI n)), none, some (iv (nI m)), none, none, some (iv x), some (iv 0), some (iv 0), none, none, none] [] g Q E) :
    MX G mi_X0_send (d + 41) 310 [some (rv X), none, some (iv (nI n)), some (iv (nI b)), some (iv (nI m)), none, some (iv x6), some (iv 0), some (iv 0), none, none, none, none] [] h Q E := by
  refine mx_up (α := Int32) (fun k x => [some (rv X), none, some (iv (nI n)), some (iv (nI b)), some (iv (nI m)), none, some (iv x6), some (iv x), some (iv (nI k)), none, none, none, none]) m (fun k x g => crg X 1489 1490 h g ∧ (∀ j, j < k → (ah_I g (X + 1489) j).toInt = snv nu b j) ∧ x.toInt = bf_sum (snv nu b) k) (fun k x g hk hI KK => ?_) (fun x g hI => ?_) 0 0 h (Nat.zero_le _) ⟨crg.rf, fun j hj => absurd hj (Nat.not_lt_zero _), i3_0⟩
  · obtain ⟨mm, q, hx⟩ := hI
    have r1 := sok1_r ok hk
    have r2 := sok_sum ok (Nat.le_of_lt hk)
    have r3 : (nu (40 * b + k)).toInt32.toInt = snv nu b k := i6_3 (by show _ ≤ snv nu b k; omega) (by show snv nu b k < _; omega)
    have mL : crg X 1476 1494 h g := mm.mn (by decide) (by decide)
    refine v_X0_send_310 (d := d + 40) (L.ext mm.ext) ⟨fun c => absurd c (nI_ge hk (by omega)), fun _ => ⟨vp_in_nI hb (by decide), ?_⟩⟩
    rw [nI_clamp (n := b) (by omega)]
    refine c_get1 (L.ext mm.ext) (mL.tr_ L T) hb (by omega) (by omega) (by unfold ah_rc ah_rs; rw [mm.1]; exact rm) ?_
    intro _
    rw [nI_clamp (n := k) (by omega), nI_1]
    refine ⟨vp_in_nI (by omega) (by decide), ?_⟩
    intro h8 e8 _
    subst e8
    refine KK _ _ ⟨mm.wI (by decide) (by decide), fun j hj => ?_, ?_⟩
    · rw [rd_II]
      by_cases z : j = k
      · subst z; rw [if_pos ⟨rfl, rfl⟩]; exact r3
      · rw [if_neg (fun w => z w.2)]; exact q j (by omega)
    · rw [i3_ad (by rw [hx, r3]; omega) (by rw [hx, r3]; omega), hx, r3]; rfl
  · obtain ⟨mm, q, hx⟩ := hI
    have mL : crg X 1476 1494 h g := mm.mn (by decide) (by decide)
    refine v_X0_send_310 (d := d + 40) (L.ext mm.ext) ⟨fun _ => ⟨fun z => K (by rw [i3_le, hx, hx6] at z; omega) g x mL ⟨fun i hi => ?_, q, fun i j hi hj => ?_, fun i j hi hj => ?_⟩ hx, fun z => K9 (by rw [i3_le, hx, hx6] at z; omega) g mL⟩, fun c => absurd (nI_le (Nat.le_refl m) (by omega)) c⟩
    · rw [mm.2.2.2.2.2 _ _ (by omega)]; exact h1 i hi
    · rw [mm.2.2.2.2.2 _ _ (by omega)]; exact h3 i j hi hj
    · rw [mm.2.2.2.2.2 _ _ (by omega)]; exact h4 i j hi hj
/-- the bins, and what each way costs -/
theorem c_send_205 (ha : a < 4) (he : e < 4) (hb : b < 4) (hn : n ≤ 5) (hm : m ≤ 4) (L : LY0 h X) (T : CIt h X ts tm nu) (ta : (n : Int) ≤ (tm a).toInt) (te : ((n * m : Nat) : Int) ≤ (tm e).toInt) (rm : 3 ≤ ah_rc h ∧ 222 ≤ ah_rs h) (ok : sok1 nu a n 30) (ok2 : sok1 nu e (n * m) 100)
    (K : ∀ g x, crg X 1476 1494 h g → (∀ i, i < n → (ah_I g (X + 1488) i).toInt = snv nu a i) → (∀ i j, i < n → j < m → (ah_I g (X + (1477 + i)) j).toInt = snc nu e m i j) → (∀ i j, i < n → j < m → (ah_I g (X + (1483 + i)) j).toInt = 0) → x.toInt = bf_sum (snv nu a) n → MX G mi_X0_send (d + 41) 310 [some (rv X), none, some (iv (nI n)), some (iv (nI b)), some (iv (nI m)), none, some (iv x), some (iv 0), some (iv 0), none, none, none, none] [] g Q E) :
    MX G mi_X0_send (d + 41) 205 [some (rv X), some (iv (nI a)), some (iv (nI n)), some (iv (nI b)), some (iv (nI m)), some (iv (nI e)), some (iv 0), some (iv 0), none, none, none, none, none] [] h Q E := by
  have nm : n * m ≤ 20 := Nat.mul_le_mul hn hm
  refine mx_up (α := Int32) (fun k x => [some (rv X), some (iv (nI a)), some (iv (nI n)), some (iv (nI b)), some (iv (nI m)), some (iv (nI e)), some (iv x), some (iv (nI k)), none, none, none, none, none]) n (fun k x g => crg X 1476 1494 h g ∧ (∀ i, i < k → (ah_I g (X + 1488) i).toInt = snv nu a i) ∧ (∀ i j, i < k → j < m → (ah_I g (X + (1477 + i)) j).toInt = snc nu e m i j) ∧ (∀ i j, i < k → j < m → (ah_I g (X + (1483 + i)) j).toInt = 0) ∧ x.toInt = bf_sum (snv nu a) k) (fun k x g hk hI KK => ?_) (fun x g hI => ?_) 0 0 h (Nat.zero_le _) ⟨crg.rf, fun j hj => absurd hj (Nat.not_lt_zero _), fun j _ hj => absurd hj (Nat.not_lt_zero _), fun j _ hj => absurd hj (Nat.not_lt_zero _), i3_0⟩
  · obtain ⟨mm, q1, q2, q3, hx⟩ := hI
    have r1 := sok1_r ok hk
    have r2 := sok_sum ok (Nat.le_of_lt hk)
    have r3 : (nu (40 * a + k)).toInt32.toInt = snv nu a k := i6_3 (by show _ ≤ snv nu a k; omega) (by show snv nu a k < _; omega)
    refine v_X0_send_205 (d := d + 40) (L.ext mm.ext) ⟨fun c => absurd c (nI_ge hk (by omega)), fun _ => ⟨vp_in_nI ha (by decide), ?_⟩⟩
    rw [nI_clamp (n := a) (by omega)]
    refine c_get1 (L.ext mm.ext) (mm.tr_ L T) ha (by omega) (by omega) (by unfold ah_rc ah_rs; rw [mm.1]; exact rm) ?_
    intro _
    rw [nI_clamp (n := k) (by omega)]
    refine ⟨vp_in_nI (by omega) (by decide), ?_⟩
    intro h6 e6 _
    have m6 : crg X 1476 1494 h h6 := by rw [e6]; exact mm.wI (by decide) (by decide)
    have w1 : ∀ i, i < k + 1 → (ah_I h6 (X + 1488) i).toInt = snv nu a i := fun i hi => by
      rw [e6, rd_II]
      by_cases z : i = k
      · subst z; rw [if_pos ⟨rfl, rfl⟩]; exact r3
      · rw [if_neg (fun w => z w.2)]; exact q1 i (by omega)
    have w2 : ∀ i j, i < k → j < m → (ah_I h6 (X + (1477 + i)) j).toInt = snc nu e m i j := fun i j hi hj => by rw [e6, rd_Ia (by omega)]; exact q2 i j hi hj
    have w3 : ∀ i j, i < k → j < m → (ah_I h6 (X + (1483 + i)) j).toInt = 0 := fun i j hi hj => by rw [e6, rd_Ia (by omega)]; exact q3 i j hi hj
    have hx' : (x + (nu (40 * a + k)).toInt32).toInt = bf_sum (snv nu a) (k + 1) := by rw [i3_ad (by rw [hx, r3]; omega) (by rw [hx, r3]; omega), hx, r3]; rfl
    clear e6
    refine mx_up (α := Unit) (fun l _ => [some (rv X), some (iv (nI a)), some (iv (nI n)), some (iv (nI b)), some (iv (nI m)), some (iv (nI e)), some (iv (x + (nu (40 * a + k)).toInt32)), some (iv (nI k)), some (iv (nI l)), none, none, none, none]) m (fun l _ g => crg X 1476 1494 h g ∧ (∀ i, i < k + 1 → (ah_I g (X + 1488) i).toInt = snv nu a i) ∧ (∀ i j, i < k → j < m → (ah_I g (X + (1477 + i)) j).toInt = snc nu e m i j) ∧ (∀ i j, i < k → j < m → (ah_I g (X + (1483 + i)) j).toInt = 0) ∧ ∀ j, j < l → (ah_I g (X + (1477 + k)) j).toInt = snc nu e m k j ∧ (ah_I g (X + (1483 + k)) j).toInt = 0) (fun l _ g hl hI KK2 => ?_) (fun _ g hI => ?_) 0 () h6 (Nat.zero_le _) ⟨m6, w1, w2, w3, fun j hj => absurd hj (Nat.not_lt_zero _)⟩
    · obtain ⟨mm, q1, q2, q3, q4⟩ := hI
      have hin := sn_ij_lt hk hl
      have rc := ok2 (m * k + l) hin
      have z1 : (0 : Int64).toInt = 0 := by decide
      have z2 : (100 : Int64).toInt = 100 := by decide
      rw [i6_lt, i6_lt, z1, z2] at rc
      refine v_X0_send_245 (d := d + 40) (L.ext mm.ext) ⟨fun c => absurd c (nI_ge hl (by omega)), fun _ => ⟨vp_in_nI (by omega) (by decide), vp_in_nI he (by decide), ?_⟩⟩
      rw [nI_clamp (n := e) (by omega), pk_mul, nI_add]
      refine c_get1 (L.ext mm.ext) (mm.tr_ L T) he (by omega) (by omega) (by unfold ah_rc ah_rs; rw [mm.1]; exact rm) ?_
      intro _
      rw [nI_clamp (n := k) (by omega), nI_clamp (n := l) (by omega), nI_1]
      refine ⟨vp_in_nI (by omega) (by decide), ?_⟩
      intro h7 e7 _ h8 e8 _
      subst e7; subst e8
      refine KK2 () _ ⟨(mm.wI (by omega) (by omega)).wI (by omega) (by omega), fun i hi => ?_, fun i j hi hj => ?_, fun i j hi hj => ?_, fun j hj => ?_⟩
      · rw [rd_Ia (by omega), rd_Ia (by omega)]; exact q1 i hi
      · rw [rd_Ia (by omega), rd_Ia (by omega)]; exact q2 i j hi hj
      · rw [rd_Ia (by omega), rd_Ia (by omega)]; exact q3 i j hi hj
      · rw [rd_Ia (by omega), rd_II, rd_II]
        by_cases z : j = l
        · subst z; rw [if_pos ⟨rfl, rfl⟩, if_pos ⟨rfl, rfl⟩]; exact ⟨i6_3 (by omega) (by omega), i3_0⟩
        · rw [if_neg (fun w => z w.2), if_neg (fun w => z w.2), rd_Ia (by omega)]; exact q4 j (by omega)
    · obtain ⟨mm, q1, q2, q3, q4⟩ := hI
      refine v_X0_send_245 (d := d + 40) (L.ext mm.ext) ⟨fun _ => ?_, fun c => absurd (nI_le (Nat.le_refl _) (by omega)) c⟩
      rw [nI_1]
      refine KK _ g ⟨mm, q1, fun i j hi hj => ?_, fun i j hi hj => ?_, hx'⟩
      · by_cases z : i = k
        · subst z; exact (q4 j hj).1
        · exact q2 i j (by omega) hj
      · by_cases z : i = k
        · subst z; exact (q4 j hj).2
        · exact q3 i j (by omega) hj
  · obtain ⟨mm, q1, q2, q3, hx⟩ := hI
    exact v_X0_send_205 (d := d + 40) (L.ext mm.ext) ⟨fun _ => K g x mm q1 q2 q3 hx, fun c => absurd (nI_le (Nat.le_refl n) (by omega)) c⟩
/-- rows that the state does not show were written, then the status -/
theorem cpo.sn {g : ah_T} {v : Int32} (L : LY0 h X) (C : CI0 h X S) (mm : crg X 1476 1494 h g) (xt : ah_ext g (ah_wI g X 20 v)) : cpo X h (ah_wI g X 20 v) (uI S 0 0 v) := by
  have z : dyn pT (X + 5, 0) X h g := mm.dy (by decide)
  have cf : cfr X h g := fun a k ha => ⟨mm.2.2.2.2.2 a k (by omega), by rw [mm.2.2.2.2.1]⟩
  have d1 : ∀ p, p ∈ ct_A → p.1 < 1476 ∨ 1494 ≤ p.1 := by decide
  have d3 : ∀ p, p ∈ ct_Z → p.1 < 1476 := by decide
  have base : CIs g X S := by
    refine ⟨fun c a hm k => ?_, fun c k a hm => ?_⟩
    · have n1 : c < 1476 ∨ 1494 ≤ c := d1 _ hm
      rw [mm.2.2.2.2.2 _ _ (by omega)]
      exact C.1.1 c a hm k
    · have n1 : c < 1476 := d3 _ hm
      rw [mm.2.2.2.2.2 _ _ (by omega)]
      exact C.1.2 c k a hm
  exact cpo.mk L C z.zI cf.zI (mm.ext.tr xt) mm.1 (base.pX (v := v) 20 0 (by decide)) C.2.2.2.2.2 ⟨⟨rfl, rfl, rfl, rfl, rfl, rfl, rfl, rfl⟩, ⟨rfl, rfl⟩, ⟨rfl, rfl, rfl, rfl, rfl, rfl, rfl, rfl, rfl, rfl, rfl⟩, rfl, rfl, rfl⟩
theorem c_send (L : LY0 h X) (C : CI0 h X S) (RM : X + 1576 ≤ ah_sz h ∧ 4000 ≤ ah_rc h ∧ 40000 ≤ ah_rs h) (Kf : wy_send S x1 x2 x3 x4 x5 ≠ 0 → ∀ h1, cpo X h h1 (uI S 0 0 (wy_send S x1 x2 x3 x4 x5)) → Q (some (iv (-1))) h1) (Kb : wy_send S x1 x2 x3 x4 x5 = 0 → ¬ sok (S.2 3) x1.toNatClampNeg x2.toNatClampNeg x3.toNatClampNeg x4.toNatClampNeg x5.toNatClampNeg → ∀ h1, cpo X h h1 (uI S 0 0 5) → Q (some (iv (-1))) h1)
    (Kc : wy_send S x1 x2 x3 x4 x5 = 0 → sok (S.2 3) x1.toNatClampNeg x2.toNatClampNeg x3.toNatClampNeg x4.toNatClampNeg x5.toNatClampNeg → bf_sum (snv (S.2 3) x1.toNatClampNeg) x2.toNatClampNeg < bf_sum (snv (S.2 3) x3.toNatClampNeg) x4.toNatClampNeg → ∀ h1, cpo X h h1 (uI S 0 0 9) → Q (some (iv (-1))) h1)
    (Kg : wy_send S x1 x2 x3 x4 x5 = 0 → sok (S.2 3) x1.toNatClampNeg x2.toNatClampNeg x3.toNatClampNeg x4.toNatClampNeg x5.toNatClampNeg → ¬ bf_sum (snv (S.2 3) x1.toNatClampNeg) x2.toNatClampNeg < bf_sum (snv (S.2 3) x3.toNatClampNeg) x4.toNatClampNeg → ∀ h1 r, r.toInt = sn_Z x2.toNatClampNeg x4.toNatClampNeg (snc (S.2 3) x5.toNatClampNeg x4.toNatClampNeg) (sn0 (S.2 3) x1.toNatClampNeg x3.toNatClampNeg) (bf_sum (snv (S.2 3) x3.toNatClampNeg) x4.toNatClampNeg).toNat → cpo X h h1 (uI S 0 0 0) → Q (some (iv r)) h1) :
    MX G mi_X0_send (d + 42) 0 [some (rv X), some (iv x1), some (iv x2), some (iv x3), some (iv x4), some (iv x5), none, none, none, none, none, none, none] [] h Q E := by
  have rm : 3 ≤ ah_rc h ∧ 222 ≤ ah_rs h := ⟨by omega, by omega⟩
  refine v_X0_send (d := d + 41) L ?_
  refine ⟨fun c1 => ?_, fun c1 => ?_⟩
  · skip
    intro h2 eh2 Xh2
    have w_ : wy_send S x1 x2 x3 x4 x5 = (1 : Int32) := by
      simp only [i3_lt, i3_le, i6_lt, i6_le, i3_eq, i3_l, Int32.reduceToInt, Int64.reduceToInt, tm_1, tl_1] at c1
      unfold wy_send
      (repeat' split) <;> first | rfl | (exfalso; omega)
    subst eh2
    exact Kf (by rw [w_]; decide) _ (by rw [w_]; exact cpo.st L C Xh2)
  · skip
    refine ⟨fun c2 => ?_, fun c2 => ?_⟩
    · skip
      intro h4 eh4 Xh4
      have w_ : wy_send S x1 x2 x3 x4 x5 = (1 : Int32) := by
        simp only [i3_lt, i3_le, i6_lt, i6_le, i3_eq, i3_l, Int32.reduceToInt, Int64.reduceToInt, tm_1, tl_1] at c1 c2
        unfold wy_send
        (repeat' split) <;> first | rfl | (exfalso; omega)
      subst eh4
      exact Kf (by rw [w_]; decide) _ (by rw [w_]; exact cpo.st L C Xh4)
    · skip
      refine ⟨fun c3 => ?_, fun c3 => ?_⟩
      · skip
        intro h6 eh6 Xh6
        have w_ : wy_send S x1 x2 x3 x4 x5 = (1 : Int32) := by
          simp only [i3_lt, i3_le, i6_lt, i6_le, i3_eq, i3_l, Int32.reduceToInt, Int64.reduceToInt, tm_1, tl_1] at c1 c2 c3
          unfold wy_send
          (repeat' split) <;> first | rfl | (exfalso; omega)
        subst eh6
        exact Kf (by rw [w_]; decide) _ (by rw [w_]; exact cpo.st L C Xh6)
      · skip
        refine ⟨fun c4 => ?_, fun c4 => ?_⟩
        · skip
          intro h8 eh8 Xh8
          have w_ : wy_send S x1 x2 x3 x4 x5 = (1 : Int32) := by
            simp only [i3_lt, i3_le, i6_lt, i6_le, i3_eq, i3_l, Int32.reduceToInt, Int64.reduceToInt, tm_1, tl_1] at c1 c2 c3 c4
            unfold wy_send
            (repeat' split) <;> first | rfl | (exfalso; omega)
          subst eh8
          exact Kf (by rw [w_]; decide) _ (by rw [w_]; exact cpo.st L C Xh8)
        · skip
          refine ⟨fun c5 => ?_, fun c5 => ?_⟩
          · skip
            intro h10 eh10 Xh10
            have w_ : wy_send S x1 x2 x3 x4 x5 = (1 : Int32) := by
              simp only [i3_lt, i3_le, i6_lt, i6_le, i3_eq, i3_l, Int32.reduceToInt, Int64.reduceToInt, tm_1, tl_1] at c1 c2 c3 c4 c5
              unfold wy_send
              (repeat' split) <;> first | rfl | (exfalso; omega)
            subst eh10
            exact Kf (by rw [w_]; decide) _ (by rw [w_]; exact cpo.st L C Xh10)
          · skip
            refine ⟨fun c6 => ?_, fun c6 => ?_⟩
            · skip
              intro h12 eh12 Xh12
              have w_ : wy_send S x1 x2 x3 x4 x5 = (1 : Int32) := by
                simp only [i3_lt, i3_le, i6_lt, i6_le, i3_eq, i3_l, Int32.reduceToInt, Int64.reduceToInt, tm_1, tl_1] at c1 c2 c3 c4 c5 c6
                unfold wy_send
                (repeat' split) <;> first | rfl | (exfalso; omega)
              subst eh12
              exact Kf (by rw [w_]; decide) _ (by rw [w_]; exact cpo.st L C Xh12)
            · skip
              refine ⟨?_, ?_⟩
              · exact vp_x (by simp only [i3_lt, i3_le, i6_lt, i6_le, i3_eq, i3_l, Int32.reduceToInt, Int64.reduceToInt, tm_1, tl_1] at c1 c2 c3 c4 c5 c6; omega) (by simp only [i3_lt, i3_le, i6_lt, i6_le, i3_eq, i3_l, Int32.reduceToInt, Int64.reduceToInt, tm_1, tl_1] at c1 c2 c3 c4 c5 c6; omega)
              refine ⟨fun c7 => ?_, fun c7 => ?_⟩
              · skip
                intro h15 eh15 Xh15
                rw [C.2.2.2.2.1.nul (t := x1.toNatClampNeg) (cl_lt (by simp only [i3_lt, i3_le, i6_lt, i6_le, i3_eq, i3_l, Int32.reduceToInt, Int64.reduceToInt, tm_1, tl_1] at c1 c2 c3 c4 c5 c6; omega) (by simp only [i3_lt, i3_le, i6_lt, i6_le, i3_eq, i3_l, Int32.reduceToInt, Int64.reduceToInt, tm_1, tl_1] at c1 c2 c3 c4 c5 c6; omega))] at c7
                have w_ : wy_send S x1 x2 x3 x4 x5 = (3 : Int32) := by
                  simp only [i3_lt, i3_le, i6_lt, i6_le, i3_eq, i3_l, Int32.reduceToInt, Int64.reduceToInt, tm_1, tl_1] at c1 c2 c3 c4 c5 c6 c7
                  unfold wy_send
                  (repeat' split) <;> first | rfl | (exfalso; omega)
                subst eh15
                exact Kf (by rw [w_]; decide) _ (by rw [w_]; exact cpo.st L C Xh15)
              · skip
                refine ⟨?_, ?_⟩
                · exact vp_x (by simp only [i3_lt, i3_le, i6_lt, i6_le, i3_eq, i3_l, Int32.reduceToInt, Int64.reduceToInt, tm_1, tl_1] at c1 c2 c3 c4 c5 c6; omega) (by simp only [i3_lt, i3_le, i6_lt, i6_le, i3_eq, i3_l, Int32.reduceToInt, Int64.reduceToInt, tm_1, tl_1] at c1 c2 c3 c4 c5 c6; omega)
                refine ⟨fun c8 => ?_, fun c8 => ?_⟩
                · skip
                  intro h18 eh18 Xh18
                  rw [C.2.2.2.2.1.nul (t := x1.toNatClampNeg) (cl_lt (by simp only [i3_lt, i3_le, i6_lt, i6_le, i3_eq, i3_l, Int32.reduceToInt, Int64.reduceToInt, tm_1, tl_1] at c1 c2 c3 c4 c5 c6; omega) (by simp only [i3_lt, i3_le, i6_lt, i6_le, i3_eq, i3_l, Int32.reduceToInt, Int64.reduceToInt, tm_1, tl_1] at c1 c2 c3 c4 c5 c6; omega))] at c7
                  rw [C.2.2.2.2.1.nul (t := x3.toNatClampNeg) (cl_lt (by simp only [i3_lt, i3_le, i6_lt, i6_le, i3_eq, i3_l, Int32.reduceToInt, Int64.reduceToInt, tm_1, tl_1] at c1 c2 c3 c4 c5 c6; omega) (by simp only [i3_lt, i3_le, i6_lt, i6_le, i3_eq, i3_l, Int32.reduceToInt, Int64.reduceToInt, tm_1, tl_1] at c1 c2 c3 c4 c5 c6; omega))] at c8
                  have w_ : wy_send S x1 x2 x3 x4 x5 = (3 : Int32) := by
                    simp only [i3_lt, i3_le, i6_lt, i6_le, i3_eq, i3_l, Int32.reduceToInt, Int64.reduceToInt, tm_1, tl_1] at c1 c2 c3 c4 c5 c6 c7 c8
                    unfold wy_send
                    (repeat' split) <;> first | rfl | (exfalso; omega)
                  subst eh18
                  exact Kf (by rw [w_]; decide) _ (by rw [w_]; exact cpo.st L C Xh18)
                · skip
                  refine ⟨?_, ?_⟩
                  · exact vp_x (by simp only [i3_lt, i3_le, i6_lt, i6_le, i3_eq, i3_l, Int32.reduceToInt, Int64.reduceToInt, tm_1, tl_1] at c1 c2 c3 c4 c5 c6; omega) (by simp only [i3_lt, i3_le, i6_lt, i6_le, i3_eq, i3_l, Int32.reduceToInt, Int64.reduceToInt, tm_1, tl_1] at c1 c2 c3 c4 c5 c6; omega)
                  refine ⟨fun c9 => ?_, fun c9 => ?_⟩
                  · skip
                    refine ⟨fun c10 => ?_, fun c10 => ?_⟩
                    · skip
                      intro h22 eh22 Xh22
                      rw [C.2.2.2.2.1.nul (t := x1.toNatClampNeg) (cl_lt (by simp only [i3_lt, i3_le, i6_lt, i6_le, i3_eq, i3_l, Int32.reduceToInt, Int64.reduceToInt, tm_1, tl_1] at c1 c2 c3 c4 c5 c6 c10; omega) (by simp only [i3_lt, i3_le, i6_lt, i6_le, i3_eq, i3_l, Int32.reduceToInt, Int64.reduceToInt, tm_1, tl_1] at c1 c2 c3 c4 c5 c6 c10; omega))] at c7
                      rw [C.2.2.2.2.1.nul (t := x3.toNatClampNeg) (cl_lt (by simp only [i3_lt, i3_le, i6_lt, i6_le, i3_eq, i3_l, Int32.reduceToInt, Int64.reduceToInt, tm_1, tl_1] at c1 c2 c3 c4 c5 c6 c10; omega) (by simp only [i3_lt, i3_le, i6_lt, i6_le, i3_eq, i3_l, Int32.reduceToInt, Int64.reduceToInt, tm_1, tl_1] at c1 c2 c3 c4 c5 c6 c10; omega))] at c8
                      rw [C.2.2.2.2.1.nul (t := x5.toNatClampNeg) (cl_lt (by simp only [i3_lt, i3_le, i6_lt, i6_le, i3_eq, i3_l, Int32.reduceToInt, Int64.reduceToInt, tm_1, tl_1] at c1 c2 c3 c4 c5 c6 c10; omega) (by simp only [i3_lt, i3_le, i6_lt, i6_le, i3_eq, i3_l, Int32.reduceToInt, Int64.reduceToInt, tm_1, tl_1] at c1 c2 c3 c4 c5 c6 c10; omega))] at c9
                      have w_ : wy_send S x1 x2 x3 x4 x5 = (5 : Int32) := by
                        simp only [i3_lt, i3_le, i6_lt, i6_le, i3_eq, i3_l, Int32.reduceToInt, Int64.reduceToInt, tm_1, tl_1] at c1 c2 c3 c4 c5 c6 c7 c8 c9 c10
                        unfold wy_send
                        (repeat' split) <;> first | rfl | (exfalso; omega)
                      subst eh22
                      exact Kf (by rw [w_]; decide) _ (by rw [w_]; exact cpo.st L C Xh22)
                    · skip
                      refine ⟨fun c11 => ?_, fun c11 => ?_⟩
                      · skip
                        intro h24 eh24 Xh24
                        rw [C.2.2.2.2.1.nul (t := x1.toNatClampNeg) (cl_lt (by simp only [i3_lt, i3_le, i6_lt, i6_le, i3_eq, i3_l, Int32.reduceToInt, Int64.reduceToInt, tm_1, tl_1] at c1 c2 c3 c4 c5 c6 c10 c11; omega) (by simp only [i3_lt, i3_le, i6_lt, i6_le, i3_eq, i3_l, Int32.reduceToInt, Int64.reduceToInt, tm_1, tl_1] at c1 c2 c3 c4 c5 c6 c10 c11; omega))] at c7
                        rw [C.2.2.2.2.1.nul (t := x3.toNatClampNeg) (cl_lt (by simp only [i3_lt, i3_le, i6_lt, i6_le, i3_eq, i3_l, Int32.reduceToInt, Int64.reduceToInt, tm_1, tl_1] at c1 c2 c3 c4 c5 c6 c10 c11; omega) (by simp only [i3_lt, i3_le, i6_lt, i6_le, i3_eq, i3_l, Int32.reduceToInt, Int64.reduceToInt, tm_1, tl_1] at c1 c2 c3 c4 c5 c6 c10 c11; omega))] at c8
                        rw [C.2.2.2.2.1.nul (t := x5.toNatClampNeg) (cl_lt (by simp only [i3_lt, i3_le, i6_lt, i6_le, i3_eq, i3_l, Int32.reduceToInt, Int64.reduceToInt, tm_1, tl_1] at c1 c2 c3 c4 c5 c6 c10 c11; omega) (by simp only [i3_lt, i3_le, i6_lt, i6_le, i3_eq, i3_l, Int32.reduceToInt, Int64.reduceToInt, tm_1, tl_1] at c1 c2 c3 c4 c5 c6 c10 c11; omega))] at c9
                        have w_ : wy_send S x1 x2 x3 x4 x5 = (5 : Int32) := by
                          simp only [i3_lt, i3_le, i6_lt, i6_le, i3_eq, i3_l, Int32.reduceToInt, Int64.reduceToInt, tm_1, tl_1] at c1 c2 c3 c4 c5 c6 c7 c8 c9 c10 c11
                          unfold wy_send
                          (repeat' split) <;> first | rfl | (exfalso; omega)
                        subst eh24
                        exact Kf (by rw [w_]; decide) _ (by rw [w_]; exact cpo.st L C Xh24)
                      · skip
                        refine ⟨fun c12 => ?_, fun c12 => ?_⟩
                        · skip
                          intro h26 eh26 Xh26
                          rw [C.2.2.2.2.1.nul (t := x1.toNatClampNeg) (cl_lt (by simp only [i3_lt, i3_le, i6_lt, i6_le, i3_eq, i3_l, Int32.reduceToInt, Int64.reduceToInt, tm_1, tl_1] at c1 c2 c3 c4 c5 c6 c10 c11 c12; omega) (by simp only [i3_lt, i3_le, i6_lt, i6_le, i3_eq, i3_l, Int32.reduceToInt, Int64.reduceToInt, tm_1, tl_1] at c1 c2 c3 c4 c5 c6 c10 c11 c12; omega))] at c7
                          rw [C.2.2.2.2.1.nul (t := x3.toNatClampNeg) (cl_lt (by simp only [i3_lt, i3_le, i6_lt, i6_le, i3_eq, i3_l, Int32.reduceToInt, Int64.reduceToInt, tm_1, tl_1] at c1 c2 c3 c4 c5 c6 c10 c11 c12; omega) (by simp only [i3_lt, i3_le, i6_lt, i6_le, i3_eq, i3_l, Int32.reduceToInt, Int64.reduceToInt, tm_1, tl_1] at c1 c2 c3 c4 c5 c6 c10 c11 c12; omega))] at c8
                          rw [C.2.2.2.2.1.nul (t := x5.toNatClampNeg) (cl_lt (by simp only [i3_lt, i3_le, i6_lt, i6_le, i3_eq, i3_l, Int32.reduceToInt, Int64.reduceToInt, tm_1, tl_1] at c1 c2 c3 c4 c5 c6 c10 c11 c12; omega) (by simp only [i3_lt, i3_le, i6_lt, i6_le, i3_eq, i3_l, Int32.reduceToInt, Int64.reduceToInt, tm_1, tl_1] at c1 c2 c3 c4 c5 c6 c10 c11 c12; omega))] at c9
                          have w_ : wy_send S x1 x2 x3 x4 x5 = (5 : Int32) := by
                            simp only [i3_lt, i3_le, i6_lt, i6_le, i3_eq, i3_l, Int32.reduceToInt, Int64.reduceToInt, tm_1, tl_1] at c1 c2 c3 c4 c5 c6 c7 c8 c9 c10 c11 c12
                            unfold wy_send
                            (repeat' split) <;> first | rfl | (exfalso; omega)
                          subst eh26
                          exact Kf (by rw [w_]; decide) _ (by rw [w_]; exact cpo.st L C Xh26)
                        · skip
                          refine ⟨fun c13 => ?_, fun c13 => ?_⟩
                          · skip
                            rw [C.2.2.2.2.1.nul (t := x1.toNatClampNeg) (cl_lt (by simp only [i3_lt, i3_le, i6_lt, i6_le, i3_eq, i3_l, Int32.reduceToInt, Int64.reduceToInt, tm_1, tl_1] at c1 c2 c3 c4 c5 c6 c10 c11 c12 c13; omega) (by simp only [i3_lt, i3_le, i6_lt, i6_le, i3_eq, i3_l, Int32.reduceToInt, Int64.reduceToInt, tm_1, tl_1] at c1 c2 c3 c4 c5 c6 c10 c11 c12 c13; omega))] at c7
                            rw [C.2.2.2.2.1.nul (t := x3.toNatClampNeg) (cl_lt (by simp only [i3_lt, i3_le, i6_lt, i6_le, i3_eq, i3_l, Int32.reduceToInt, Int64.reduceToInt, tm_1, tl_1] at c1 c2 c3 c4 c5 c6 c10 c11 c12 c13; omega) (by simp only [i3_lt, i3_le, i6_lt, i6_le, i3_eq, i3_l, Int32.reduceToInt, Int64.reduceToInt, tm_1, tl_1] at c1 c2 c3 c4 c5 c6 c10 c11 c12 c13; omega))] at c8
                            rw [C.2.2.2.2.1.nul (t := x5.toNatClampNeg) (cl_lt (by simp only [i3_lt, i3_le, i6_lt, i6_le, i3_eq, i3_l, Int32.reduceToInt, Int64.reduceToInt, tm_1, tl_1] at c1 c2 c3 c4 c5 c6 c10 c11 c12 c13; omega) (by simp only [i3_lt, i3_le, i6_lt, i6_le, i3_eq, i3_l, Int32.reduceToInt, Int64.reduceToInt, tm_1, tl_1] at c1 c2 c3 c4 c5 c6 c10 c11 c12 c13; omega))] at c9
                            simp only [i3_lt, i3_le, i6_lt, i6_le, i3_eq, i3_l, Int32.reduceToInt, Int64.reduceToInt, tm_1, tl_1] at c1 c2 c3 c4 c5 c6 c7 c8 c9 c10 c11 c12 c13
                            obtain ⟨a1, a2⟩ := x_nI (x := x1) (n := 3) (by omega) (by omega)
                            obtain ⟨b1, b2⟩ := x_nI (x := x2) (n := 5) (by omega) (by omega)
                            obtain ⟨f1, f2⟩ := x_nI (x := x3) (n := 3) (by omega) (by omega)
                            obtain ⟨g1, g2⟩ := x_nI (x := x4) (n := 4) (by omega) (by omega)
                            obtain ⟨i1, i2⟩ := x_nI (x := x5) (n := 3) (by omega) (by omega)
                            have w4 : ¬ (x2.toInt ≤ (S.1 2 x1.toNatClampNeg).toInt ∧ x4.toInt ≤ (S.1 2 x3.toNatClampNeg).toInt ∧ (x2 * x4).toInt ≤ (S.1 2 x5.toNatClampNeg).toInt) → wy_send S x1 x2 x3 x4 x5 = 4 := fun q => by
                              unfold wy_send; rw [if_pos (by omega), if_pos (by omega), if_pos (by omega), if_neg q]
                            have w0 : (x2.toInt ≤ (S.1 2 x1.toNatClampNeg).toInt ∧ x4.toInt ≤ (S.1 2 x3.toNatClampNeg).toInt ∧ (x2 * x4).toInt ≤ (S.1 2 x5.toNatClampNeg).toInt) → wy_send S x1 x2 x3 x4 x5 = 0 := fun q => by
                              unfold wy_send; rw [if_pos (by omega), if_pos (by omega), if_pos (by omega), if_pos q]
                            refine c_many L C.2.2.2.2.1 (by omega) (by omega) ?_
                            intro _
                            refine ⟨fun c => ?_, fun c => ?_⟩
                            · intro h20 e20 X20
                              subst e20
                              have w_ := w4 (fun q => by rw [i3_lt] at c; omega)
                              exact Kf (by rw [w_]; decide) _ (by rw [w_]; exact cpo.st L C X20)
                            rw [i3_lt] at c
                            refine c_many L C.2.2.2.2.1 (by omega) (by omega) ?_
                            intro _
                            refine ⟨fun e => ?_, fun e => ?_⟩
                            · intro h20 e20 X20
                              subst e20
                              have w_ := w4 (fun q => by rw [i3_lt] at e; omega)
                              exact Kf (by rw [w_]; decide) _ (by rw [w_]; exact cpo.st L C X20)
                            rw [i3_lt] at e
                            refine c_many L C.2.2.2.2.1 (by omega) (by omega) ?_
                            intro _
                            refine ⟨fun f => ?_, fun f => ?_⟩
                            rotate_left
                            · intro h20 e20 X20
                              subst e20
                              have w_ := w4 (fun q => by rw [i3_le] at f; omega)
                              exact Kf (by rw [w_]; decide) _ (by rw [w_]; exact cpo.st L C X20)
                            rw [i3_le] at f
                            have w_ := w0 ⟨by omega, by omega, f⟩
                            have x2n : x2.toInt = (x2.toNatClampNeg : Int) := by have := nI_x (n := x2.toNatClampNeg) (by omega); rw [← b1] at this; exact this
                            have x4n : x4.toInt = (x4.toNatClampNeg : Int) := by have := nI_x (n := x4.toNatClampNeg) (by omega); rw [← g1] at this; exact this
                            have nm : x2.toNatClampNeg * x4.toNatClampNeg ≤ 20 := Nat.mul_le_mul b2 g2
                            have x24 : x2 * x4 = nI (x2.toNatClampNeg * x4.toNatClampNeg) := by rw [← pk_mul, ← b1, ← g1]
                            have f' : ((x2.toNatClampNeg * x4.toNatClampNeg : Nat) : Int) ≤ (S.1 2 x5.toNatClampNeg).toInt := by rw [x24, nI_x (by omega)] at f; exact f
                            have bad : ¬ sok (S.2 3) x1.toNatClampNeg x2.toNatClampNeg x3.toNatClampNeg x4.toNatClampNeg x5.toNatClampNeg → ∀ h27 : ah_T, h27 = ah_wI h X 20 5 → ah_ext h h27 → Q (some (iv (-1))) h27 := fun q h27 e27 X27 => by
                              subst e27
                              exact Kb w_ q _ (cpo.st L C X27)
                            rw [a1, b1, f1, g1, i1, pk_mul]
                            refine c_areFrom (d := d) L C.2.2.2.2.1 (by omega) (by omega) (by omega) (by omega) rm (fun k1 => ?_) (fun k0 => ?_)
                            rotate_left
                            · intro _
                              exact ⟨fun _ => bad (fun q => k0 q.1), fun c => absurd rfl c⟩
                            intro _
                            refine ⟨fun c => absurd c (by decide), fun _ => ?_⟩
                            refine c_areFrom (d := d) L C.2.2.2.2.1 (by omega) (by omega) (by omega) (by omega) rm (fun k2 => ?_) (fun k0 => ?_)
                            rotate_left
                            · intro _
                              exact ⟨fun _ => bad (fun q => k0 q.2.1), fun c => absurd rfl c⟩
                            intro _
                            refine ⟨fun c => absurd c (by decide), fun _ => ?_⟩
                            refine c_areFrom (d := d) L C.2.2.2.2.1 (by omega) (by omega) (by omega) (by omega) rm (fun k3 => ?_) (fun k0 => ?_)
                            rotate_left
                            · intro _
                              exact ⟨fun c => absurd rfl c, fun _ => bad (fun q => k0 q.2.2)⟩
                            intro _
                            refine ⟨fun _ => ?_, fun c => absurd c (by decide)⟩
                            have ok : sok (S.2 3) x1.toNatClampNeg x2.toNatClampNeg x3.toNatClampNeg x4.toNatClampNeg x5.toNatClampNeg := ⟨k1, k2, k3⟩
                            have s1 := sok_sum k1 (Nat.le_refl _)
                            have s2 := sok_sum k2 (Nat.le_refl _)
                            refine c_send_205 (d := d + 1) (nu := S.2 3) (by omega) (by omega) (by omega) (by omega) (by omega) L C.2.2.2.2.1 (by omega) f' rm k1 k3 (fun g x m z1 z2 z3 hx => ?_)
                            refine c_send_310 (d := d + 1) (nu := S.2 3) hx (by omega) (by omega) (by omega) (L.ext m.ext) (m.tr_ L C.2.2.2.2.1) (by omega) (by unfold ah_rc ah_rs; rw [m.1]; exact rm) k2 z1 z2 z3 (fun lt g2 m2 h3 e3 X3 => ?_) (fun nlt g2 x2' m2 H2 hx2 => ?_)
                            · subst e3
                              exact Kc w_ ok lt _ (cpo.sn L C (m.tr m2) X3)
                            · refine c_send_374 (d := d + 41) (sok1_c k3) (by omega) (by omega) (by omega) (sn0_I ok) (by omega) (by omega) hx2 ((L.ext m.ext).ext m2.ext) H2 (fun g3 r m3 hr h2 e2 X2 => ?_)
                              subst e2
                              exact Kg w_ ok nlt _ r hr (cpo.sn L C ((m.tr m2).tr (m3.mn (by decide) (by decide))) X2)
                          · skip
                            intro h52 eh52 Xh52
                            rw [C.2.2.2.2.1.nul (t := x1.toNatClampNeg) (cl_lt (by simp only [i3_lt, i3_le, i6_lt, i6_le, i3_eq, i3_l, Int32.reduceToInt, Int64.reduceToInt, tm_1, tl_1] at c1 c2 c3 c4 c5 c6 c10 c11 c12 c13; omega) (by simp only [i3_lt, i3_le, i6_lt, i6_le, i3_eq, i3_l, Int32.reduceToInt, Int64.reduceToInt, tm_1, tl_1] at c1 c2 c3 c4 c5 c6 c10 c11 c12 c13; omega))] at c7
                            rw [C.2.2.2.2.1.nul (t := x3.toNatClampNeg) (cl_lt (by simp only [i3_lt, i3_le, i6_lt, i6_le, i3_eq, i3_l, Int32.reduceToInt, Int64.reduceToInt, tm_1, tl_1] at c1 c2 c3 c4 c5 c6 c10 c11 c12 c13; omega) (by simp only [i3_lt, i3_le, i6_lt, i6_le, i3_eq, i3_l, Int32.reduceToInt, Int64.reduceToInt, tm_1, tl_1] at c1 c2 c3 c4 c5 c6 c10 c11 c12 c13; omega))] at c8
                            rw [C.2.2.2.2.1.nul (t := x5.toNatClampNeg) (cl_lt (by simp only [i3_lt, i3_le, i6_lt, i6_le, i3_eq, i3_l, Int32.reduceToInt, Int64.reduceToInt, tm_1, tl_1] at c1 c2 c3 c4 c5 c6 c10 c11 c12 c13; omega) (by simp only [i3_lt, i3_le, i6_lt, i6_le, i3_eq, i3_l, Int32.reduceToInt, Int64.reduceToInt, tm_1, tl_1] at c1 c2 c3 c4 c5 c6 c10 c11 c12 c13; omega))] at c9
                            have w_ : wy_send S x1 x2 x3 x4 x5 = (5 : Int32) := by
                              simp only [i3_lt, i3_le, i6_lt, i6_le, i3_eq, i3_l, Int32.reduceToInt, Int64.reduceToInt, tm_1, tl_1] at c1 c2 c3 c4 c5 c6 c7 c8 c9 c10 c11 c12 c13
                              unfold wy_send
                              (repeat' split) <;> first | rfl | (exfalso; omega)
                            subst eh52
                            exact Kf (by rw [w_]; decide) _ (by rw [w_]; exact cpo.st L C Xh52)
                  · skip
                    intro h53 eh53 Xh53
                    rw [C.2.2.2.2.1.nul (t := x1.toNatClampNeg) (cl_lt (by simp only [i3_lt, i3_le, i6_lt, i6_le, i3_eq, i3_l, Int32.reduceToInt, Int64.reduceToInt, tm_1, tl_1] at c1 c2 c3 c4 c5 c6; omega) (by simp only [i3_lt, i3_le, i6_lt, i6_le, i3_eq, i3_l, Int32.reduceToInt, Int64.reduceToInt, tm_1, tl_1] at c1 c2 c3 c4 c5 c6; omega))] at c7
                    rw [C.2.2.2.2.1.nul (t := x3.toNatClampNeg) (cl_lt (by simp only [i3_lt, i3_le, i6_lt, i6_le, i3_eq, i3_l, Int32.reduceToInt, Int64.reduceToInt, tm_1, tl_1] at c1 c2 c3 c4 c5 c6; omega) (by simp only [i3_lt, i3_le, i6_lt, i6_le, i3_eq, i3_l, Int32.reduceToInt, Int64.reduceToInt, tm_1, tl_1] at c1 c2 c3 c4 c5 c6; omega))] at c8
                    rw [C.2.2.2.2.1.nul (t := x5.toNatClampNeg) (cl_lt (by simp only [i3_lt, i3_le, i6_lt, i6_le, i3_eq, i3_l, Int32.reduceToInt, Int64.reduceToInt, tm_1, tl_1] at c1 c2 c3 c4 c5 c6; omega) (by simp only [i3_lt, i3_le, i6_lt, i6_le, i3_eq, i3_l, Int32.reduceToInt, Int64.reduceToInt, tm_1, tl_1] at c1 c2 c3 c4 c5 c6; omega))] at c9
                    have w_ : wy_send S x1 x2 x3 x4 x5 = (3 : Int32) := by
                      simp only [i3_lt, i3_le, i6_lt, i6_le, i3_eq, i3_l, Int32.reduceToInt, Int64.reduceToInt, tm_1, tl_1] at c1 c2 c3 c4 c5 c6 c7 c8 c9
                      unfold wy_send
                      (repeat' split) <;> first | rfl | (exfalso; omega)
                    subst eh53
                    exact Kf (by rw [w_]; decide) _ (by rw [w_]; exact cpo.st L C Xh53)
end

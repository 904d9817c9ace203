/-! ===== votes: the model ===== -/
section
variable {G : ma_G} {d X M n s : Nat} {h g g2 : ah_T} {S : MS} {tx : Nat → List Nat × List PD} {x : Int32} {vt : Nat → Nat} {w : Int32} {Q : Option ma_V → ah_T → Prop} {E : Nat → ah_T → Prop} {F A : Nat → Nat}
theorem m_findVotes (L : LY8 h M) (kS : kq S (mv h M)) (W : WF S) (B : WB S) (T : TXm S tx) (K : ∀ g, mch [44, 45, 46, 47, 48, 64, 65, 66] [72, 108] M h g → (∀ f, f < nF S → ah_J g (M + 66) f = lN (vtS S tx x f)) → (∀ d, d < 6 → ah_J g (M + 64) d = lN (fa0 S (vtS S tx x) 1 d (nF S)) ∧ ah_J g (M + 65) d = lN (fa0 S (vtS S tx x) 0 d (nF S))) → Q none g) : MX G mi_X8_findVotes (d + 5) 0 [some (rv M), some (iv x), none] [] h Q E := by
  have f20 := B.1
  refine v_X8_findVotes (d := d + 4) L ?_
  refine mx_up (α := Unit) (fun f _ => [some (rv M), some (iv x), some (iv (nI f))]) (nF S) (fun f _ g => mch [44, 45, 46, 47, 48, 64, 65, 66] [72, 108] M h g ∧ ∀ j, j < f → ah_J g (M + 66) j = lN (vtS S tx x j)) (fun f _ g hf hI KK => ?_) (fun _ g hI => ?_) 0 () h (Nat.zero_le _) ⟨mch.rf, fun j hj => by omega⟩
  · obtain ⟨z, i1⟩ := hI
    have kg := kS.mc z (by decide) (by decide) (by decide)
    have iFm : ah_I g M 5 = nI (nF S) := (kg.z 5 (by decide) (by decide)).trans W.1.1
    refine v_X8_findVotes_2 (d := d + 4) (z.ly L) ⟨fun c => ?_, fun _ => ?_⟩
    · exfalso; rw [iFm, i3_le, nI_x (by omega), nI_x (by omega)] at c; omega
    refine m_letNothing (z.ly L) (fun g1 z1 zz => ?_)
    intro _ h4 e4 _ h5 e5 _
    have k1 := kg.mc z1 (by decide) (by decide) (by decide)
    rw [nI_clamp (n := f) (by omega), k1.r 5 _ (by decide), k1.r 6 _ (by decide), k1.r 4 _ (by decide)]
    refine ⟨vp_in_nI (by omega) (by decide), fun h7 e7 _ h8 e8 _ h9 e9 _ => ?_⟩
    have z9 : mch [45] [] M g h9 := by rw [e9, e8, e7, e5, e4]; exact ((((z1.wJ (by decide)).wJ (by decide)).wJ (by decide)).wJ (by decide)).wJ (by decide)
    rw [show (23580851 : Int64) = lN 23580851 from rfl]
    refine m_ask3 (d := d) (vs := vvt S x f) (lo := 0) (hi := 1000) (z9.ly (z.ly L)) (kg.mc z9 (by decide) (by decide) (by decide)) T (by decide) (fun j hj => ?_) (by decide) (by decide) (fun g2 v z2 ev => ?_)
    · rw [e9, e8, e7, e5, e4]
      simp only [rd_JJ, true_and, eq_self]
      rw [zz j hj]
      rfl
    · intro _ h12 e12 _
      rw [ev, vtS_v.1] at e12
      rw [nI_1]
      have y2 : mch [44, 45, 46, 47, 48, 64, 65, 66] [72, 108] M g g2 := (z9.mono (by decide) (by decide)).tr (z2.mono (by decide) (by decide))
      refine KK () h12 ⟨by rw [e12]; exact (z.tr y2).wJ (by decide), fun j hj => ?_⟩
      rw [e12, rd_JJ]
      by_cases c : j = f
      · rw [if_pos ⟨rfl, c⟩, c]
      · rw [if_neg (fun q => c q.2), z2.arJ 66 (by decide) (by decide), z9.arJ 66 (by decide) (by decide)]; exact i1 j (by omega)
  obtain ⟨z0, v0⟩ := hI
  have l5 : ∀ g', mch [44, 45, 46, 47, 48, 64, 65, 66] [72, 108] M h g' → ah_I g' M 5 = nI (nF S) := fun g' z => ((kS.mc z (by decide) (by decide) (by decide)).z 5 (by decide) (by decide)).trans W.1.1
  refine v_X8_findVotes_2 (d := d + 4) (z0.ly L) ⟨fun _ => ?_, fun c => absurd (by rw [l5 g z0, i3_le]; exact Int.le_refl _) c⟩
  refine mx_up (α := Unit) (fun k _ => [some (rv M), none, some (iv (nI k))]) 6 (fun k _ g' => mch [64, 65] [] M g g' ∧ ∀ j, j < k → ah_J g' (M + 64) j = 0 ∧ ah_J g' (M + 65) j = 0) (fun k _ g' hk hI KK => ?_) (fun _ g' hI => ?_) 0 () g (Nat.zero_le _) ⟨mch.rf, fun j hj => by omega⟩
  · obtain ⟨z, i1⟩ := hI
    refine v_X8_findVotes_115 (d := d + 4) (z.ly (z0.ly L)) ⟨fun c => ?_, fun _ => ⟨vp_in_nI hk (by decide), fun h3 e3 _ h4 e4 _ => ?_⟩⟩
    · exfalso; rw [i3_le, nI_x (by omega)] at c; have : (6 : Int) ≤ (k : Int) := c; omega
    · rw [nI_clamp (by omega)] at e3 e4
      rw [nI_1]
      refine KK () h4 ⟨by rw [e4, e3]; exact (z.wJ (by decide)).wJ (by decide), fun j hj => ?_⟩
      by_cases c : j = k
      · refine ⟨?_, ?_⟩
        · rw [e4, rd_Ja (by omega), e3, rd_JJ, if_pos ⟨rfl, c⟩]
        · rw [e4, rd_JJ, if_pos ⟨rfl, c⟩]
      · refine ⟨?_, ?_⟩
        · rw [e4, rd_Ja (by omega), e3, rd_JJ, if_neg (fun q => c q.2)]; exact (i1 j (by omega)).1
        · rw [e4, rd_JJ, if_neg (fun q => c q.2), e3, rd_Ja (by omega)]; exact (i1 j (by omega)).2
  obtain ⟨z1, i1⟩ := hI
  refine v_X8_findVotes_115 (d := d + 4) (z1.ly (z0.ly L)) ⟨fun _ => ?_, fun c => absurd (by decide) c⟩
  refine mx_up (α := Unit) (fun f _ => [some (rv M), none, some (iv (nI f))]) (nF S) (fun f _ g'' => mch [64, 65] [] M g g'' ∧ ∀ j, j < 6 → ah_J g'' (M + 64) j = lN (fa0 S (vtS S tx x) 1 j f) ∧ ah_J g'' (M + 65) j = lN (fa0 S (vtS S tx x) 0 j f)) (fun f _ g'' hf hI KK => ?_) (fun _ g'' hI => ?_) 0 () g' (Nat.zero_le _) ⟨z1, fun j hj => i1 j hj⟩
  · obtain ⟨z, j1⟩ := hI
    have y : mch [44, 45, 46, 47, 48, 64, 65, 66] [72, 108] M h g'' := z0.tr (z.mono (by decide) (by decide))
    have ky := kS.mc y (by decide) (by decide) (by decide)
    have wf := W.2.1 f hf
    obtain ⟨d1, d2⟩ := wf.1.u (a := 5)
    have v66 : ah_J g'' (M + 66) f = lN (vtS S tx x f) := by rw [z.arJ 66 (by decide) (by decide)]; exact v0 f hf
    generalize hd0 : (S.1 4 f).toNatClampNeg = d0 at d1 d2
    have f1 : ∀ c j, fa0 S (vtS S tx x) c j (f + 1) = fa0 S (vtS S tx x) c j f + (if S.1 4 f = nI j ∧ S.1 55 f = c then vtS S tx x f else 0) := fun c j => rfl
    have nj : ∀ j, j < 6 → j ≠ d0 → ¬ S.1 4 f = nI j := fun j hj hn q => hn (by rw [d1, nI_eq (by omega) (by omega)] at q; exact q.symm)
    -- against
    have ag : ∀ g3, mch [64, 65] [] M g g3 → (∀ j, j < 6 → ah_J g3 (M + 64) j = lN (fa0 S (vtS S tx x) 1 j (f + 1)) ∧ ah_J g3 (M + 65) j = lN (fa0 S (vtS S tx x) 0 j f)) → MX G mi_X8_findVotes (d + 4 + 1) 181 [some (rv M), none, some (iv (nI f))] [] g3 Q E := fun g3 z3 j3 => by
      have y3 : mch [44, 45, 46, 47, 48, 64, 65, 66] [72, 108] M h g3 := z0.tr (z3.mono (by decide) (by decide))
      have k3 := kS.mc y3 (by decide) (by decide) (by decide)
      have w66 : ah_J g3 (M + 66) f = lN (vtS S tx x f) := by rw [z3.arJ 66 (by decide) (by decide)]; exact v0 f hf
      refine v_X8_findVotes_181 (d := d + 4) (y3.ly L) ?_
      rw [nI_clamp (n := f) (by omega), k3.r 55 _ (by decide), k3.r 4 _ (by decide), hd0, w66, (j3 d0 (by omega)).2, lN_add, nI_1]
      refine ⟨vp_in_nI (by omega) (by decide), fun c => ?_, fun c => ⟨by rw [d1]; exact vp_in_nI (by omega) (by decide), fun h4 e4 _ => ?_⟩⟩
      · refine KK () g3 ⟨z3, fun j hj => ⟨(j3 j hj).1, ?_⟩⟩
        rw [f1, if_neg (fun q => c q.2)]; exact (j3 j hj).2
      · refine KK () h4 ⟨by rw [e4]; exact z3.wJ (by decide), fun j hj => ⟨by rw [e4, rd_Ja (by omega)]; exact (j3 j hj).1, ?_⟩⟩
        rw [e4, rd_JJ, f1]
        by_cases q : j = d0
        · rw [if_pos ⟨rfl, q⟩, q, if_pos ⟨d1, c⟩]
        · rw [if_neg (fun r => q r.2), if_neg (fun r => nj j hj q r.1)]; exact (j3 j hj).2
    refine v_X8_findVotes_143 (d := d + 4) (y.ly L) ⟨fun c => ?_, fun _ => ?_⟩
    · exfalso; rw [l5 g'' y, i3_le, nI_x (by omega), nI_x (by omega)] at c; omega
    rw [nI_clamp (n := f) (by omega), ky.r 55 _ (by decide), ky.r 4 _ (by decide), hd0, v66, (j1 d0 (by omega)).1, lN_add]
    refine ⟨vp_in_nI (by omega) (by decide), fun c => ?_, fun c => ⟨by rw [d1]; exact vp_in_nI (by omega) (by decide), fun h5 e5 _ => ?_⟩⟩
    · refine ag g'' z (fun j hj => ⟨?_, (j1 j hj).2⟩)
      rw [f1, if_neg (fun q => c q.2)]; exact (j1 j hj).1
    · refine ag h5 (by rw [e5]; exact z.wJ (by decide)) (fun j hj => ⟨?_, by rw [e5, rd_Ja (by omega)]; exact (j1 j hj).2⟩)
      rw [e5, rd_JJ, f1]
      by_cases q : j = d0
      · rw [if_pos ⟨rfl, q⟩, q, if_pos ⟨d1, c⟩]
      · rw [if_neg (fun r => q r.2), if_neg (fun r => nj j hj q r.1)]; exact (j1 j hj).1
  · obtain ⟨z, j1⟩ := hI
    have y : mch [44, 45, 46, 47, 48, 64, 65, 66] [72, 108] M h g'' := z0.tr (z.mono (by decide) (by decide))
    exact v_X8_findVotes_143 (d := d + 4) (y.ly L) ⟨fun _ => K g'' y (fun f hf => by rw [z.arJ 66 (by decide) (by decide)]; exact v0 f hf) j1, fun c => absurd (by rw [l5 g'' y, i3_le]; exact Int.le_refl _) c⟩
/-- whether the whole is for -/
theorem m_isFor (L : LY8 h M) (hF : ∀ d, d < 6 → ah_J h (M + 64) d = lN (F d) ∧ ah_J h (M + 65) d = lN (A d)) (bF : ∀ d, d < 6 → F d < 2147483648 ∧ A d < 2147483648) (K : Q (some (iv (if whI F A 6 ≤ 0 then 0 else 1))) h) : MX G mi_X8_isFor d 0 [some (rv M), none, none] [] h Q E := by
  refine v_X8_isFor L ?_
  refine mx_up (α := Int32) (fun k r => [some (rv M), some (iv r), some (iv (nI k))]) 6 (fun k r g => g = h ∧ r.toInt = whI F A k) (fun k r g hk hI KK => ?_) (fun r g hI => ?_) 0 0 h (Nat.zero_le _) ⟨rfl, rfl⟩
  · obtain ⟨e, hr⟩ := hI
    subst e
    obtain ⟨b1, b2⟩ := bF k hk
    have wb := whI_b (F := F) (A := A) k
    have nx : whI F A (k + 1) = whI F A k + (if A k < F k then 1 else if F k < A k then -1 else 0) := rfl
    refine v_X8_isFor_4 L ⟨fun c => ?_, fun _ => ?_⟩
    · exfalso; rw [i3_le, nI_x (by omega)] at c; have : (6 : Int) ≤ (k : Int) := c; omega
    rw [nI_clamp (n := k) (by omega), (hF k hk).1, (hF k hk).2, pk_lLE (by omega) (by omega), pk_lLE (by omega) (by omega), nI_1]
    refine ⟨vp_in_nI hk (by decide), fun c => ⟨fun c2 => ?_, fun c2 => ?_⟩, fun c => ?_⟩
    · rw [if_neg (by omega), if_neg (by omega)] at nx
      refine KK (r + 0) g ⟨rfl, ?_⟩
      rw [Int32.add_zero, nx, hr]; omega
    · rw [if_neg (by omega), if_pos (by omega)] at nx
      refine KK (r + (-1)) g ⟨rfl, ?_⟩
      have m1 : (-1 : Int32).toInt = -1 := by decide
      rw [i3_ad (by rw [m1]; omega) (by rw [m1]; omega), nx, hr, m1]
    · rw [if_pos (by omega)] at nx
      refine KK (r + 1) g ⟨rfl, ?_⟩
      have m1 : (1 : Int32).toInt = 1 := by decide
      rw [i3_ad (by rw [m1]; omega) (by rw [m1]; omega), nx, hr, m1]
  · obtain ⟨e, hr⟩ := hI
    subst e
    refine v_X8_isFor_4 L ⟨fun _ => ⟨fun c => ?_, fun c => ?_⟩, fun c => absurd (by decide) c⟩
    · rw [i3_le, hr] at c
      rw [if_pos (show whI F A 6 ≤ 0 from c)] at K; exact K
    · rw [i3_le, hr] at c
      rw [if_neg (show ¬ whI F A 6 ≤ 0 from c)] at K; exact K
end
/-- the result -/
def reV (S : MS) (tx : Nat → List Nat × List PD) (x1 x2 : Int32) : Int32 := if x1 = -1 then (if whI (fun d => fa0 S (vtS S tx x2) 1 d (nF S)) (fun d => fa0 S (vtS S tx x2) 0 d (nF S)) 6 ≤ 0 then 0 else 1) else (if fa0 S (vtS S tx x2) 1 x1.toNatClampNeg (nF S) ≤ fa0 S (vtS S tx x2) 0 x1.toNatClampNeg (nF S) then 0 else 1)

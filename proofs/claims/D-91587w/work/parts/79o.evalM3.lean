/-! ===== what the acts tell: the model works defs ===== -/
section
variable {G : ma_G} {d M k k' u : Nat} {h g g2 : ah_T} {st st' : SK} {Q : Option ma_V → ah_T → Prop} {E : Nat → ah_T → Prop} {m : Nat → Int32} {vs dv : Nat → Int64} {dl : Nat → Bool} {nm : List Nat} {Ds : List PD}
theorem mst_l (s : mst m vs dv dl k st k' st') : st'.length ≤ st.length + 1 ∧ k < k' := by
  obtain ⟨w, v, hv, em, hlt, s⟩ := s
  refine ⟨?_, hlt⟩
  rcases s with ⟨-, -, e⟩ | ⟨-, -, -, e⟩ | ⟨-, -, -, e⟩ | ⟨-, -, -, a, b, r, e1, e2⟩ | ⟨-, -, -, a, b, r, e1, e2⟩ | ⟨-, -, -, a, b, r, e1, e2⟩ | ⟨-, a, r, e1, e2, -⟩ | ⟨-, -, e⟩
  · rw [e]; simp
  · rw [e]; simp
  · rw [e]; simp
  · rw [e1, e2]; simp
  · rw [e1, e2]; simp
  · rw [e1, e2]; simp
  · rw [e1, e2]; simp; omega
  · rw [e]; omega
theorem m_run {e dd d0 : Nat} (hu : u < 4) (he : e ≤ 500) : ∀ (N : Nat) (g : ah_T) (k : Nat) (st st' : SK), LY8 g M → rns m (ah_J g (M + 45)) (ah_J g (M + 46)) (dlm g M) N k st e st' → (∀ j, ah_I g (M + 39) (1100 * u + j) = m j) → ah_I g M 72 = nI st.length → skm g M st → st.length + (e - k) ≤ 500 → k ≤ e →
    (∀ g', mch [44, 47] [72] M g g' → skm g' M st' → MX G mi_X8_work (d + 3) 40 [some (rv M), some (iv (nI u)), some (iv (nI d0)), some (iv (nI dd)), some (iv (nI e)), some (iv (nI e))] [] g' Q E) →
    MX G mi_X8_work (d + 3) 40 [some (rv M), some (iv (nI u)), some (iv (nI d0)), some (iv (nI dd)), some (iv (nI k)), some (iv (nI e))] [] g Q E
  | 0, g, k, st, st', L, r, hm, e72, sk, hl, hk, K => by
    obtain ⟨r1, r2⟩ := r
    subst r1; subst r2
    exact K g mch.rf sk
  | N + 1, g, k, st, st', L, r, hm, e72, sk, hl, hk, K => by
    obtain ⟨k1, st1, s, r⟩ := r
    have l1 := mst_l s
    have l2 := rns_le r
    have ei : (1100 : Int32) * nI u + nI k = nI (1100 * u + k) := by rw [show (1100 : Int32) = nI 1100 from rfl, pk_mul, nI_add]
    refine v_X8_work_40 (d := d + 2) L ⟨fun c => absurd c (by rw [i3_le, nI_x (by omega), nI_x (by omega)]; omega), fun _ => ?_⟩
    rw [ei, nI_clamp (by omega), hm]
    refine ⟨vp_in_nI (by omega) (by decide), m_does (d := d) L e72 sk (by omega) (by omega) s (fun g' mg g72 gs => ?_)⟩
    intro _
    have e45 : ah_J g' (M + 45) = ah_J g (M + 45) := funext fun j => mg.arJ 45 (by decide) (by decide) j
    have e46 : ah_J g' (M + 46) = ah_J g (M + 46) := funext fun j => mg.arJ 46 (by decide) (by decide) j
    have e48 : dlm g' M = dlm g M := by unfold dlm; funext j; rw [mg.ar 48 (by decide) (by decide)]
    refine m_run hu he N g' k1 st1 st' (mg.ly L) (by rw [e45, e46, e48]; exact r) (fun j => by rw [mg.ar 39 (by decide) (by decide)]; exact hm j) g72 gs (by omega) l2 (fun g2 m2 s2 => K g2 (mg.tr m2) s2)
/-- all defs up to one -/
theorem m_work {d0 b : Nat} (L : LY8 h M) (hu : u < 4) (md : MDs (fun k => ah_I h (M + 39) (1100 * u + k)) (fun k => ah_I h (M + 38) (11 * u + k)) nm Ds b) (hb : b ≤ 500) (dp : ∀ i, i < nm.length → dep i (Ds.getD i pd0)) (hl : nm.length ≤ 10) (hd : d0 < nm.length)
    (K : ∀ g, mch [44, 46, 47, 48] [72] M h g → (ah_I g (M + 48) d0 = 0 ∨ ah_I g (M + 48) d0 = 1) → (if ah_I g (M + 48) d0 = 0 then some (ah_J g (M + 46) d0) else none) = evL Ds (ah_J h (M + 45)) (d0 + 1) d0 → Q none g) :
    MX G mi_X8_work (d + 3) 0 [some (rv M), some (iv (nI u)), some (iv (nI d0)), none, none, none] [] h Q E := by
  obtain ⟨y1, y2, bs, y3, y4, y5, y6⟩ := md
  have up : ∀ j i, i + j = nm.length → bs i ≤ b := fun j => by
    induction j with
    | zero => intro i e; rw [show i = nm.length by omega, y4]; exact Nat.le_refl _
    | succ j ih => intro i e; exact Nat.le_trans (y6 i (by omega)).1 (ih (i + 1) (by omega))
  have ds : ∀ g j, (ah_I g (M + 48) j = 0 ∨ ah_I g (M + 48) j = 1) → dso (ah_J g (M + 46)) (dlm g M) j = if ah_I g (M + 48) j = 0 then some (ah_J g (M + 46) j) else none := fun g j q => by
    unfold dso dlm
    rcases q with q | q
    · rw [q]; rfl
    · rw [q]; rfl
  refine v_X8_work (d := d + 2) L ?_
  refine mx_up (α := Unit) (fun k _ => [some (rv M), some (iv (nI u)), some (iv (nI d0)), some (iv (nI k)), none, none]) (d0 + 1) (fun k _ g => mch [44, 46, 47, 48] [72] M h g ∧ ∀ j, j < k → (ah_I g (M + 48) j = 0 ∨ ah_I g (M + 48) j = 1) ∧ (if ah_I g (M + 48) j = 0 then some (ah_J g (M + 46) j) else none) = evL Ds (ah_J h (M + 45)) k j) (fun k _ g hk hI KK => ?_) (fun _ g hI => ?_) 0 () h (Nat.zero_le _) ⟨mch.rf, fun j hj => by omega⟩
  · obtain ⟨z, q⟩ := hI
    have Lg := z.ly L
    have ei : (11 : Int32) * nI u + nI k = nI (11 * u + k) := by rw [show (11 : Int32) = nI 11 from rfl, pk_mul, nI_add]
    refine v_X8_work_2 (d := d + 2) Lg ⟨fun c => absurd c (by rw [i3_lt, nI_x (by omega), nI_x (by omega)]; omega), fun _ => ?_⟩
    intro h2 e2 X2
    rw [ei, nI_1, nI_clamp (by omega), nI_clamp (by omega)]
    have z2 : mch [44, 46, 47, 48] [72] M h h2 := by rw [e2]; exact z.zI (by decide)
    have h72 : ah_I h2 M 72 = nI 0 := by rw [e2, rd_Ih]; rfl
    have q2 : ∀ j, j < k → (ah_I h2 (M + 48) j = 0 ∨ ah_I h2 (M + 48) j = 1) ∧ (if ah_I h2 (M + 48) j = 0 then some (ah_J h2 (M + 46) j) else none) = evL Ds (ah_J h (M + 45)) k j := fun j hj => by
      rw [e2, rd_Ia (by omega), rd_JI]; exact q j hj
    clear e2
    refine ⟨vp_in_nI (by omega) (by decide), vp_in_nI (by omega) (by decide), ?_⟩
    have b1 : ah_I g (M + 38) (11 * u + k) = nI (bs k) := by rw [z.ar 38 (by decide) (by decide)]; exact y5 k (by omega)
    have b2 : ah_I g (M + 38) (11 * u + k + 1) = nI (bs (k + 1)) := by rw [z.ar 38 (by decide) (by decide)]; exact y5 (k + 1) (by omega)
    rw [b1, b2]
    have u1 := up (nm.length - (k + 1)) (k + 1) (by omega)
    have u2 := (y6 k (by omega)).1
    obtain ⟨N, x, rr, tl⟩ := (y6 k (by omega)).2 (ah_J h2 (M + 45)) (ah_J h2 (M + 46)) (dlm h2 M) []
    have e45 : ah_J h2 (M + 45) = ah_J h (M + 45) := funext fun j => z2.arJ 45 (by decide) (by decide) j
    have ev : (Ds.getD k pd0) (ah_J h2 (M + 45)) (dso (ah_J h2 (M + 46)) (dlm h2 M)) = evL Ds (ah_J h (M + 45)) (k + 1) k := by
      rw [show evL Ds (ah_J h (M + 45)) (k + 1) k = if k = k then (Ds.getD k pd0) (ah_J h (M + 45)) (evL Ds (ah_J h (M + 45)) k) else evL Ds (ah_J h (M + 45)) k k from rfl, if_pos rfl, e45]
      exact dp k (by omega) _ _ _ _ (fun _ _ => rfl) (fun j hj => by rw [ds h2 j (q2 j hj).1]; exact (q2 j hj).2)
    rw [ev] at tl
    refine m_run (d := d) hu (by omega) N h2 (bs k) [] (x :: []) (z2.ly L) rr (fun j => z2.ar 39 (by decide) (by decide) _) h72 trivial (by show 0 + _ ≤ 500; omega) u2 (fun g3 m3 s3 => ?_)
    obtain ⟨s1, s2, -⟩ := s3
    have s1 : ah_J g3 (M + 44) 0 = x.1 := s1
    have s2 : ah_I g3 (M + 47) 0 = if x.2 = true then 1 else 0 := s2
    refine v_X8_work_40 (d := d + 2) (m3.ly (z2.ly L)) ⟨fun _ => ⟨vp_in_nI (by omega) (by decide), fun h3 e3 _ h4 e4 _ => ?_⟩, fun c => absurd (by rw [i3_le]; exact Int.le_refl _) c⟩
    rw [nI_clamp (by omega), s1] at e3
    rw [nI_clamp (by omega), s2] at e4
    rw [nI_1]
    have z3 : mch [44, 46, 47, 48] [72] M h g3 := z2.tr (m3.mono (by decide) (by decide))
    refine KK () h4 ⟨by rw [e4, e3]; exact (z3.wJ (by decide)).wI (by decide), fun j hj => ?_⟩
    by_cases c : j = k
    · subst c
      have i4 : ah_I h4 (M + 48) j = if x.2 = true then 1 else 0 := by
        rw [e4, rd_Ih]; cases x.2 <;> rfl
      have j4 : ah_J h4 (M + 46) j = x.1 := by rw [e4, rd_JI, e3, rd_JJ, if_pos ⟨rfl, rfl⟩]
      rw [i4, j4]
      cases ee : evL Ds (ah_J h (M + 45)) (j + 1) j with
      | none =>
        rw [ee] at tl
        have tl : x.2 = true := tl
        rw [tl]
        exact ⟨Or.inr rfl, rfl⟩
      | some v =>
        rw [ee] at tl
        have tl : x = (v, false) := tl
        rw [tl]
        exact ⟨Or.inl rfl, rfl⟩
    · have i4 : ah_I h4 (M + 48) j = ah_I h2 (M + 48) j := by rw [e4, rd_II, if_neg (fun y => c y.2), e3, rd_IJ, m3.ar 48 (by decide) (by decide)]
      have j4 : ah_J h4 (M + 46) j = ah_J h2 (M + 46) j := by rw [e4, rd_JI, e3, rd_JJ, if_neg (fun y => c y.2), m3.arJ 46 (by decide) (by decide)]
      rw [i4, j4, show evL Ds (ah_J h (M + 45)) (k + 1) j = if j = k then (Ds.getD k pd0) (ah_J h (M + 45)) (evL Ds (ah_J h (M + 45)) k) else evL Ds (ah_J h (M + 45)) k j from rfl, if_neg c]
      exact q2 j (by omega)
  · obtain ⟨z, q⟩ := hI
    have q := q d0 (by omega)
    exact v_X8_work_2 (d := d + 2) (z.ly L) ⟨fun _ => K g z q.1 q.2, fun c => absurd (by rw [i3_lt, nI_x (by omega), nI_x (by omega)]; omega) c⟩
end

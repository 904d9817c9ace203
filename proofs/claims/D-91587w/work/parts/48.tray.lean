/-! ===== tray ===== -/
def zr (S : MS) (t n : Nat) : MS := (S.1, fun b => if b = 3 then (fun j => if 40 * t ≤ j ∧ j < 40 * t + n then 0 else S.2 3 j) else S.2 b)
def wy_tray (S : MS) (t s n : Int32) : Int32 := if (0 ≤ t.toInt ∧ t.toInt ≤ 3) ∧ (0 ≤ s.toInt ∧ s.toInt ≤ 3) then (if n.toInt ≤ 40 then (if 0 ≤ n.toInt then 0 else 6) else 5) else 1
def sg_tray (S : MS) (t s n : Int32) : MS := zr (uI (uI (uI S 0 0 0) 1 t.toNatClampNeg s) 2 t.toNatClampNeg n) t.toNatClampNeg n.toNatClampNeg
section
variable {G : ma_G} {d X M : Nat} {h h' : ah_T} {S S' : MS} {Q : Option ma_V → ah_T → Prop} {E : Nat → ah_T → Prop} {x1 x2 x3 : Int32}
theorem CIs.sm4 (x : CIs h X S) (e : ∀ c k, c < 1494 → ah_I h' (X + c) k = ah_I h (X + c) k) : CIs h' X S := by
  have hA0 : ∀ p, p ∈ ct_A → p.1 < 1494 := by decide
  have hZ0 : ∀ p, p ∈ ct_Z → p.1 < 1494 := by decide
  exact ⟨fun c m hm k => by rw [e c k (hA0 _ hm)]; exact x.1 c m hm k, fun c k m hm => by rw [e c k (hZ0 _ hm)]; exact x.2 c k m hm⟩
theorem zr_0 {t : Nat} : zr S t 0 = S := by
  refine Prod.ext rfl (funext fun b => ?_)
  show (if b = 3 then (fun j => if 40 * t ≤ j ∧ j < 40 * t + 0 then 0 else S.2 3 j) else S.2 b) = S.2 b
  split
  · rename_i e; subst e
    funext j
    rw [if_neg (by omega)]
  · rfl
theorem zr_s {t k : Nat} : uJ (zr S t k) 3 (40 * t + k) 0 = zr S t (k + 1) := by
  refine Prod.ext rfl (funext fun b => funext fun j => ?_)
  rw [uJ_e]
  show (if b = 3 ∧ j = 40 * t + k then 0 else (if b = 3 then (fun j => if 40 * t ≤ j ∧ j < 40 * t + k then 0 else S.2 3 j) else S.2 b) j) = (if b = 3 then (fun j => if 40 * t ≤ j ∧ j < 40 * t + (k + 1) then 0 else S.2 3 j) else S.2 b) j
  rcases Nat.decEq b 3 with c | c
  · rw [if_neg (fun q => c q.1), if_neg c, if_neg c]
  · subst c
    simp only [if_true, true_and]
    rcases Nat.decEq j (40 * t + k) with c | c
    · rw [if_neg c]
      rcases Nat.lt_or_ge j (40 * t) with q | q
      · rw [if_neg (by omega), if_neg (by omega)]
      · rcases Nat.lt_or_ge j (40 * t + k) with q2 | q2
        · rw [if_pos (by omega), if_pos (by omega)]
        · rw [if_neg (by omega), if_neg (by omega)]
    · rw [if_pos c, if_pos (by omega)]
theorem kept.zr {t n : Nat} (x : kept S S') : kept (zr S t n) (zr S' t n) := ⟨fun a ha => ⟨(x.1 a ha).1, by
  have e := (x.1 a ha).2
  have e3 := (x.1 3 (by decide)).2
  show (if a = 3 then (fun j => if 40 * t ≤ j ∧ j < 40 * t + n then 0 else S.2 3 j) else S.2 a) = (if a = 3 then (fun j => if 40 * t ≤ j ∧ j < 40 * t + n then 0 else S'.2 3 j) else S'.2 a)
  rw [e, e3]⟩, x.2⟩
/-- the model's loop -/
theorem m_tray_74 {t n : Nat} (ht : t < 4) (hn : n ≤ 40) (L : LY8 h M) (eS : mv h M = S) (K : ∀ h1, mch [3] [] M h h1 → mv h1 M = zr S t n → Q (some (iv 1)) h1) : MX G mi_X8_tray (d + 1) 74 [some (rv M), some (iv (nI t)), none, some (iv (nI n)), some (iv 0)] [] h Q E := by
  refine mx_up (α := Unit) (fun k _ => [some (rv M), some (iv (nI t)), none, some (iv (nI n)), some (iv (nI k))]) n (fun k _ g => mch [3] [] M h g ∧ mv g M = zr S t k) (fun k _ g hk hI KK => ?_) (fun _ g hI => ?_) 0 () h (Nat.zero_le _) ⟨mch.rf, by rw [eS, zr_0]⟩
  · have ei : (40 : Int32) * nI t + nI k = nI (40 * t + k) := by
      rw [show (40 : Int32) = nI 40 from rfl, pk_mul, nI_add]
    refine v_X8_tray_74 (hI.1.ly L) ⟨fun c => absurd c (nI_ge hk (by omega)), fun _ => ?_⟩
    rw [ei, nI_clamp (by omega)]
    refine ⟨vp_in_nI (by omega) (by decide), ?_⟩
    intro h3 q3 x3
    subst q3
    rw [nI_1]
    exact KK () _ ⟨hI.1.wJ (by decide), by rw [mv_wJ, hI.2, zr_s]⟩
  · exact v_X8_tray_74 (hI.1.ly L) ⟨fun _ => K g hI.1 hI.2, fun c => absurd (nI_le (Nat.le_refl n) (by omega)) c⟩
/-- a new row -/
theorem CIt.mkT {t n F : Nat} {s : Int32} {ts tm : Nat → Int32} {nu : Nat → Int64} (L : LY0 h X) (x : CIt h X ts tm nu) (ht : t < 4) (hF : X + 1576 ≤ F) (F0 : ah_kd h F = 0) (f : fre [X + (1494 + t), F] h h') (hn : n ≤ 40) (r : ah_R h' (X + (1494 + t)) 0 = F) (si : ah_I h' (X + (1494 + t)) 1 = s) (ln : ah_ln h' F = n) (z : ∀ k, ah_I h' F k = 0 ∧ ah_J h' F k = 0) (kd : (s = 0 ∧ ah_kd h' F = 42) ∨ (s = 1 ∧ ah_kd h' F = 43) ∨ (s = 2 ∧ ah_kd h' F = 40) ∨ (s = 3 ∧ ah_kd h' F = 41)) :
    CIt h' X (fun j => if j = t then s else ts j) (fun j => if j = t then nI n else tm j) (fun j => if 40 * t ≤ j ∧ j < 40 * t + n then 0 else nu j) := by
  have nT : ∀ u, u < 4 → u ≠ t → X + (1494 + u) ∉ [X + (1494 + t), F] := fun u hu hne => by simp only [List.mem_cons, List.not_mem_nil, or_false]; omega
  have eR : ∀ u, u < 4 → u ≠ t → ah_R h' (X + (1494 + u)) 0 = ah_R h (X + (1494 + u)) 0 := fun u hu hne => f.R (nT u hu hne) 0
  have old : ∀ u, u < 4 → ah_R h (X + (1494 + u)) 0 ≠ 0 → ah_R h (X + (1494 + u)) 0 ≠ F := fun u hu h0 e => by
    rcases x.1 u hu with ⟨p1, -⟩ | ⟨-, -, m, -, -, -, p6⟩
    · exact h0 p1
    · exact p6.k0 (by rw [e]; exact F0)
  refine ⟨fun u hu => ?_, fun u w hu hw hne h0 => ?_⟩
  · rcases Nat.decEq u t with c | c
    · rw [eR u hu c, f.I (nT u hu c) 1]
      simp only [if_neg c]
      rcases x.1 u hu with p | ⟨p1, p2, m, p3, p4, p5, p6⟩
      · exact Or.inl p
      · have nr : ah_R h (X + (1494 + u)) 0 ∉ [X + (1494 + t), F] := fun hm => by
          have o := old u hu (by omega)
          simp only [List.mem_cons, List.not_mem_nil, or_false] at hm
          omega
        refine Or.inr ⟨p1, p2, m, p3, p4, by rw [(f _ nr).2.1]; exact p5, ?_⟩
        have p7 := p6.dy (h' := h') (f _ nr).1 (fun k => ⟨((f _ nr).2.2 k).1, ((f _ nr).2.2 k).2.1⟩)
        have o : ∀ k, k < m → nu (40 * u + k) = (if 40 * t ≤ 40 * u + k ∧ 40 * u + k < 40 * t + n then 0 else nu (40 * u + k)) := fun k hk => by rw [if_neg (by omega)]
        rcases p7 with ⟨s0, q1, q2⟩ | ⟨s0, q1, q2⟩ | ⟨s0, q1, q2⟩ | ⟨s0, q1, q2⟩
        · exact Or.inl ⟨s0, q1, fun k hk => (q2 k hk).trans (o k hk)⟩
        · exact Or.inr (Or.inl ⟨s0, q1, fun k hk => (q2 k hk).trans (o k hk)⟩)
        · exact Or.inr (Or.inr (Or.inl ⟨s0, q1, fun k hk => (q2 k hk).trans (o k hk)⟩))
        · exact Or.inr (Or.inr (Or.inr ⟨s0, q1, fun k hk => (q2 k hk).trans (o k hk)⟩))
    · subst c
      rw [r, si]
      simp only [if_true]
      refine Or.inr ⟨hF, trivial, n, hn, rfl, ln, ?_⟩
      have o : ∀ k, k < n → (0 : Int64) = (if 40 * u ≤ 40 * u + k ∧ 40 * u + k < 40 * u + n then 0 else nu (40 * u + k)) := fun k hk => by rw [if_pos (by omega)]
      rcases kd with ⟨s0, q1⟩ | ⟨s0, q1⟩ | ⟨s0, q1⟩ | ⟨s0, q1⟩
      · exact Or.inl ⟨s0, q1, fun k hk => by rw [(z k).1]; exact o k hk⟩
      · exact Or.inr (Or.inl ⟨s0, q1, fun k hk => by rw [(z k).1]; exact o k hk⟩)
      · exact Or.inr (Or.inr (Or.inl ⟨s0, q1, fun k hk => by rw [(z k).1]; exact o k hk⟩))
      · exact Or.inr (Or.inr (Or.inr ⟨s0, q1, fun k hk => by rw [(z k).2]; exact o k hk⟩))
  · rcases Nat.decEq u t with c | c
    · rw [eR u hu c] at h0 ⊢
      rcases Nat.decEq w t with c2 | c2
      · rw [eR w hw c2]; exact x.2 u w hu hw hne h0
      · subst c2; rw [r]; exact old u hu h0
    · subst c
      rw [r, eR w hw (fun q => hne q.symm)]
      intro e
      exact old w hw (by omega) e.symm
/-- the class's make -/
theorem c_make {T : Nat} {s n : Int32} (hk : ah_kd h T = 8) (hT : T < ah_sz h) (s03 : 0 ≤ s.toInt ∧ s.toInt ≤ 3) (n40 : n.toInt ≤ 40) (rm : 3 ≤ ah_rc h ∧ 222 ≤ ah_rs h) (K0 : n.toInt < 0 → E (ah_sz h + 2) (ah_exn h 2 3 222))
    (K1 : 0 ≤ n.toInt → ∀ h', h'.1 = (ah_sz h + 1, ah_rc h - 1, ah_rs h - n.toNatClampNeg) → fre [T, ah_sz h] h h' → ah_kd h' T = 8 → ah_ln h' T = ah_ln h T → (∀ k, k ≠ 0 → ah_R h' T k = ah_R h T k) → ah_R h' T 0 = ah_sz h → ah_I h' T 1 = s → ah_ln h' (ah_sz h) = n.toNatClampNeg → (∀ k, ah_I h' (ah_sz h) k = 0 ∧ ah_J h' (ah_sz h) k = 0) → ((s = 0 ∧ ah_kd h' (ah_sz h) = 42) ∨ (s = 1 ∧ ah_kd h' (ah_sz h) = 43) ∨ (s = 2 ∧ ah_kd h' (ah_sz h) = 40) ∨ (s = 3 ∧ ah_kd h' (ah_sz h) = 41)) → Q none h') : MX G mi_X7_make (d + 40) 0 [some (rv T), some (iv s), some (iv n), none] [] h Q E := by
  have nT : T ≠ ah_sz h := by omega
  have nT' : ah_sz h ≠ T := by omega
  have neg : n < 0 → (3 ≤ ah_rc h ∧ 222 ≤ ah_rs h) ∧ E (ah_sz h + 2) (ah_exn h 2 3 222) := fun c => ⟨rm, K0 (by simp only [i3_lt, i3_le, i6_lt, i6_le, i3_eq, i3_l, Int32.reduceToInt, Int64.reduceToInt, tm_1, tl_1] at c; exact c)⟩
  have pos : ∀ kd : Nat, ((s = 0 ∧ kd = 42) ∨ (s = 1 ∧ kd = 43) ∨ (s = 2 ∧ kd = 40) ∨ (s = 3 ∧ kd = 41)) → ¬ n < 0 → (1 ≤ ah_rc h ∧ n.toNatClampNeg ≤ ah_rs h ∧ n.toNatClampNeg ≤ 1000000) ∧ ∀ h6 : ah_T, h6 = ah_new h kd n.toNatClampNeg n.toNatClampNeg → ah_ext h h6 → ah_liv h → ah_kd h6 T = 8 ∧ ∀ h9 : ah_T, h9 = ah_wR h6 T 0 (ah_sz h) → ah_ext h6 h9 → ∀ h10 : ah_T, h10 = ah_wI h9 T 1 s → ah_ext h9 h10 → Q none h10 := fun kd hkd c => by
    have c0 : 0 ≤ n.toInt := by simp only [i3_lt, i3_le, i6_lt, i6_le, i3_eq, i3_l, Int32.reduceToInt, Int64.reduceToInt, tm_1, tl_1] at c; omega
    have cl : n.toNatClampNeg < 41 := cl_lt c0 (by omega)
    refine ⟨⟨by omega, by omega, by omega⟩, ?_⟩
    intro h6 e6 _ _
    subst e6
    refine ⟨by rw [rn_k, if_neg nT]; exact hk, ?_⟩
    intro h9 e9 _ h10 e10 _
    subst e9; subst e10
    refine K1 c0 _ rfl (((fre.nw fre.rf (by simp)).wR (by simp)).wI (by simp)) ?_ ?_ (fun k hk0 => ?_) ?_ rd_Ih ?_ (fun k => ⟨?_, ?_⟩) ?_
    · rw [rd_kI, rd_kR, rn_k, if_neg nT]; exact hk
    · rw [rd_lI, rd_lR, rn_l, if_neg nT]
    · rw [rd_RI, rd_RR, if_neg (fun q => hk0 q.2), rn_R, if_neg nT]
    · rw [rd_RI, rd_RR, if_pos ⟨rfl, rfl⟩]
    · rw [rd_lI, rd_lR, rn_l, if_pos rfl]
    · rw [rd_Ia nT', rd_IR, rn_I, if_pos rfl]
    · rw [rd_JI, rd_JR, rn_J, if_pos rfl]
    · have ek : ah_kd (ah_wI (ah_wR (ah_new h kd n.toNatClampNeg n.toNatClampNeg) T 0 (ah_sz h)) T 1 s) (ah_sz h) = kd := by rw [rd_kI, rd_kR, rn_k, if_pos rfl]
      rw [ek]; exact hkd
  refine v_X7_make ⟨fun c1 => ⟨fun c2 => ⟨fun c3 => ⟨neg, pos 41 ?_⟩, fun c3 => ⟨neg, pos 40 (Or.inr (Or.inr (Or.inl ⟨c3, rfl⟩)))⟩⟩, fun c2 => ⟨neg, pos 43 (Or.inr (Or.inl ⟨c2, rfl⟩))⟩⟩, fun c1 => ⟨neg, pos 42 (Or.inl ⟨c1, rfl⟩)⟩⟩
  refine Or.inr (Or.inr (Or.inr ⟨?_, rfl⟩))
  simp only [i3_lt, i3_le, i6_lt, i6_le, i3_eq, i3_l, Int32.reduceToInt, Int64.reduceToInt, tm_1, tl_1] at c1 c2 c3 ⊢
  omega
theorem c_tray (L : LY0 h X) (C : CI0 h X S) (RM : X + 1576 ≤ ah_sz h ∧ 4000 ≤ ah_rc h ∧ 40000 ≤ ah_rs h) (lv : ah_liv h) (Kf : wy_tray S x1 x2 x3 ≠ 0 → ∀ h1, cpo X h h1 (uI S 0 0 (wy_tray S x1 x2 x3)) → Q (some (iv 0)) h1) (Kg : wy_tray S x1 x2 x3 = 0 → ∀ h1, cpo X h h1 (sg_tray S x1 x2 x3) → Q (some (iv 1)) h1) : MX G mi_X0_tray (d + 41) 0 [some (rv X), some (iv x1), some (iv x2), some (iv x3), none] [] h Q E := by
  have r1 : 4000 ≤ h.1.2.1 := RM.2.1
  have r2 : 40000 ≤ h.1.2.2 := RM.2.2
  refine v_X0_tray L ?_
  refine ⟨fun c1 => ?_, fun c1 => ?_⟩
  · skip
    intro h2 eh2 Xh2
    have w_ : wy_tray S x1 x2 x3 = (1 : Int32) := by
      simp only [i3_lt, i3_le, i6_lt, i6_le, i3_eq, i3_l, Int32.reduceToInt, Int64.reduceToInt, tm_1, tl_1] at c1
      unfold wy_tray
      (repeat' split) <;> first | rfl | (exfalso; omega)
    subst eh2
    exact Kf (by rw [w_]; decide) _ (by rw [w_]; exact cpo.st L C Xh2)
  · skip
    refine ⟨fun c2 => ?_, fun c2 => ?_⟩
    · skip
      intro h4 eh4 Xh4
      have w_ : wy_tray S x1 x2 x3 = (1 : Int32) := by
        simp only [i3_lt, i3_le, i6_lt, i6_le, i3_eq, i3_l, Int32.reduceToInt, Int64.reduceToInt, tm_1, tl_1] at c1 c2
        unfold wy_tray
        (repeat' split) <;> first | rfl | (exfalso; omega)
      subst eh4
      exact Kf (by rw [w_]; decide) _ (by rw [w_]; exact cpo.st L C Xh4)
    · skip
      refine ⟨fun c3 => ?_, fun c3 => ?_⟩
      · skip
        intro h6 eh6 Xh6
        have w_ : wy_tray S x1 x2 x3 = (1 : Int32) := by
          simp only [i3_lt, i3_le, i6_lt, i6_le, i3_eq, i3_l, Int32.reduceToInt, Int64.reduceToInt, tm_1, tl_1] at c1 c2 c3
          unfold wy_tray
          (repeat' split) <;> first | rfl | (exfalso; omega)
        subst eh6
        exact Kf (by rw [w_]; decide) _ (by rw [w_]; exact cpo.st L C Xh6)
      · skip
        refine ⟨fun c4 => ?_, fun c4 => ?_⟩
        · skip
          refine ⟨fun c5 => ?_, fun c5 => ?_⟩
          · skip
            refine ⟨?_, ?_⟩
            · exact vp_x (by simp only [i3_lt, i3_le, i6_lt, i6_le, i3_eq, i3_l, Int32.reduceToInt, Int64.reduceToInt, tm_1, tl_1] at c1 c2 c3 c4 c5; omega) (by simp only [i3_lt, i3_le, i6_lt, i6_le, i3_eq, i3_l, Int32.reduceToInt, Int64.reduceToInt, tm_1, tl_1] at c1 c2 c3 c4 c5; omega)
            have hs := RM.1
            have ht : x1.toNatClampNeg < 4 := cl_lt (by simp only [i3_lt, i3_le, i6_lt, i6_le, i3_eq, i3_l, Int32.reduceToInt, Int64.reduceToInt, tm_1, tl_1] at c1 c2; omega) (by simp only [i3_lt, i3_le, i6_lt, i6_le, i3_eq, i3_l, Int32.reduceToInt, Int64.reduceToInt, tm_1, tl_1] at c1 c2; omega)
            have w0 : 0 ≤ x3.toInt → wy_tray S x1 x2 x3 = 0 := fun hz => by
              simp only [i3_lt, i3_le, i6_lt, i6_le, i3_eq, i3_l, Int32.reduceToInt, Int64.reduceToInt, tm_1, tl_1] at c1 c2 c3 c4 c5
              unfold wy_tray; rw [if_pos (by omega), if_pos (by omega), if_pos hz]
            have w6 : x3.toInt < 0 → wy_tray S x1 x2 x3 = 6 := fun hz => by
              simp only [i3_lt, i3_le, i6_lt, i6_le, i3_eq, i3_l, Int32.reduceToInt, Int64.reduceToInt, tm_1, tl_1] at c1 c2 c3 c4 c5
              unfold wy_tray; rw [if_pos (by omega), if_pos (by omega), if_neg (by omega)]
            have n40 : x3.toInt ≤ 40 := by simp only [i3_lt, i3_le, i6_lt, i6_le, i3_eq, i3_l, Int32.reduceToInt, Int64.reduceToInt, tm_1, tl_1] at c1 c2 c3 c4 c5; omega
            refine c_make (ly0_TK L ht) (by omega) (by simp only [i3_lt, i3_le, i6_lt, i6_le, i3_eq, i3_l, Int32.reduceToInt, Int64.reduceToInt, tm_1, tl_1] at c1 c2 c3 c4 c5; omega) n40 ⟨by show 3 ≤ h.1.2.1; omega, by show 222 ≤ h.1.2.2; omega⟩ (fun z0 x0 => ⟨if_pos rfl, ?_⟩) (fun z0 g e1 f k1 l1 rk r0 i1 ln zz kd x10 => ?_)
            · refine v_X0_tray_48 (L.ext x0) (fun h9 e9 X9 => ?_)
              subst e9
              exact Kf (by rw [w6 z0]; decide) _ (by rw [w6 z0]; exact cpo.exn L C x0 (by decide) (by decide) X9)
            intro h12 e12 X12
            subst e12
            have F0 := liv_0 lv
            have nX : ∀ c, c < 1494 → X + c ∉ [X + (1494 + x1.toNatClampNeg), ah_sz h] := fun c hc => by simp only [List.mem_cons, List.not_mem_nil, or_false]; omega
            have z1 : dyn p8 (X + (1494 + x1.toNatClampNeg), 0) X h g := by
              have nn : ∀ a, ah_kd h a ≠ 0 → a ≠ X + (1494 + x1.toNatClampNeg) → a ∉ [X + (1494 + x1.toNatClampNeg), ah_sz h] := fun a ha hne hm => by
                simp only [List.mem_cons, List.not_mem_nil, or_false] at hm
                rcases hm with hm | hm
                · exact hne hm
                · exact ha (by rw [hm]; exact F0)
              refine ⟨fun a ha => ?_, fun a k _ ha he => ?_, fun a k _ _ ha hp => ?_⟩
              · rcases Nat.decEq a (X + (1494 + x1.toNatClampNeg)) with c | c
                · exact ⟨(f a (nn a ha c)).1, (f a (nn a ha c)).2.1⟩
                · subst c; exact ⟨by rw [k1, ly0_TK L ht], l1⟩
              · rcases Nat.decEq a (X + (1494 + x1.toNatClampNeg)) with c | c
                · exact f.R (nn a ha c) k
                · subst c; exact rk k (fun q => he (by rw [q]))
              · have c : a ≠ X + (1494 + x1.toNatClampNeg) := fun c => hp (by rw [c, ly0_TK L ht])
                exact ⟨f.I (nn a ha c) k, ((f a (nn a ha c)).2.2 k).2.1⟩
            have z2 : dyn p8 (X + (1494 + x1.toNatClampNeg), 0) X h (ah_wI g X 20 0) := z1.zI
            have e_ := (((C.1.sm4 (h' := g) (fun c k hc => f.I (nX c hc) k)).pX (v := 0) 20 0 (by decide)).cA (m := 1) (k := x1.toNatClampNeg) (v := x2) (ctA_n rfl) (by decide)).cA (m := 2) (k := x1.toNatClampNeg) (v := x3) (ctA_n rfl) (by decide)
            obtain ⟨b1, b2⟩ := x_nI (x := x3) (n := 40) z0 n40
            have q := C.2.2.2.2.1.mkT L ht hs F0 f b2 r0 i1 ln zz kd
            rw [← b1] at q
            have q8 := q.dy (P := pT) (e := (X + 5, 0)) (h' := ah_wI g X 20 0) (L.ext x10) dyn.rf.zI (fun _ _ _ => trivial) (by show X + 5 < _; omega)
            refine Kg (w0 z0) _ ⟨(L.ext x10).ext X12, ⟨e_, C.2.1.dy L z2 (fun _ => ⟨by show 10 ≠ 8; decide, by show 44 ≠ 8; decide⟩) ⟨by show X + (1494 + _) < _; omega, by show X + (1494 + _) ≠ _; omega⟩, C.2.2.1.dy L z2 (fun _ => by show 11 ≠ 8; decide) ⟨by show X + (1494 + _) < _; omega, by show X + (1494 + _) ≠ _; omega⟩, C.2.2.2.1.dy L z2 (fun a _ h1 h2 _ => by show a ≠ 8; omega) ⟨by show X + (1494 + _) < _; omega, by show X + (1494 + _) ≠ _; omega⟩ (fun q => absurd q (by show X + (1494 + _) ≠ _; omega)), q8, C.2.2.2.2.2⟩, (f.cfr (fun b hb => by simp only [List.mem_cons, List.not_mem_nil, or_false] at hb; omega)).zI, x10.tr X12, ?_, ?_, z2.lf0 L ⟨by show X + (1494 + _) < _; omega, by show X + (1494 + _) ≠ _; omega, by show ah_kd h (X + (1494 + _)) ≠ 50; rw [ly0_TK L ht]; decide⟩ (fun a _ ha => by show a ≠ 8; omega) (fun u _ q => by have e1 : X + (1494 + u) = X + (1494 + x1.toNatClampNeg) := congrArg Prod.fst q; rw [e1]; exact Nat.le_of_eq r0.symm)⟩
            · show h.1.2.1 ≤ g.1.2.1 + 4000
              rw [e1]; show h.1.2.1 ≤ h.1.2.1 - 1 + 4000; omega
            · show h.1.2.2 ≤ g.1.2.2 + 40000
              rw [e1]; show h.1.2.2 ≤ h.1.2.2 - x3.toNatClampNeg + 40000; omega
          · skip
            intro h13 eh13 Xh13
            have w_ : wy_tray S x1 x2 x3 = (5 : Int32) := by
              simp only [i3_lt, i3_le, i6_lt, i6_le, i3_eq, i3_l, Int32.reduceToInt, Int64.reduceToInt, tm_1, tl_1] at c1 c2 c3 c4 c5
              unfold wy_tray
              (repeat' split) <;> first | rfl | (exfalso; omega)
            subst eh13
            exact Kf (by rw [w_]; decide) _ (by rw [w_]; exact cpo.st L C Xh13)
        · skip
          intro h14 eh14 Xh14
          have w_ : wy_tray S x1 x2 x3 = (1 : Int32) := by
            simp only [i3_lt, i3_le, i6_lt, i6_le, i3_eq, i3_l, Int32.reduceToInt, Int64.reduceToInt, tm_1, tl_1] at c1 c2 c3 c4
            unfold wy_tray
            (repeat' split) <;> first | rfl | (exfalso; omega)
          subst eh14
          exact Kf (by rw [w_]; decide) _ (by rw [w_]; exact cpo.st L C Xh14)
theorem m_tray (L : LY8 h M) (eS : mv h M = S) (Kf : wy_tray S x1 x2 x3 ≠ 0 → ∀ h1, mpo M h h1 (uI S 0 0 (wy_tray S x1 x2 x3)) → Q (some (iv 0)) h1) (Kg : wy_tray S x1 x2 x3 = 0 → ∀ h1, mpo M h h1 (sg_tray S x1 x2 x3) → Q (some (iv 1)) h1) : MX G mi_X8_tray (d + 1) 0 [some (rv M), some (iv x1), some (iv x2), some (iv x3), none] [] h Q E := by
  refine v_X8_tray L ?_
  intro h1 eh1 Xh1
  intro h2 eh2 Xh2
  refine ⟨fun c1 => ?_, fun c1 => ?_⟩
  · skip
    intro h4 eh4 Xh4
    have w_ : wy_tray S x1 x2 x3 = (1 : Int32) := by
      simp only [i3_lt, i3_le, i6_lt, i6_le, i3_eq, i3_l, Int32.reduceToInt, Int64.reduceToInt, tm_1, tl_1] at c1
      unfold wy_tray
      (repeat' split) <;> first | rfl | (exfalso; omega)
    subst eh1
    subst eh2
    subst eh4
    exact Kf (by rw [w_]; decide) _ (by rw [w_]; exact mpo.st eS)
  · skip
    refine ⟨fun c2 => ?_, fun c2 => ?_⟩
    · skip
      intro h6 eh6 Xh6
      have w_ : wy_tray S x1 x2 x3 = (1 : Int32) := by
        simp only [i3_lt, i3_le, i6_lt, i6_le, i3_eq, i3_l, Int32.reduceToInt, Int64.reduceToInt, tm_1, tl_1] at c1 c2
        unfold wy_tray
        (repeat' split) <;> first | rfl | (exfalso; omega)
      subst eh1
      subst eh2
      subst eh6
      exact Kf (by rw [w_]; decide) _ (by rw [w_]; exact mpo.st eS)
    · skip
      refine ⟨fun c3 => ?_, fun c3 => ?_⟩
      · skip
        intro h8 eh8 Xh8
        have w_ : wy_tray S x1 x2 x3 = (1 : Int32) := by
          simp only [i3_lt, i3_le, i6_lt, i6_le, i3_eq, i3_l, Int32.reduceToInt, Int64.reduceToInt, tm_1, tl_1] at c1 c2 c3
          unfold wy_tray
          (repeat' split) <;> first | rfl | (exfalso; omega)
        subst eh1
        subst eh2
        subst eh8
        exact Kf (by rw [w_]; decide) _ (by rw [w_]; exact mpo.st eS)
      · skip
        refine ⟨fun c4 => ?_, fun c4 => ?_⟩
        · skip
          refine ⟨fun c5 => ?_, fun c5 => ?_⟩
          · skip
            refine ⟨fun c6 => ?_, fun c6 => ?_⟩
            · skip
              refine ⟨?_, ?_⟩
              · exact vp_x (by simp only [i3_lt, i3_le, i6_lt, i6_le, i3_eq, i3_l, Int32.reduceToInt, Int64.reduceToInt, tm_1, tl_1] at c1 c2 c3 c4 c5 c6; omega) (by simp only [i3_lt, i3_le, i6_lt, i6_le, i3_eq, i3_l, Int32.reduceToInt, Int64.reduceToInt, tm_1, tl_1] at c1 c2 c3 c4 c5 c6; omega)
              intro h13 eh13 Xh13
              intro h14 eh14 Xh14
              have w_ : wy_tray S x1 x2 x3 = (0 : Int32) := by
                simp only [i3_lt, i3_le, i6_lt, i6_le, i3_eq, i3_l, Int32.reduceToInt, Int64.reduceToInt, tm_1, tl_1] at c1 c2 c3 c4 c5 c6
                unfold wy_tray
                (repeat' split) <;> first | rfl | (exfalso; omega)
              subst eh1
              subst eh2
              subst eh13
              subst eh14
              simp only [i3_lt, i3_le, i6_lt, i6_le, i3_eq, i3_l, Int32.reduceToInt, Int64.reduceToInt, tm_1, tl_1] at c1 c2 c3 c4 c5 c6
              obtain ⟨a1, a2⟩ := x_nI (x := x1) (n := 3) (by omega) (by omega)
              obtain ⟨b1, b2⟩ := x_nI (x := x3) (n := 40) (by omega) (by omega)
              have m0 : mch [1, 2] [0, 1] M h (ah_wI (ah_wI (ah_wI (ah_wI h M 1 0) M 0 0) (M + 1) x1.toNatClampNeg x2) (M + 2) x1.toNatClampNeg x3) := (((mch.rf.zI (by decide)).zI (by decide)).wI (by decide)).wI (by decide)
              have e0 : mv (ah_wI (ah_wI (ah_wI (ah_wI h M 1 0) M 0 0) (M + 1) x1.toNatClampNeg x2) (M + 2) x1.toNatClampNeg x3) M = uI (uI (uI (uI S 0 1 0) 0 0 0) 1 x1.toNatClampNeg x2) 2 x1.toNatClampNeg x3 := by rw [mv_wI, mv_wI, mv_zI, mv_zI, eS]
              have k0 : kept (uI (uI (uI S 0 0 0) 1 x1.toNatClampNeg x2) 2 x1.toNatClampNeg x3) (uI (uI (uI (uI S 0 1 0) 0 0 0) 1 x1.toNatClampNeg x2) 2 x1.toNatClampNeg x3) := (kept.rf.sI (by decide) (by decide)).cI.cI.cI
              have kk := m_tray_74 (G := G) (d := d) (E := E) (Q := Q) (t := x1.toNatClampNeg) (n := x3.toNatClampNeg) (by omega) b2 (m0.ly L) e0 (fun h1 p1 q1 => Kg w_ h1 (mpo.tr m0 (by decide) (mpo.mk (by decide) p1 (by rw [q1]; exact kept.rf)) k0.zr))
              rw [← a1, ← b1] at kk
              exact kk
            · skip
              intro h15 eh15 Xh15
              have w_ : wy_tray S x1 x2 x3 = (6 : Int32) := by
                simp only [i3_lt, i3_le, i6_lt, i6_le, i3_eq, i3_l, Int32.reduceToInt, Int64.reduceToInt, tm_1, tl_1] at c1 c2 c3 c4 c5 c6
                unfold wy_tray
                (repeat' split) <;> first | rfl | (exfalso; omega)
              subst eh1
              subst eh2
              subst eh15
              exact Kf (by rw [w_]; decide) _ (by rw [w_]; exact mpo.st eS)
          · skip
            intro h16 eh16 Xh16
            have w_ : wy_tray S x1 x2 x3 = (5 : Int32) := by
              simp only [i3_lt, i3_le, i6_lt, i6_le, i3_eq, i3_l, Int32.reduceToInt, Int64.reduceToInt, tm_1, tl_1] at c1 c2 c3 c4 c5
              unfold wy_tray
              (repeat' split) <;> first | rfl | (exfalso; omega)
            subst eh1
            subst eh2
            subst eh16
            exact Kf (by rw [w_]; decide) _ (by rw [w_]; exact mpo.st eS)
        · skip
          intro h17 eh17 Xh17
          have w_ : wy_tray S x1 x2 x3 = (1 : Int32) := by
            simp only [i3_lt, i3_le, i6_lt, i6_le, i3_eq, i3_l, Int32.reduceToInt, Int64.reduceToInt, tm_1, tl_1] at c1 c2 c3 c4
            unfold wy_tray
            (repeat' split) <;> first | rfl | (exfalso; omega)
          subst eh1
          subst eh2
          subst eh17
          exact Kf (by rw [w_]; decide) _ (by rw [w_]; exact mpo.st eS)
end

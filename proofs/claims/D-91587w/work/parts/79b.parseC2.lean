/-! ===== acts: the class reads atoms ===== -/
section
variable {G : ma_G} {A R W Lw n p q s c c1 d dp T lo : Nat} {h g g2 : ah_T} {t : Nat → Nat} {nm : List Nat} {Q : Option ma_V → ah_T → Prop} {E : Nat → ah_T → Prop} {x : Int32} {D : PD} {W' S : Nat → PR}
theorem ccon.dm {mi : ma_M} {tl : List (Option ma_V)} {F : Nat → PR} {dp' : Nat} (y : ccon G A R W Lw n t nm mi tl c s d x dp F) (hc : dp ≤ dp') : ccon G A R W Lw n t nm mi tl c s d x dp' F := fun h p Q E P K1 K2 => y h p Q E P (fun q D g T un C => K1 q D g T un ⟨C.1, C.2.1, C.2.2.1.mn hc, C.2.2.2⟩) K2
theorem c_isK {k : Nat} (hk : k < 8) (P : CPre R W Lw n t nm s p h) (K : ∀ y : Int32, y = (if tK 0 t n p = k then 1 else 0) → Q (some (iv y)) h) : MX G mi_X5_isKey (d + 7) 0 [some (rv R), some (iv (nI k))] [] h Q E :=
  c_isKey hk P.2.1 P.2.2.1 P.2.2.2.1 P.2.2.2.2.1 (fun z => K 1 (by rw [if_pos z])) (fun z => K 0 (by rw [if_neg z]))
theorem rdC.nw {kd ln cs : Nat} (D : rdC g R n t q) (hR : R < ah_sz g) : rdC (ah_new g kd ln cs) R n t q := by
  obtain ⟨d1, d2, d3, d4, d5⟩ := D
  refine ⟨?_, ?_, ?_, ?_, fun z => ?_⟩
  · rw [rn_I, if_neg (by omega)]; exact d1
  · rw [rn_I, if_neg (by omega)]; exact d2
  · rw [rn_I, if_neg (by omega)]; exact d3
  · rw [rn_I, if_neg (by omega)]; exact d4
  · rw [rn_J, if_neg (by omega)]; exact d5 z
/-- what the reader shows is the same -/
theorem rdC.sm (D : rdC g R n t q) (hI : ∀ k, k < 6 → ah_I g2 R k = ah_I g R k) (hJ : ah_J g2 R 6 = ah_J g R 6) : rdC g2 R n t q := by
  obtain ⟨d1, d2, d3, d4, d5⟩ := D
  exact ⟨by rw [hI 2 (by decide)]; exact d1, by rw [hI 3 (by decide)]; exact d2, by rw [hI 4 (by decide)]; exact d3, by rw [hI 5 (by decide)]; exact d4, fun z => by rw [hJ]; exact d5 z⟩
theorem c_few (hS : ∀ d, ccon G A R W Lw n t nm mi_X5_inner [] 1 4 (d + c) (x + 1) dp S) (hSp : pos n S) (hc : 5 ≤ c) (P : CPre R W Lw n t nm 2 p h) (hs : tS t n p = 2) (K1 : ∀ q D g T, pFew t n S p = .inr (q, D) → CPost G A R W n t 3 (dp + 1) p q D T h g → Q (some (rv T)) g) (K2 : ∀ f g, pFew t n S p = .inl f → CFlt (ah_sz h) R W n 2 p f h g → E W g) :
    MX G mi_X5_few (d + c + 3) 0 [some (rv R), some (iv x), none, none, none] [] h Q E := by
  have P' := P
  obtain ⟨⟨p1, p2, p3⟩, P2, P3, P4, P5, P6, P7, P8, P9⟩ := P'
  obtain ⟨c', rfl⟩ : ∃ c', c = c' + 5 := ⟨c - 5, by omega⟩
  have a0 := tE_s P4 (by rw [hs]; decide)
  have fl : ∀ g f, pFew t n S p = .inl f → pf (ah_sz h) R W h g → ah_rc h ≤ ah_rc g + (4 * (n - p) + 2) → ah_rs h ≤ ah_rs g + 7 * (4 * (n - p) + 2) → E W (ah_wI (ah_wI g W 6 (nI f.1)) W 7 (nI f.2)) := fun g f un m b1 b2 => K2 f _ un (CFlt.tr m (CFlt.w (n := n) (s := 0) (p := n)) (by omega) (by omega))
  refine v_X5_few (d := d + (c' + 5)) P2 ?_
  refine c_isK (d := d + c') (k := 7) (by decide) P (fun r2 hr2 => ?_)
  intro _
  refine c_nx (d := d + (c' + 6)) P (by rw [hs]; decide) (fun g1 m1 Pn => ?_)
  intro _
  have u1 : ah_sz g1 = ah_sz h ∧ ah_rc g1 = ah_rc h ∧ ah_rs g1 = ah_rs h := by unfold ah_sz ah_rc ah_rs; rw [m1.1.1]; exact ⟨rfl, rfl, rfl⟩
  have f1 : pf (ah_sz h) R W h g1 := m1.pf
  have w1 : ¬ tC t n 40 (tE t n p) → _ := fun z => wc_ok (E := E) (y := (2 : Int32)) (k := 2) rfl Pn (fl g1 (pw t n (tE t n p) 2) (by unfold pFew; rw [if_neg z]) f1 (by omega) (by omega))
  rw [cd4 Pn (k := 4) (by decide) (y := (4 : Int32)) rfl]
  refine ⟨fun z => w1 (fun y => z y.1), fun s4 => ?_⟩
  rw [cv6 Pn (by omega) (k := 40) (by decide) (y := (40 : Int32)) rfl]
  refine ⟨fun z => w1 (fun y => z y.2), fun e40 => ?_⟩
  have c40 : tC t n 40 (tE t n p) := ⟨s4, e40⟩
  have a1 := tE_s a0.2 (tC_s c40)
  refine c_nx (d := d + (c' + 6)) Pn (tC_s c40) (fun g2 m2 Pn2 => ?_)
  intro _
  have u2 : ah_sz g2 = ah_sz g1 ∧ ah_rc g2 = ah_rc g1 ∧ ah_rs g2 = ah_rs g1 := by unfold ah_sz ah_rc ah_rs; rw [m2.1.1]; exact ⟨rfl, rfl, rfl⟩
  have f2 : pf (ah_sz h) R W h g2 := f1.tr m2.pf
  have Pn2' : CPre R W Lw n t nm 4 (tE t n (tE t n p)) g2 := P.fr f2 p3 a1.2 Pn2.2.2.2.2.1 (by omega) (by omega)
  have hS2 : ∀ d, ccon G A R W Lw n t nm mi_X5_inner [] 1 4 (d + (c' + 7)) (x + 1) dp S := fun d => by
    have := hS (d + 2)
    rwa [show d + 2 + (c' + 5) = d + (c' + 7) by omega] at this
  refine hS2 d g2 _ _ _ Pn2' (fun qa Da g3 Ta una Ca => ?_) (fun f g3 una Ca => K2 f g3 (by unfold pFew; rw [if_pos c40, una]) (CFlt.tr f2 (Ca.mn (by omega)) (by omega) (by omega)))
  intro _
  obtain ⟨A0, A1, A2, A3, A4, A5, A6⟩ := Ca
  have pa := hSp _ _ _ a1.2 una
  have f3 : pf (ah_sz h) R W h g3 := f2.tr (A0.mn (by omega))
  have sz3 := A0.1.1
  have Pa : CPre R W Lw n t nm 4 qa g3 := P.fr f3 p3 pa.2 A1 (by omega) (by omega)
  have w3 : ¬ tC t n 44 qa → _ := fun z => wc_ok (E := E) (y := (2 : Int32)) (k := 2) rfl Pa (fl g3 (pw t n qa 2) (by unfold pFew; rw [if_pos c40, una]; simp only; rw [if_neg z]) f3 (by omega) (by omega))
  rw [cd4 Pa (k := 4) (by decide) (y := (4 : Int32)) rfl]
  refine ⟨fun z => w3 (fun y => z y.1), fun s4a => ?_⟩
  rw [cv6 Pa (by omega) (k := 44) (by decide) (y := (44 : Int32)) rfl]
  refine ⟨fun z => w3 (fun y => z y.2), fun e44 => ?_⟩
  have c44 : tC t n 44 qa := ⟨s4a, e44⟩
  have a2 := tE_s pa.2 (tC_s c44)
  refine c_nx (d := d + (c' + 6)) Pa (tC_s c44) (fun g4 m4 Pn4 => ?_)
  intro _
  have u4 : ah_sz g4 = ah_sz g3 ∧ ah_rc g4 = ah_rc g3 ∧ ah_rs g4 = ah_rs g3 := by unfold ah_sz ah_rc ah_rs; rw [m4.1.1]; exact ⟨rfl, rfl, rfl⟩
  have f4 : pf (ah_sz h) R W h g4 := f3.tr m4.pf
  have Pn4' : CPre R W Lw n t nm 4 (tE t n qa) g4 := P.fr f4 p3 a2.2 Pn4.2.2.2.2.1 (by omega) (by omega)
  refine hS2 d g4 _ _ _ Pn4' (fun qb Db g5 Tb unb Cb => ?_) (fun f g5 unb Cb => K2 f g5 (by unfold pFew; rw [if_pos c40, una]; simp only; rw [if_pos c44, unb]) (CFlt.tr f4 (Cb.mn (by omega)) (by omega) (by omega)))
  intro _
  obtain ⟨B0, B1, B2, B3, B4, B5, B6⟩ := Cb
  have pb := hSp _ _ _ a2.2 unb
  have f5 : pf (ah_sz h) R W h g5 := f4.tr (B0.mn (by omega))
  have sz5 := B0.1.1
  have Pb : CPre R W Lw n t nm 4 qb g5 := P.fr f5 p3 pb.2 B1 (by omega) (by omega)
  have w5 : ¬ tC t n 41 qb → _ := fun z => wc_ok (E := E) (y := (2 : Int32)) (k := 2) rfl Pb (fl g5 (pw t n qb 2) (by unfold pFew; rw [if_pos c40, una]; simp only; rw [if_pos c44, unb]; simp only; rw [if_neg z]) f5 (by omega) (by omega))
  rw [cd4 Pb (k := 4) (by decide) (y := (4 : Int32)) rfl]
  refine ⟨fun z => w5 (fun y => z y.1), fun s4b => ?_⟩
  rw [cv6 Pb (by omega) (k := 41) (by decide) (y := (41 : Int32)) rfl]
  refine ⟨fun z => w5 (fun y => z y.2), fun e41 => ?_⟩
  have c41 : tC t n 41 qb := ⟨s4b, e41⟩
  have a3 := tE_s pb.2 (tC_s c41)
  refine c_nx (d := d + (c' + 6)) Pb (tC_s c41) (fun g6 m6 Pn6 => ?_)
  intro _
  have u6 : ah_sz g6 = ah_sz g5 ∧ ah_rc g6 = ah_rc g5 ∧ ah_rs g6 = ah_rs g5 := by unfold ah_sz ah_rc ah_rs; rw [m6.1.1]; exact ⟨rfl, rfl, rfl⟩
  have f6 : pf (ah_sz h) R W h g6 := f5.tr m6.pf
  refine ⟨⟨by omega, by omega⟩, fun h64 e64 X64 _ => ?_⟩
  have k64 : ah_kd h64 (ah_sz g6) = 18 := by rw [e64, rn_k, if_pos rfl]
  refine v_X20_init (d := d + (c' + 6)) ⟨by rw [k64]; decide, v_X18_init ⟨by rw [k64]; decide, ?_⟩⟩
  intro _
  refine ⟨k64, ?_, fun h6 e6 X6 => ⟨?_, fun h8 e8 X8 => ⟨?_, fun h10 e10 X10 => ?_⟩⟩⟩
  · by_cases z : tK 0 t n p = ((7 : Nat) : Int)
    · rw [if_pos z] at hr2; exact Or.inr hr2
    · rw [if_neg z] at hr2; exact Or.inl hr2
  · rw [e6, rd_RI, e64, rn_R, if_pos rfl]
  · rw [e8, rd_RR, if_neg (by omega), e6, rd_RI, e64, rn_R, if_pos rfl]
  intro _
  have T6 : ∀ a k, ah_R h10 a k = if a = ah_sz g6 then (if k = 4 then Tb else if k = 3 then Ta else 0) else ah_R g6 a k := fun a k => by
    rw [e10, rd_RR, e8, rd_RR, e6, rd_RI, e64, rn_R]
    by_cases z : a = ah_sz g6
    · rw [if_pos z, if_pos z]
      by_cases z4 : k = 4
      · rw [if_pos ⟨z, z4⟩, if_pos z4]
      · rw [if_neg (fun w => z4 w.2), if_neg z4]
        by_cases z3 : k = 3
        · rw [if_pos ⟨z, z3⟩, if_pos z3]
        · rw [if_neg (fun w => z3 w.2), if_neg z3]
    · rw [if_neg (fun w => z w.1), if_neg (fun w => z w.1), if_neg z, if_neg z]
  have TI : ∀ a k, ah_I h10 a k = if a = ah_sz g6 then (if k = 2 then r2 else 0) else ah_I g6 a k := fun a k => by
    rw [e10, rd_IR, e8, rd_IR, e6, rd_II, e64, rn_I]
    by_cases z : a = ah_sz g6
    · rw [if_pos z, if_pos z]
      by_cases z4 : k = 2
      · rw [if_pos ⟨z, z4⟩, if_pos z4]
      · rw [if_neg (fun w => z4 w.2), if_neg z4]
    · rw [if_neg (fun w => z w.1), if_neg z, if_neg z]
  have TJ : ∀ a k, a ≠ ah_sz g6 → ah_J h10 a k = ah_J g6 a k := fun a k z => by rw [e10, rd_JR, e8, rd_JR, e6, rd_JI, e64, rn_J, if_neg z]
  have Tk : ∀ a, ah_kd h10 a = if a = ah_sz g6 then 18 else ah_kd g6 a := fun a => by rw [e10, rd_kR, e8, rd_kR, e6, rd_kI, e64, rn_k]
  have rs10 : ah_sz h10 = ah_sz g6 + 1 ∧ ah_rc h10 = ah_rc g6 - 1 ∧ ah_rs h10 = ah_rs g6 - 5 := by rw [e10, e8, e6, e64]; exact ⟨rfl, rfl, rfl⟩
  have xt : ah_ext g6 h10 := X64.tr (X6.tr (X8.tr X10))
  clear e10 e8 e6 e64
  have f10 : pf (ah_sz h) R W h h10 := f6.tr ⟨xt, fun a ha => ⟨by rw [Tk, if_neg (by omega)], fun k => by rw [T6, if_neg (by omega)], fun k _ _ => by rw [TI, if_neg (by omega)], fun k _ => TJ a k (by omega)⟩⟩
  have D10 : rdC h10 R n t (tE t n qb) := Pn6.2.2.2.2.1.sm (fun k _ => by rw [TI, if_neg (by omega)]) (TJ R 6 (by omega))
  have ga : ∀ lo hi xs T', R < lo → W < lo → hi ≤ ah_sz g3 → agr lo hi xs T' g3 h10 := fun lo hi xs T' q1 q2 q3 a b1 b2 _ => by
    obtain ⟨v1, v2, v3, v4⟩ := ((m4.pf (lo := ah_sz g3) (W := W)).tr ((B0.mn (by omega)).tr m6.pf)).2 a (by omega)
    exact ⟨by rw [Tk, if_neg (by omega)]; exact v1, fun k _ => by rw [T6, if_neg (by omega)]; exact v2 k, fun k _ => by rw [TI, if_neg (by omega)]; exact v3 k (by omega) (by omega), fun k => by rw [TJ _ _ (by omega)]; exact v4 k (by omega)⟩
  have gb : ∀ lo hi xs T', R < lo → W < lo → hi ≤ ah_sz g5 → agr lo hi xs T' g5 h10 := fun lo hi xs T' q1 q2 q3 a b1 b2 _ => by
    obtain ⟨v1, v2, v3, v4⟩ := (m6.pf (lo := ah_sz g5) (W := W)).2 a (by omega)
    exact ⟨by rw [Tk, if_neg (by omega)]; exact v1, fun k _ => by rw [T6, if_neg (by omega)]; exact v2 k, fun k _ => by rw [TI, if_neg (by omega)]; exact v3 k (by omega) (by omega), fun k => by rw [TJ _ _ (by omega)]; exact v4 k (by omega)⟩
  have TA : TV G A W (ah_sz g2) (ah_sz g3) h10 Ta dp Da := A2.ag (ga _ _ _ _ (by omega) (by omega) (Nat.le_refl _))
  have TB : TV G A W (ah_sz g4) (ah_sz g5) h10 Tb dp Db := B2.ag (gb _ _ _ _ (by omega) (by omega) (Nat.le_refl _))
  refine K1 (tE t n qb) _ h10 (ah_sz g6) (by unfold pFew; rw [if_pos c40, una]; simp only; rw [if_pos c44, unb]; simp only; rw [if_pos c41]) ⟨f10, D10, ?_, by rw [T6, if_pos rfl, if_neg (by decide), if_neg (by decide)], by omega, by omega, by omega⟩
  refine TV.pick (by omega) (by omega) (by rw [Tk, if_pos rfl]) ?_ (by rw [T6, if_pos rfl, if_neg (by decide), if_pos rfl]) (by rw [T6, if_pos rfl, if_pos rfl]) TA TB (by omega) (by omega) (by omega) (by omega) (by omega) (by omega)
  rw [TI, if_pos rfl, if_pos rfl, hr2]
  by_cases z : tK 0 t n p = 7
  · rw [if_pos (show tK 0 t n p = ((7 : Nat) : Int) from z), if_pos (decide_eq_true z)]
  · rw [if_neg (show ¬ tK 0 t n p = ((7 : Nat) : Int) from z), if_neg (fun w => z (of_decide_eq_true w))]
end

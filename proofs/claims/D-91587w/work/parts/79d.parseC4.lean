/-! ===== acts: the class reads tests and wholes ===== -/
def CPosB (G : ma_G) (A R W n : Nat) (t : Nat → Nat) (c dp p q : Nat) (B : PB) (C : Nat) (h g : ah_T) : Prop := pf (ah_sz h) R W h g ∧ rdC g R n t q ∧ CV G A W (ah_sz h) (ah_sz g) g C dp B ∧ ah_R g C 4 = 0 ∧ C ≠ 0 ∧ ah_rc h + c ≤ ah_rc g + 4 * (q - p) ∧ ah_rs h + 7 * c ≤ ah_rs g + 28 * (q - p)
def ccoB (G : ma_G) (A R W Lw n : Nat) (t : Nat → Nat) (nm : List Nat) (c s d : Nat) (x : Int32) (dp : Nat) (F : Nat → PT) : Prop := ∀ (h : ah_T) (p : Nat) (Q : Option ma_V → ah_T → Prop) (E : Nat → ah_T → Prop), CPre R W Lw n t nm s p h → (∀ q D g T, F p = .inr (q, D) → CPosB G A R W n t c dp p q D T h g → Q (some (rv T)) g) → (∀ f g, F p = .inl f → CFlt (ah_sz h) R W n s p f h g → E W g) → MX G mi_X5_one d 0 [some (rv R), some (iv x), none, none, none] [] h Q E
section
variable {G : ma_G} {A R W Lw n p q s c c1 d dp T lo : Nat} {h g g2 : ah_T} {t : Nat → Nat} {nm : List Nat} {Q : Option ma_V → ah_T → Prop} {E : Nat → ah_T → Prop} {x : Int32} {D : PD} {W' S U : Nat → PR}
theorem sz_r (m : rch R h g) : ah_sz g = ah_sz h ∧ ah_rc g = ah_rc h ∧ ah_rs g = ah_rs h := by unfold ah_sz ah_rc ah_rs; rw [m.1.1]; exact ⟨rfl, rfl, rfl⟩
theorem c_one_14 {k : Bool} {x2 : Int32} (hx2 : x2 = if k = true then 1 else 0) (hU : ∀ d, ccon G A R W Lw n t nm mi_X5_sum [none, none] 1 4 (d + c + 2) x dp U) (hUp : pos n U) (P : CPre R W Lw n t nm 4 p h)
    (K1 : ∀ q D g T, (match U p with
      | .inl e => .inl e
      | .inr (q, A) => if tS t n q = 4 ∧ tV t n q ∈ [60, 62, 61] then (match U (tE t n q) with
        | .inl e => .inl e
        | .inr (q2, B) => .inr (q2, fun v d => dho k (tV t n q) (A v d) (B v d))) else .inl (pw t n q 2)) = (.inr (q, D) : PT) → CPosB G A R W n t 1 (dp + 1) p q D T h g → Q (some (rv T)) g)
    (K2 : ∀ f g, (match U p with
      | .inl e => .inl e
      | .inr (q, A) => if tS t n q = 4 ∧ tV t n q ∈ [60, 62, 61] then (match U (tE t n q) with
        | .inl e => .inl e
        | .inr (q2, B) => .inr (q2, fun v d => dho k (tV t n q) (A v d) (B v d))) else .inl (pw t n q 2)) = (.inl f : PT) → CFlt (ah_sz h) R W n 4 p f h g → E W g) :
    MX G mi_X5_one (d + c + 3) 14 [some (rv R), some (iv x), some (iv x2), none, none] [] h Q E := by
  have P' := P
  obtain ⟨⟨p1, p2, p3⟩, P2, P3, P4, P5, P6, P7, P8, P9⟩ := P'
  refine v_X5_one_14 (d := d + c) P2 ?_
  refine hU d h p _ _ P (fun qa Da g1 Ta una Ca => ?_) (fun f g1 una Ca => K2 f g1 (by rw [una]) Ca)
  intro _
  obtain ⟨A0, A1, A2, A3, A4, A5, A6⟩ := Ca
  have pa := hUp _ _ _ P4 una
  have sz1 := A0.1.1
  rw [una] at K1 K2
  simp only at K1 K2
  have Pa : CPre R W Lw n t nm 4 qa g1 := P.fr A0 p3 pa.2 A1 (by omega) (by omega)
  have bad : ¬ (tS t n qa = 4 ∧ tV t n qa ∈ [60, 62, 61]) → MX G mi_X5_one (d + c + 3) 53 [some (rv R), some (iv x), some (iv x2), some (rv Ta), none] [iv (0 : Int32), rv R] g1 Q E := fun z => by
    rw [if_neg z] at K2
    refine v_X5_one_53 (d := d + c) Pa.2.1 ⟨fun w => absurd rfl w, fun _ => wc_ok (k := 2) rfl Pa (K2 (pw t n qa 2) _ rfl (CFlt.tr A0 (CFlt.w (n := n) (s := 0) (p := n)) (by omega) (by omega)))⟩
  have good : tS t n qa = 4 → ∀ o, tV t n qa = o → (o = 60 ∨ o = 62 ∨ o = 61) → MX G mi_X5_one (d + c + 3) 53 [some (rv R), some (iv x), some (iv x2), some (rv Ta), none] [iv (1 : Int32), rv R] g1 Q E := fun s4 o eo ho => by
    have hin : tS t n qa = 4 ∧ tV t n qa ∈ [60, 62, 61] := ⟨s4, by rw [eo]; rcases ho with z | z | z <;> rw [z] <;> decide⟩
    rw [if_pos hin] at K1 K2
    have a := tE_s pa.2 (by rw [s4]; decide)
    have j6 : (ah_J g1 R 6).toInt32 = nI o := by rw [A1.2.2.2.2 (by omega), eo, lN_i]
    refine v_X5_one_53 (d := d + c) Pa.2.1 ⟨fun _ => ?_, fun w => absurd w (by decide)⟩
    rw [j6]
    refine c_nx (d := d + c + 1) Pa (by rw [s4]; decide) (fun g2 m2 Pn => ?_)
    intro _
    have u2 := sz_r m2
    refine ⟨⟨by omega, by omega⟩, fun h5 e5 X5 _ => ?_⟩
    have k5 : ah_kd h5 (ah_sz g2) = 21 := by rw [e5, rn_k, if_pos rfl]
    have r5 : ∀ k, ah_R h5 (ah_sz g2) k = 0 := fun k => by rw [e5, rn_R, if_pos rfl]
    have s5 : ah_sz h5 = ah_sz g2 + 1 ∧ ah_rc h5 = ah_rc g2 - 1 ∧ ah_rs h5 = ah_rs g2 - 5 := by rw [e5]; exact ⟨rfl, rfl, rfl⟩
    have D5 : rdC h5 R n t (tE t n qa) := by rw [e5]; exact Pn.2.2.2.2.1.nw (by omega)
    have g25 : pf (ah_sz g2) R W g2 h5 := by rw [e5]; exact pf.rf.nw (Nat.le_refl _) (by rw [← e5]; exact X5)
    clear e5
    have f5 : pf (ah_sz h) R W h h5 := (A0.tr m2.pf).tr (g25.mn (by omega))
    have P5' : CPre R W Lw n t nm 4 (tE t n qa) h5 := P.fr f5 p3 a.2 D5 (by omega) (by omega)
    refine hU d h5 _ _ _ P5' (fun qb Db g3 Tb unb Cb => ?_) (fun f g3 unb Cb => K2 f g3 (by rw [unb]) (CFlt.tr f5 (Cb.mn (by omega)) (by omega) (by omega)))
    intro _
    obtain ⟨B0, B1, B2, B3, B4, B5, B6⟩ := Cb
    have pb := hUp _ _ _ a.2 unb
    have sz3 := B0.1.1
    rw [unb] at K1
    simp only at K1
    obtain ⟨b1, b2, b3, b4⟩ := B0.2 (ah_sz g2) (by omega)
    have k3 : ah_kd g3 (ah_sz g2) = 21 := b1.trans k5
    refine v_X23_init (d := d + c + 1) ⟨by rw [k3]; decide, k3, by cases k <;> simp at hx2 <;> simp [hx2], fun h4 e4 X4 => ⟨?_, fun h6 e6 X6 h7 e7 X7 => ⟨?_, fun h9 e9 X9 => ?_⟩⟩⟩
    · rw [e4, rd_RI, b2]; exact r5 1
    · rw [e7, rd_RI, e6, rd_RR, if_neg (by omega), e4, rd_RI, b2]; exact r5 2
    intro _
    have rR : ∀ a j, ah_R h9 a j = if a = ah_sz g2 ∧ j = 2 then Tb else if a = ah_sz g2 ∧ j = 1 then Ta else ah_R g3 a j := fun a j => by
      rw [e9, rd_RR]
      by_cases z : a = ah_sz g2 ∧ j = 2
      · rw [if_pos z, if_pos z]
      · rw [if_neg z, if_neg z, e7, rd_RI, e6, rd_RR]
        by_cases z1 : a = ah_sz g2 ∧ j = 1
        · rw [if_pos z1, if_pos z1]
        · rw [if_neg z1, if_neg z1, e4, rd_RI]
    have rI : ∀ a j, ah_I h9 a j = if a = ah_sz g2 ∧ j = 3 then nI o else if a = ah_sz g2 ∧ j = 0 then x2 else ah_I g3 a j := fun a j => by
      rw [e9, rd_IR, e7, rd_II]
      by_cases z : a = ah_sz g2 ∧ j = 3
      · rw [if_pos z, if_pos z]
      · rw [if_neg z, if_neg z, e6, rd_IR, e4, rd_II]
    have rJ : ∀ a j, ah_J h9 a j = ah_J g3 a j := fun a j => by rw [e9, e7, e6, e4]; rfl
    have rk : ∀ a, ah_kd h9 a = ah_kd g3 a := fun a => by rw [e9, e7, e6, e4]; rfl
    have rs9 : ah_sz h9 = ah_sz g3 ∧ ah_rc h9 = ah_rc g3 ∧ ah_rs h9 = ah_rs g3 := by rw [e9, e7, e6, e4]; exact ⟨rfl, rfl, rfl⟩
    have xt : ah_ext g3 h9 := X4.tr (X6.tr (X7.tr X9))
    clear e9 e7 e6 e4
    have f3 : pf (ah_sz h) R W h g3 := f5.tr (B0.mn (by omega))
    have f9 : pf (ah_sz h) R W h h9 := f3.tr ⟨xt, fun a ha => ⟨rk a, fun j => by rw [rR, if_neg (by omega), if_neg (by omega)], fun j _ _ => by rw [rI, if_neg (by omega), if_neg (by omega)], fun j _ => rJ a j⟩⟩
    have D9 : rdC h9 R n t qb := B1.sm (fun j _ => by rw [rI, if_neg (by omega), if_neg (by omega)]) (rJ R 6)
    have TA : TV G A W (ah_sz h) (ah_sz g1) h9 Ta dp Da := A2.ag (fun a b1 b2 _ => by
      obtain ⟨v1, v2, v3, v4⟩ := (((m2.pf (lo := ah_sz g1) (W := W)).tr (g25.mn (by omega))).tr (B0.mn (by omega))).2 a (by omega)
      exact ⟨by rw [rk]; exact v1, fun j _ => by rw [rR, if_neg (by omega), if_neg (by omega)]; exact v2 j, fun j _ => by rw [rI, if_neg (by omega), if_neg (by omega)]; exact v3 j (by omega) (by omega), fun j => by rw [rJ]; exact v4 j (by omega)⟩)
    have TB : TV G A W (ah_sz h5) (ah_sz g3) h9 Tb dp Db := B2.ag (fun a b1 b2 _ => ⟨rk a, fun j _ => by rw [rR, if_neg (by omega), if_neg (by omega)], fun j _ => by rw [rI, if_neg (by omega), if_neg (by omega)], fun j => rJ a j⟩)
    refine K1 qb _ h9 (ah_sz g2) rfl ⟨f9, D9, ?_, by rw [rR, if_neg (by omega), if_neg (by omega), b2]; exact r5 4, by omega, by omega, by omega⟩
    rw [eo]
    exact CV.mk ho (by omega) (by omega) ((rk _).trans k3) (by rw [rI, if_neg (by omega), if_pos ⟨rfl, rfl⟩]; exact hx2) (by rw [rR, if_neg (by omega), if_pos ⟨rfl, rfl⟩]) (by rw [rR, if_pos ⟨rfl, rfl⟩]) (by rw [rI, if_pos ⟨rfl, rfl⟩]) (by omega) TA TB (Nat.le_refl _) (by omega) (by omega) (by omega) (by omega) (by omega) (by omega)
  rw [cd4 Pa (k := 4) (by decide) (y := (4 : Int32)) rfl]
  refine ⟨fun s4 => bad (fun z => s4 z.1), fun s4 => ?_⟩
  rw [cv6 Pa (by omega) (k := 60) (by decide) (y := (60 : Int32)) rfl, cv6 Pa (by omega) (k := 62) (by decide) (y := (62 : Int32)) rfl, cv6 Pa (by omega) (k := 61) (by decide) (y := (61 : Int32)) rfl]
  refine ⟨fun n60 => ⟨fun n62 => ⟨fun n61 => bad (fun z => ?_), fun e => good s4 61 e (by omega)⟩, fun e => good s4 62 e (by omega)⟩, fun e => good s4 60 e (by omega)⟩
  have := z.2
  simp at this
  omega
theorem c_one (hU : ∀ d, ccon G A R W Lw n t nm mi_X5_sum [none, none] 1 4 (d + c + 2) x dp U) (hUp : pos n U) (hc : 5 ≤ c) : ccoB G A R W Lw n t nm 1 4 (d + c + 3) x (dp + 1) (pOne t n U) := by
  intro h p Q E P K1 K2
  have P' := P
  obtain ⟨⟨p1, p2, p3⟩, P2, P3, P4, P5, P6, P7, P8, P9⟩ := P'
  obtain ⟨c', rfl⟩ : ∃ c', c = c' + 5 := ⟨c - 5, by omega⟩
  refine v_X5_one (d := d + (c' + 5)) P2 ?_
  refine c_isK (d := d + c') (k := 5) (by decide) P (fun r2 hr2 => ?_)
  intro _
  by_cases z : tK 0 t n p = 5
  · have s2 := tK_2 (k := 5) z
    have a := tE_s P4 (by rw [s2]; decide)
    rw [if_pos (show tK 0 t n p = ((5 : Nat) : Int) from z)] at hr2
    rw [hr2]
    refine ⟨fun w => absurd w (by decide), fun _ => ?_⟩
    refine c_nx (d := d + (c' + 6)) P (by rw [s2]; decide) (fun g1 m1 Pn => ?_)
    intro _
    have u1 := sz_r m1
    have Pn' : CPre R W Lw n t nm 4 (tE t n p) g1 := P.fr (lo := ah_sz h) m1.pf p3 a.2 Pn.2.2.2.2.1 (by omega) (by omega)
    unfold pOne pNot at K1 K2
    rw [if_pos z, decide_eq_true z] at K1 K2
    refine c_one_14 (k := true) rfl hU hUp Pn' (fun q D g T un C => K1 q D g T un ?_) (fun f g un C => K2 f g un (CFlt.tr m1.pf (by rw [u1.1] at C; exact C) (by omega) (by omega)))
    obtain ⟨C0, C1, C2, C3, C4, C5, C6⟩ := C
    rw [u1.1] at C0 C2
    have pq := C0.1.1
    have hq : tE t n p ≤ q ∨ q < tE t n p := by omega
    refine ⟨m1.pf.tr C0, C1, C2, C3, C4, ?_, ?_⟩
    · rcases hq with z | z <;> omega
    · rcases hq with z | z <;> omega
  · rw [if_neg (show ¬ tK 0 t n p = ((5 : Nat) : Int) from z)] at hr2
    rw [hr2]
    refine ⟨fun _ => ?_, fun w => absurd rfl w⟩
    unfold pOne pNot at K1 K2
    rw [if_neg z, decide_eq_false z] at K1 K2
    exact c_one_14 (k := false) rfl hU hUp P K1 K2
end

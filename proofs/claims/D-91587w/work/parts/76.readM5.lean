/-! ===== acts: a def, and all of them ===== -/
noncomputable section
def pOk (t : Nat → Nat) (n p : Nat) : Prop := tS t n p = 2 ∧ tE t n p - tF t n p ≤ 8 ∧ tK 1 t n p = -1 ∧ tK 0 t n p = -1
def pDef (t : Nat → Nat) (n : Nat) (nm : List Nat) (p : Nat) : PR :=
  @ite PR (pOk t n p) (Classical.propDecidable _) (if nm.length = 10 then .inl (3, tF t n p) else if 0 ≤ nix t n nm p then .inl (4, tF t n p) else
    @ite PR (tC t n 58 (tE t n p)) (Classical.propDecidable _) (match (pL t n nm 8).1 (tE t n (tE t n p)) with
      | .inl e => .inl e
      | .inr (q, D) => @ite PR (tC t n 59 q) (Classical.propDecidable _) (.inr (tE t n q, D)) (.inl (pw t n q 2))) (.inl (pw t n (tE t n p) 2))) (.inl (pw t n p 2))
/-- all defs: a fault, or names and what they say -/
def pAll (t : Nat → Nat) (n : Nat) : Nat → Nat → List Nat → List PD → (Nat × Nat) ⊕ (List Nat × List PD)
  | 0, _, nm, Ds => .inr (nm, Ds)
  | f + 1, p, nm, Ds => if tS t n p = 0 then .inr (nm, Ds) else (match pDef t n nm p with
    | .inl e => .inl e
    | .inr (q, D) => pAll t n f q (nm ++ [tW t n p]) (Ds ++ [D]))
end
theorem kix_nn (w : Nat) : ∀ (l : List Nat) (k : Nat), kix w l k = -1 → ∀ i, i < l.length → l.getD i 0 ≠ w
  | [], k, _, i, hi => by simp at hi
  | a :: l, k, h, i, hi => by
    rw [kix] at h
    by_cases c : w = a
    · rw [if_pos c] at h; omega
    · rw [if_neg c] at h
      cases i with
      | zero => exact fun z => c z.symm
      | succ i => exact kix_nn w l (k + 1) h i (by simp only [List.length_cons] at hi; omega)
theorem gD_app {α : Type} (l : List α) (a z : α) (i : Nat) : (l ++ [a]).getD i z = if i < l.length then l.getD i z else if i = l.length then a else z := by
  rw [List.getD_eq_getElem?_getD, List.getD_eq_getElem?_getD]
  by_cases c : i < l.length
  · rw [if_pos c, List.getElem?_append_left c]
  · rw [if_neg c, List.getElem?_append_right (by omega)]
    by_cases e : i = l.length
    · subst e; rw [if_pos rfl, Nat.sub_self]; rfl
    · rw [if_neg e]
      have : ∃ k, i - l.length = k + 1 := ⟨i - l.length - 1, by omega⟩
      obtain ⟨k, hk⟩ := this
      rw [hk]; rfl
section
variable {G : ma_G} {d M n p q b e B c : Nat} {h g g2 : ah_T} {t : Nat → Nat} {nm : List Nat} {Q : Option ma_V → ah_T → Prop} {E : Nat → ah_T → Prop} {x : Int32} {D : PD} {W S U : Nat → PR}
theorem pos_def {D : PD} (hp : p ≤ n) (e : pDef t n nm p = .inr (q, D)) : p < q ∧ q ≤ n := by
  unfold pDef at e
  by_cases ok : pOk t n p
  · rw [if_pos ok] at e
    have a := tE_s hp (by rw [ok.1]; decide)
    by_cases c1 : nm.length = 10
    · rw [if_pos c1] at e; simp at e
    · rw [if_neg c1] at e
      by_cases c2 : 0 ≤ nix t n nm p
      · rw [if_pos c2] at e; simp at e
      · rw [if_neg c2] at e
        by_cases c3 : tC t n 58 (tE t n p)
        · rw [if_pos c3] at e
          have a2 := tE_s a.2 (tC_s c3)
          cases h1 : (pL t n nm 8).1 (tE t n (tE t n p)) with
          | inl z => rw [h1] at e; simp at e
          | inr z =>
            obtain ⟨q1, D1⟩ := z
            rw [h1] at e
            simp only at e
            have b1 := (pos_L 8).1 _ _ _ a2.2 h1
            by_cases c4 : tC t n 59 q1
            · rw [if_pos c4] at e
              have a3 := tE_s b1.2 (tC_s c4)
              injection e with e
              injection e with e1 e2
              omega
            · rw [if_neg c4] at e; simp at e
        · rw [if_neg c3] at e; simp at e
  · rw [if_neg ok] at e; simp at e
theorem pDef_ok {D : PD} (e : pDef t n nm p = .inr (q, D)) : pOk t n p ∧ nm.length ≠ 10 ∧ nix t n nm p = -1 := by
  unfold pDef at e
  by_cases ok : pOk t n p
  · rw [if_pos ok] at e
    by_cases c1 : nm.length = 10
    · rw [if_pos c1] at e; simp at e
    · rw [if_neg c1] at e
      by_cases c2 : 0 ≤ nix t n nm p
      · rw [if_pos c2] at e; simp at e
      · refine ⟨ok, c1, ?_⟩
        have := nix_bd (t := t) (n := n) (nm := nm) (p := p)
        omega
  · rw [if_neg ok] at e; simp at e
/-- a word of at most 8 letters -/
theorem w40 (ok : pOk t n p) : tW t n p < 1099511627776 ∧ tW t n p ∉ kwK := by
  obtain ⟨o1, o2, o3, o4⟩ := ok
  obtain ⟨w1, w2⟩ := tw_let o1
  constructor
  · have a : tW t n p < 32 ^ (tE t n p - tF t n p) := cw_lt (fun j hj => by have := w2 j hj; omega) (by omega)
    have b : (32 : Nat) ^ (tE t n p - tF t n p) ≤ 32 ^ 8 := Nat.pow_le_pow_right (by omega) o2
    have p8 : (32 : Nat) ^ 8 = 1099511627776 := by decide
    omega
  · intro z
    rw [tK0n] at o4
    apply o4
    refine ⟨o1, ?_⟩
    simp [kwK] at z
    omega
abbrev MD0 (M : Nat) (h g : ah_T) : Prop := mch [40, 41, 43] (57 :: mzs) M h g
theorem MC0.d0 (m : MC0 M h g) : MD0 M h g := m.mono (by decide) (by decide)
theorem m_Def_70 {f : Nat × Nat} (L : LY8 g M) (cf : MCf M B f g) (K : Q none g) : MX G mi_X8_readDef (d + 2) 70 [some (rv M), none, none] [] g Q E := v_X8_readDef_70 L ⟨fun y => absurd y cf.n0.2, fun _ => K⟩
theorem m_Def_130 {f : Nat × Nat} {y : Int64} (L : LY8 g M) (cf : MCf M B f g) (K : Q none g) : MX G mi_X8_readDef (d + 2) 130 [some (rv M), some (jv y), none] [] g Q E := v_X8_readDef_130 L ⟨fun y => absurd y cf.n0.2, fun _ => K⟩
theorem m_Def (hn : n ≤ 500) (P : MP h M n t nm b p)
    (K : ∀ g, MD0 M h g → (∀ z, pDef t n nm p = .inl z → MCf M 1000 z g) → (∀ q D, pDef t n nm p = .inr (q, D) → ∃ e, b ≤ e ∧ MP g M n t (nm ++ [tW t n p]) e q ∧ (∀ k, k < b → ah_I g (M + 41) k = ah_I h (M + 41) k) ∧ RD (ah_I g (M + 41)) b e D ∧ ah_I g (M + 40) (nm.length + 1) = nI e ∧ ∀ k, k ≤ nm.length → ah_I g (M + 40) k = ah_I h (M + 40) k) → Q none g) :
    MX G mi_X8_readDef (d + 64) 0 [some (rv M), none, none] [] h Q E := by
  have P' := P
  obtain ⟨P1, P2, P3, P4, P5, P6, P7, P8⟩ := P
  have bE := tE_bd (t := t) P3
  have flt : ∀ (g : ah_T) (z : Nat × Nat), pDef t n nm p = .inl z → MD0 M h g → MCf M 1000 z g → Q none g := fun g z un m cf => K g m (fun y hy => by
    rw [un] at hy
    injection hy with hy
    subst hy
    exact cf) (fun q D hy => by rw [un] at hy; simp at hy)
  have bad : ¬ pOk t n p → Q none (ah_wI (ah_wI h M 48 (nI (pw t n p 2).1)) M 49 (nI (pw t n p 2).2)) := fun y => flt _ (pw t n p 2) (by unfold pDef; rw [if_neg y]) (MC0.d0 (MC0.w2 mch.rf)) (P'.wr (by omega))
  refine v_X8_readDef (d := d + 62) P1 ?_
  rw [md1 P4]
  refine ⟨fun s2 => wr_ok P4 P5 (bad (fun y => s2 y.1)), fun s2 => ?_⟩
  rw [(P4.2.2.2.2.2 s2).2, show (8 : Int32) = nI 8 from rfl, nI_ltI (by omega) (by omega)]
  refine ⟨fun c8 => wr_ok P4 P5 (bad (fun y => by have := y.2.1; omega)), fun c8 => ?_⟩
  have tk1 := tK1_bd (t := t) (n := n) (p := p)
  refine m_variable P1 P4 (fun r6 h6 => ?_)
  intro _
  rw [i3_le, h6, i3_0]
  refine ⟨fun z => wr_ok P4 P5 (bad (fun y => by have := y.2.2.1; omega)), fun z1 => ?_⟩
  refine m_isKept (d := d + 61) P1 P4 (fun _ kk => ?_) (fun kk => ?_)
  · intro _
    exact ⟨fun y => absurd y (by decide), fun _ => wr_ok P4 P5 (bad (fun y => kk y.2.2.2))⟩
  intro _
  refine ⟨fun _ => ?_, fun y => absurd rfl y⟩
  have ok : pOk t n p := ⟨s2, by omega, by omega, kk⟩
  have l10 := P8.1
  rw [P8.2.1, show (10 : Int32) = nI 10 from rfl, nI_eq (by omega) (by omega), P5]
  refine ⟨fun c10 => ?_, fun c10 => ⟨fun _ h38 e38 _ h39 e39 _ => ?_, fun y => absurd le00 y⟩⟩
  rotate_left
  · -- too many
    have un : pDef t n nm p = .inl (3, tF t n p) := by unfold pDef; rw [if_pos ok, if_pos c10]
    rw [P4.2.2.1] at e39
    subst e38; subst e39
    have cf : MCf M 1000 (3, tF t n p) (ah_wI (ah_wI h M 48 3) M 49 (nI (tF t n p))) := MCf.w (f := (3, tF t n p)) ⟨by show 1 ≤ 3; decide, by show 3 ≤ 6; decide⟩ P6 (by omega)
    have m3 : MC0 M h (ah_wI (ah_wI h M 48 3) M 49 (nI (tF t n p))) := MC0.w2 mch.rf
    have D3 : rdM (ah_wI (ah_wI h M 48 3) M 49 (nI (tF t n p))) M n t p := by
      obtain ⟨d1, d2, d3, d4, d5, d6⟩ := P4
      refine ⟨?_, ?_, ?_, ?_, fun z => ?_, fun z => ⟨?_, ?_⟩⟩
      · rw [rd_Ik (by decide), rd_Ik (by decide)]; exact d1
      · rw [rd_Ik (by decide), rd_Ik (by decide)]; exact d2
      · rw [rd_Ik (by decide), rd_Ik (by decide)]; exact d3
      · rw [rd_Ik (by decide), rd_Ik (by decide)]; exact d4
      · rw [rd_Ik (by decide), rd_Ik (by decide)]; exact d5 z
      · rw [rd_JI, rd_JI]; exact (d6 z).1
      · rw [rd_Ik (by decide), rd_Ik (by decide)]; exact (d6 z).2
    obtain ⟨f1, f2, f3⟩ := P'.fr m3
    have fin := flt _ _ un m3.d0 cf
    refine m_named f1 f2 P3 D3 f3 (fun r8 h8 => ?_)
    intro _
    exact ⟨fun _ => m_Def_70 (d := d + 62) f1 cf fin, fun _ => ⟨fun y => absurd y cf.n0.2, fun _ => m_Def_70 (d := d + 62) f1 cf fin⟩⟩
  refine m_named P1 P2 P3 P4 P8 (fun r8 h8 => ?_)
  intro _
  have nb := nix_bd (t := t) (n := n) (nm := nm) (p := p)
  rw [i3_lt, h8, i3_0, P5]
  refine ⟨fun z2 => ?_, fun z2 => ⟨fun _ h35 e35 _ h36 e36 _ => ?_, fun y => absurd le00 y⟩⟩
  rotate_left
  · have un : pDef t n nm p = .inl (4, tF t n p) := by unfold pDef; rw [if_pos ok, if_neg c10, if_pos (by omega)]
    rw [P4.2.2.1] at e36
    subst e35; subst e36
    have cf : MCf M 1000 (4, tF t n p) (ah_wI (ah_wI h M 48 4) M 49 (nI (tF t n p))) := MCf.w (f := (4, tF t n p)) ⟨by show 1 ≤ 4; decide, by show 4 ≤ 6; decide⟩ P6 (by omega)
    have m3 : MC0 M h (ah_wI (ah_wI h M 48 4) M 49 (nI (tF t n p))) := MC0.w2 mch.rf
    exact m_Def_70 (d := d + 62) (m3.ly P1) cf (flt _ _ un m3.d0 cf)
  -- on
  have un0 : pDef t n nm p = @ite PR (tC t n 58 (tE t n p)) (Classical.propDecidable _) (match (pL t n nm 8).1 (tE t n (tE t n p)) with
      | .inl e => .inl e
      | .inr (q, D) => @ite PR (tC t n 59 q) (Classical.propDecidable _) (.inr (tE t n q, D)) (.inl (pw t n q 2))) (.inl (pw t n (tE t n p) 2)) := by
    unfold pDef; rw [if_pos ok, if_neg c10, if_neg (by omega)]
  have a := tE_s P3 (by rw [s2]; decide)
  have w55 : ah_J h M 55 = lN (tW t n p) := by
    rw [(P4.2.2.2.2.2 s2).1, if_pos (by omega)]
  refine v_X8_readDef_70 (d := d + 62) P1 ⟨fun _ => ?_, fun y => absurd (by rw [P5]; exact le00) y⟩
  rw [w55]
  refine m_nx P' (fun g1 m1 a1 Pn => ?_)
  intro _
  have Dn := Pn.2.2.2.1
  have bad2 : ¬ tC t n 58 (tE t n p) → Q none (ah_wI (ah_wI g1 M 48 (nI (pw t n (tE t n p) 2).1)) M 49 (nI (pw t n (tE t n p) 2).2)) := fun y => flt _ (pw t n (tE t n p) 2) (by rw [un0, if_neg y]) (MC0.d0 (MC0.w2 m1)) (Pn.wr (by omega))
  rw [md3 Dn]
  refine ⟨fun s4 => wr_ok Dn Pn.2.2.2.2.1 (bad2 (fun y => s4 y.1)), fun s4 => ?_⟩
  rw [mv53 Pn.2.1 Dn (by omega) (c := 58) (by decide) (x := (58 : Int32)) rfl]
  refine ⟨fun y => wr_ok Dn Pn.2.2.2.2.1 (bad2 (fun u => y u.2)), fun y => ?_⟩
  have c58 : tC t n 58 (tE t n p) := ⟨s4, y⟩
  rw [if_pos c58] at un0
  have a2 := tE_s a.2 (tC_s c58)
  refine m_nx Pn (fun g2 m2 a2' Pn2 => ?_)
  intro _
  have hW := (m_L (G := G) (M := M) (nm := nm) (t := t) hn 8 (Nat.le_refl _) d).1
  refine hW g2 b (tE t n (tE t n p)) _ _ Pn2 (fun g3 C3 => ?_)
  intro _
  obtain ⟨C0, C1, C2⟩ := C3
  have m13 := (m1.tr m2).tr C0
  cases hF : (pL t n nm 8).1 (tE t n (tE t n p)) with
  | inl z =>
    have cf := (C1 z hF).mn (B' := 1000) (by omega)
    rw [hF] at un0
    exact ⟨fun _ => m_Def_130 (d := d + 62) (m13.ly P1) cf (flt _ _ un0 (MC0.d0 m13) cf), fun y => absurd y cf.n0.1⟩
  | inr z =>
    obtain ⟨q2, D2⟩ := z
    obtain ⟨r1, r2, r3, e2, r4, r5, r6, r7⟩ := C2 q2 D2 hF
    have pq := (pos_L 8).1 _ _ _ a2.2 hF
    have P2' := P'.nx m13 pq.2 r2 r1 r6 (by omega)
    rw [hF] at un0
    simp only at un0
    have bad3 : ¬ tC t n 59 q2 → MX G mi_X8_readDef (d + 64) 130 [some (rv M), some (jv (lN (tW t n p))), none] [] (ah_wI (ah_wI g3 M 48 (nI (pw t n q2 2).1)) M 49 (nI (pw t n q2 2).2)) Q E := fun y => by
      rw [if_neg y] at un0
      have cf := P2'.wr (B := 1000) (by omega)
      exact m_Def_130 (d := d + 62) ((MC0.w2 m13).ly P1) cf (flt _ _ un0 (MC0.d0 (MC0.w2 m13)) cf)
    refine ⟨fun y => absurd r1 y, fun _ => ?_⟩
    rw [md3 r2]
    refine ⟨fun s4 => wr_ok r2 r1 (bad3 (fun y => s4 y.1)), fun s4 => ?_⟩
    rw [mv53 P2'.2.1 r2 (by omega) (c := 59) (by decide) (x := (59 : Int32)) rfl]
    refine ⟨fun y => wr_ok r2 r1 (bad3 (fun u => y u.2)), fun y => ?_⟩
    have c59 : tC t n 59 q2 := ⟨s4, y⟩
    rw [if_pos c59] at un0
    have a3 := tE_s pq.2 (tC_s c59)
    refine v_X8_readDef_130 (d := d + 62) (m13.ly P1) ⟨fun _ => ?_, fun y => absurd (by rw [r1]; exact le00) y⟩
    refine m_nx P2' (fun g4 m4 a4 Pn4 => ?_)
    intro _
    obtain ⟨F1, F2, F3, F4, F5, F6, F7, F8, F9, F10⟩ := Pn4
    rw [F9]
    refine ⟨vp_in_nI (by omega) (by decide), fun h5 e5 _ h6 e6 _ => ?_⟩
    rw [nI_1]
    refine ⟨vp_in_nI (by omega) (by decide), fun h8 e8 _ => ?_⟩
    rw [nI_clamp (n := nm.length) (by omega)] at e5
    rw [nI_1] at e6
    rw [nI_clamp (n := nm.length + 1) (by omega), F6] at e8
    subst e5; subst e6
    have mA : MD0 M h h8 := by rw [e8]; exact (((MC0.d0 (m13.tr m4)).wJ (by decide)).zI (by decide)).wI (by decide)
    obtain ⟨w1, w2⟩ := w40 ok
    have z41 : ∀ k, ah_I h8 (M + 41) k = ah_I g4 (M + 41) k := fun k => by rw [e8, rd_Ia (by omega), rd_Ia (by omega), rd_IJ]
    refine K h8 mA (fun z hz => by rw [un0] at hz; simp at hz) (fun q' D' hz => ?_)
    rw [un0] at hz
    injection hz with hz
    injection hz with z1 z2
    subst z1; subst z2
    refine ⟨e2, r4, ⟨mA.ly P1, mA.tp (by decide) P2, F3, ?_, ?_, ?_, F7, ?_, ?_, fun i hi => ?_⟩, fun k hk => ?_, r7.ag (fun j _ _ => by rw [z41, a4]), ?_, fun k hk => ?_⟩
    · obtain ⟨d1, d2, d3, d4, d5, d6⟩ := F4
      rw [e8]
      refine ⟨?_, ?_, ?_, ?_, fun z => ?_, fun z => ⟨?_, ?_⟩⟩
      · rw [rd_Ia (by omega), rd_Ik (by decide), rd_IJ]; exact d1
      · rw [rd_Ia (by omega), rd_Ik (by decide), rd_IJ]; exact d2
      · rw [rd_Ia (by omega), rd_Ik (by decide), rd_IJ]; exact d3
      · rw [rd_Ia (by omega), rd_Ik (by decide), rd_IJ]; exact d4
      · rw [rd_Ia (by omega), rd_Ik (by decide), rd_IJ]; exact d5 z
      · rw [rd_JI, rd_JI, rd_Ja (by omega)]; exact (d6 z).1
      · rw [rd_Ia (by omega), rd_Ik (by decide), rd_IJ]; exact (d6 z).2
    · rw [e8, rd_Ia (by omega), rd_Ik (by decide), rd_IJ]; exact F5
    · rw [e8, rd_Ia (by omega), rd_Ik (by decide), rd_IJ]; exact F6
    · rw [List.length_append]; simp; omega
    · rw [e8, rd_Ia (by omega), rd_Ih, List.length_append]; rfl
    · rw [gD_app, e8, rd_JI, rd_JI, rd_JJ]
      rw [List.length_append] at hi
      by_cases c : i < nm.length
      · rw [if_pos c, if_neg (by omega)]; exact F10 i c
      · have e : i = nm.length := by simp at hi; omega
        rw [if_neg c, if_pos e, if_pos ⟨rfl, e⟩]
        exact ⟨rfl, w1, w2⟩
    · rw [z41, a4, r3 k hk, a2', a1]
    · rw [e8, rd_Ih]
    · rw [e8, rd_Ik (by omega), rd_Ia (by omega), rd_IJ]
      rw [(m13.tr m4).ar 40 (by decide) (by decide)]
end

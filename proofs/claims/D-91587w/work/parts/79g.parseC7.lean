/-! ===== acts: the class reads a def, and all ===== -/
/-- the cells from lo to hi are as they were -/
def same (lo hi : Nat) (h g : ah_T) : Prop := ∀ a, lo ≤ a → a < hi → ah_kd g a = ah_kd h a ∧ (∀ k, ah_R g a k = ah_R h a k) ∧ (∀ k, ah_I g a k = ah_I h a k) ∧ ∀ k, ah_J g a k = ah_J h a k
theorem same.tr {lo hi : Nat} {h g g2 : ah_T} (x : same lo hi h g) (z : same lo hi g g2) : same lo hi h g2 := fun a a1 a2 => by
  obtain ⟨x1, x2, x3, x4⟩ := x a a1 a2
  obtain ⟨z1, z2, z3, z4⟩ := z a a1 a2
  exact ⟨z1.trans x1, fun k => (z2 k).trans (x2 k), fun k => (z3 k).trans (x3 k), fun k => (z4 k).trans (x4 k)⟩
theorem same.mn {lo hi lo' hi' : Nat} {h g : ah_T} (x : same lo hi h g) (h1 : lo ≤ lo') (h2 : hi' ≤ hi) : same lo' hi' h g := fun a a1 a2 => x a (by omega) (by omega)
theorem same.agr {lo hi T : Nat} {xs : List (Nat × Nat)} {h g : ah_T} (x : same lo hi h g) : agr lo hi xs T h g := fun a a1 a2 _ => by
  obtain ⟨x1, x2, x3, x4⟩ := x a a1 a2
  exact ⟨x1, fun k _ => x2 k, fun k _ => x3 k, x4⟩
/-- the defs that the law holds -/
def LDs (G : ma_G) (A W Lw : Nat) (g : ah_T) (nm : List Nat) (Ds : List PD) : Prop := Ds.length = nm.length ∧ (∀ i j, i < nm.length → j < nm.length → nm.getD i 0 = nm.getD j 0 → i = j) ∧ (∀ i, nm.length ≤ i → ah_R g (Lw + 2) i = 0) ∧ ∀ i, i < nm.length → ∃ T lo hi, ah_R g (Lw + 2) i = T ∧ Lw + 2 < lo ∧ hi ≤ ah_sz g ∧ TV G A W lo hi g T 48 (Ds.getD i pd0)
section
variable {G : ma_G} {A R W Lw n p q s c c1 d dp T lo : Nat} {h g g2 : ah_T} {t : Nat → Nat} {nm : List Nat} {Ds : List PD} {Q : Option ma_V → ah_T → Prop} {E : Nat → ah_T → Prop} {x : Int32} {D : PD} {W' S U : Nat → PR}
theorem pf.same {lo' : Nat} (x : pf lo R W h g) (h1 : R < lo') (h2 : W < lo') : same lo' lo h g := fun a a1 a2 => by
  obtain ⟨x1, x2, x3, x4⟩ := x.2 a a2
  exact ⟨x1, x2, fun k => x3 k (by omega) (by omega), fun k => x4 k (by omega)⟩
theorem c_def (P : CPre R W Lw n t nm 4 p h) (X : LDs G A W Lw h nm Ds)
    (K1 : ∀ q D g, pDef t n nm p = .inr (q, D) → pf Lw R W h g → CPre R W Lw n t (nm ++ [tW t n p]) 4 q g → LDs G A W Lw g (nm ++ [tW t n p]) (Ds ++ [D]) → ah_I g Lw 3 = ah_I h Lw 3 → ah_rc h ≤ ah_rc g + 4 * (q - p) → ah_rs h ≤ ah_rs g + 28 * (q - p) → Q none g)
    (K2 : ∀ f g, pDef t n nm p = .inl f → CFlt Lw R W n 4 p f h g → E W g) :
    MX G mi_X5_def (d + 69) 0 [some (rv R), none, none, none] [] h Q E := by
  have P' := P
  obtain ⟨⟨p1, p2, p3⟩, P2, P3, P4, P5, ⟨P6, P6'⟩, P7, P8, P9⟩ := P'
  have n4 := tS_le (t := t) (n := n) (p := p)
  have fl : ∀ g f, pDef t n nm p = .inl f → pf Lw R W h g → ah_rc h ≤ ah_rc g + (4 * (n - p) + 4) → ah_rs h ≤ ah_rs g + 7 * (4 * (n - p) + 4) → E W (ah_wI (ah_wI g W 6 (nI f.1)) W 7 (nI f.2)) := fun g f un m b1 b2 => K2 f _ un (CFlt.tr m (CFlt.w (n := n) (s := 0) (p := n)) (by omega) (by omega))
  have nm1 : ∀ w, wrd w → lN (n256 8 w) ≠ (-1 : Int64) := fun w hw z => by
    have b := wrd_n hw
    rw [i6_eq, pk_lT (by omega), tl_1] at z
    omega
  have bad : ¬ pOk t n p → MX G mi_X5_def (d + 69) 37 [some (rv R), none, none, none] [iv (0 : Int32), rv R] h Q E := fun z => v_X5_def_37 (d := d + 66) P2 ⟨fun w => absurd rfl w, fun _ => wc_ok (k := 2) rfl P (fl h (pw t n p 2) (by unfold pDef; rw [if_neg z]) pf.rf (by omega) (by omega))⟩
  have good : pOk t n p → MX G mi_X5_def (d + 69) 37 [some (rv R), none, none, none] [iv (1 : Int32), rv R] h Q E := fun ok => by
    have ok' := ok
    obtain ⟨s2, w8, o1, o0⟩ := ok'
    have hw := wrd_t s2 w8
    have pk : ∀ k, (pw t n p k) = (k, tF t n p) := fun k => by unfold pw; rw [if_neg (by omega)]
    refine v_X5_def_37 (d := d + 66) P2 ⟨fun _ => ?_, fun w => absurd w (by decide)⟩
    rw [P6]
    refine ⟨ly17_k P6'.1, ?_⟩
    have l10 := P6'.2.1
    rw [P6'.2.2.1, show (10 : Int32) = nI 10 from rfl, nI_eq (by omega) (by omega)]
    refine ⟨fun c10 => ?_, fun c10 => wc_ok (k := 3) rfl P (fl h (pw t n p 3) (by rw [pk]; unfold pDef; rw [if_pos ok, if_pos c10]) pf.rf (by omega) (by omega))⟩
    refine c_name (d := d + 67) P2 P3 P4 P5 (fun _ _ => ?_) (fun w => absurd ⟨s2, w8⟩ w)
    intro _
    refine c_find17 P6' hw (fun r8 h8 => ?_)
    intro _
    have nx : nix t n nm p = kix (tW t n p) nm 0 := by unfold nix; rw [if_pos ⟨s2, w8⟩]
    have nb := nix_bd (t := t) (n := n) (nm := nm) (p := p)
    rw [i3_eq, h8, tm_1, ← nx]
    refine ⟨fun z1 => ?_, fun z1 => wc_ok (k := 4) rfl P (fl h (pw t n p 4) (by rw [pk]; unfold pDef; rw [if_pos ok, if_neg c10, if_pos (by omega)]) pf.rf (by omega) (by omega))⟩
    have un0 : pDef t n nm p = @ite PR (tC t n 58 (tE t n p)) (Classical.propDecidable _) (match (pL t n nm 8).1 (tE t n (tE t n p)) with
        | .inl e => .inl e
        | .inr (q, D) => @ite PR (tC t n 59 q) (Classical.propDecidable _) (.inr (tE t n q, D)) (.inl (pw t n q 2))) (.inl (pw t n (tE t n p) 2)) := by
      unfold pDef; rw [if_pos ok, if_neg c10, if_neg (by omega)]; rfl
    refine c_name (d := d + 67) P2 P3 P4 P5 (fun _ _ => ?_) (fun w => absurd ⟨s2, w8⟩ w)
    intro _
    have a := tE_s P4 (by rw [s2]; decide)
    refine c_nx (d := d + 67) P (by rw [s2]; decide) (fun g1 m1 Pn => ?_)
    intro _
    have u1 := sz_r m1
    have f1 : pf (ah_sz h) R W h g1 := m1.pf
    have w1 : ¬ tC t n 58 (tE t n p) → _ := fun z => wc_ok (E := E) (y := (2 : Int32)) (k := 2) rfl Pn (fl g1 (pw t n (tE t n p) 2) (by rw [un0, if_neg z]) (f1.mn (by omega)) (by omega) (by omega))
    rw [cd4 Pn (k := 4) (by decide) (y := (4 : Int32)) rfl]
    refine ⟨fun z => w1 (fun y => z y.1), fun s4 => ?_⟩
    rw [cv6 Pn (by omega) (k := 58) (by decide) (y := (58 : Int32)) rfl]
    refine ⟨fun z => w1 (fun y => z y.2), fun e58 => ?_⟩
    have c58 : tC t n 58 (tE t n p) := ⟨s4, e58⟩
    rw [if_pos c58] at un0
    have a1 := tE_s a.2 (tC_s c58)
    refine c_nx (d := d + 67) Pn (tC_s c58) (fun g2 m2 Pn2 => ?_)
    intro _
    have u2 := sz_r m2
    have f2 : pf (ah_sz h) R W h g2 := f1.tr m2.pf
    have Pn2' : CPre R W Lw n t nm 4 (tE t n (tE t n p)) g2 := P.fr f2 p3 a1.2 Pn2.2.2.2.2.1 (by omega) (by omega)
    have hW := (c_L (G := G) (A := A) (R := R) (W := W) (Lw := Lw) (n := n) (t := t) (nm := nm) 8 (Nat.le_refl _) d).1
    refine hW g2 _ _ _ Pn2' (fun q3 D3 g3 T3 un3 C3 => ?_) (fun f g3 un3 C3 => K2 f g3 (by rw [un0, un3]) (CFlt.tr (f2.mn (by omega)) (C3.mn (by omega)) (by omega) (by omega)))
    intro _
    obtain ⟨A0, A1, A2, A3, A4, A5, A6⟩ := C3
    have pq := (pos_L 8).1 _ _ _ a1.2 un3
    have sz3 := A0.1.1
    have t1 := A2.1
    have t2 := A2.2.1
    have f3 : pf (ah_sz h) R W h g3 := f2.tr (A0.mn (by omega))
    have Pa : CPre R W Lw n t nm 4 q3 g3 := P.fr f3 p3 pq.2 A1 (by omega) (by omega)
    rw [un3] at un0
    simp only at un0
    have w3 : ¬ tC t n 59 q3 → _ := fun z => wc_ok (E := E) (y := (2 : Int32)) (k := 2) rfl Pa (fl g3 (pw t n q3 2) (by rw [un0, if_neg z]) (f3.mn (by omega)) (by omega) (by omega))
    rw [cd4 Pa (k := 4) (by decide) (y := (4 : Int32)) rfl]
    refine ⟨fun z => w3 (fun y => z y.1), fun s4a => ?_⟩
    rw [cv6 Pa (by omega) (k := 59) (by decide) (y := (59 : Int32)) rfl]
    refine ⟨fun z => w3 (fun y => z y.2), fun e59 => ?_⟩
    have c59 : tC t n 59 q3 := ⟨s4a, e59⟩
    rw [if_pos c59] at un0
    have a3 := tE_s pq.2 (tC_s c59)
    refine c_nx (d := d + 67) Pa (tC_s c59) (fun g4 m4 Pn4 => ?_)
    intro _
    have u4 := sz_r m4
    have f4 : pf (ah_sz h) R W h g4 := f3.tr m4.pf
    obtain ⟨-, Q2, Q3, Q4, Q5, ⟨Q6, Q6'⟩, Q7, Q8, Q9⟩ := Pn4
    have L4 := Q6'.1
    have vl : vp_in (nI nm.length) 10 := vp_in_nI (by omega) (by decide)
    rw [Q6, ly17_R_0_0 L4, ly17_R_0_1 L4, Q6'.2.2.1, nI_clamp (n := nm.length) (by omega)]
    have T4 : TV G A W (ah_sz g2) (ah_sz g3) g4 T3 48 D3 := A2.ag ((m4.pf (lo := ah_sz g3) (W := W)).agr (by omega) (by omega))
    refine ⟨ly17_k L4, ly17_A_1 L4 vl, fun h60 e60 X60 => ⟨ly17_A_2 L4 vl, T4.2.2.1, ?_, fun h64 e64 X64 => ?_⟩⟩
    · rw [e60, rd_RJ, (f4.2 (Lw + 2) (by omega)).2.1]; exact X.2.2.1 _ (Nat.le_refl _)
    have r7 : ah_R h64 R 7 = Lw := by rw [e64, rd_RR, if_neg (by omega), e60, rd_RJ]; exact Q6
    rw [r7, Q6'.2.2.1]
    refine ⟨ly17_k L4, fun h66 e66 X66 => ?_⟩
    have rR : ∀ b k, ah_R h66 b k = if b = Lw + 2 ∧ k = nm.length then T3 else ah_R g4 b k := fun b k => by rw [e66, rd_RI, e64, rd_RR, e60, rd_RJ]
    have rI : ∀ b k, ah_I h66 b k = if b = Lw ∧ k = 2 then nI (nm.length + 1) else ah_I g4 b k := fun b k => by rw [e66, rd_II, e64, rd_IR, e60, rd_IJ, nI_1]
    have rJ : ∀ b k, ah_J h66 b k = if b = Lw + 1 ∧ k = nm.length then lN (n256 8 (tW t n p)) else ah_J g4 b k := fun b k => by rw [e66, rd_JI, e64, rd_JR, e60, rd_JJ]
    have rk : ∀ b, ah_kd h66 b = ah_kd g4 b := fun b => by rw [e66, e64, e60]; rfl
    have s66 : ah_sz h66 = ah_sz g4 ∧ ah_rc h66 = ah_rc g4 ∧ ah_rs h66 = ah_rs g4 := by rw [e66, e64, e60]; exact ⟨rfl, rfl, rfl⟩
    have xt : ah_ext g4 h66 := X60.tr (X64.tr X66)
    clear e66 e64 e60
    have len : (nm ++ [tW t n p]).length = nm.length + 1 := by simp
    have m66 : pf Lw R W h h66 := (f4.mn (by omega)).tr ⟨xt, fun b hb => ⟨rk b, fun k => by rw [rR, if_neg (by omega)], fun k _ _ => by rw [rI, if_neg (by omega)], fun k _ => by rw [rJ, if_neg (by omega)]⟩⟩
    have sm : same (Lw + 3) (ah_sz g4) g4 h66 := fun b b1 b2 => ⟨rk b, fun k => by rw [rR, if_neg (by omega)], fun k => by rw [rI, if_neg (by omega)], fun k => by rw [rJ, if_neg (by omega)]⟩
    have sh : same (Lw + 3) (ah_sz h) h h66 := (f4.same (by omega) (by omega)).tr (sm.mn (Nat.le_refl _) (by omega))
    have nwn : ∀ i, i < nm.length → nm.getD i 0 ≠ tW t n p := by
      rw [nx] at z1
      exact kix_nn _ _ _ z1
    obtain ⟨X1, X2, X3, X4⟩ := X
    refine K1 _ _ h66 un0 m66 ⟨⟨p1, p2, by omega⟩, Q2.ext xt, ⟨Q3.1, fun k hk => by rw [rI, if_neg (by omega)]; exact Q3.2 k hk⟩, Q4, Q5.sm (fun k _ => by rw [rI, if_neg (by omega)]) (by rw [rJ, if_neg (by omega)]), ⟨by rw [rR, if_neg (by omega)]; exact Q6, L4.ext xt, by rw [len]; omega, by rw [rI, if_pos ⟨rfl, rfl⟩, len], fun i hi => ?_⟩, ⟨by rw [rR, if_neg (by omega)]; exact Q7.1, by rw [rk]; exact Q7.2⟩, by omega, by omega⟩ ⟨by simp [X1], fun i j hi hj => ?_, fun i hi => ?_, fun i hi => ?_⟩ (by rw [rI, if_neg (by omega), (f4.2 Lw (by omega)).2.2.1 3 (by omega) (by omega)]) (by omega) (by omega)
    · rw [len] at hi
      rw [rJ, gD_app]
      by_cases z : i < nm.length
      · rw [if_neg (by omega), if_pos z]; exact Q6'.2.2.2 i z
      · rw [if_pos ⟨rfl, by omega⟩, if_neg z, if_pos (by omega)]; exact ⟨rfl, hw⟩
    · rw [len] at hi hj
      rw [gD_app, gD_app]
      by_cases z1 : i < nm.length
      · rw [if_pos z1]
        by_cases z2 : j < nm.length
        · rw [if_pos z2]; exact X2 i j z1 z2
        · rw [if_neg z2, if_pos (by omega)]; intro y; exact absurd y (nwn i z1)
      · rw [if_neg z1, if_pos (by omega)]
        by_cases z2 : j < nm.length
        · rw [if_pos z2]; intro y; exact absurd y.symm (nwn j z2)
        · omega
    · rw [len] at hi
      rw [rR, if_neg (by omega), (f4.2 (Lw + 2) (by omega)).2.1]
      exact X3 i (by omega)
    · rw [len] at hi
      rw [gD_app, X1]
      by_cases z : i < nm.length
      · obtain ⟨T, lo, hi2, v1, v2, v3, v4⟩ := X4 i z
        refine ⟨T, lo, hi2, by rw [rR, if_neg (by omega), (f4.2 (Lw + 2) (by omega)).2.1]; exact v1, v2, by omega, ?_⟩
        rw [if_pos z]
        exact v4.ag ((sh.mn (by omega) v3).agr)
      · refine ⟨T3, ah_sz g2, ah_sz g3, by rw [rR, if_pos ⟨rfl, by omega⟩], by omega, by omega, ?_⟩
        rw [if_neg z, if_pos (by omega)]
        exact T4.ag ((sm.mn (by omega) (by omega)).agr)
  refine v_X5_def (d := d + 66) P2 ?_
  refine c_name (d := d + 67) P2 P3 P4 P5 (fun s2 w8 => ?_) (fun w => ?_)
  · intro _
    have hw := wrd_t s2 w8
    refine ⟨fun z => absurd z (nm1 _ hw), fun _ => ?_⟩
    refine c_in (d := d + 62) (by decide) P2 P3 P4 P5 (fun r5 h5 => ?_)
    intro _
    rw [i3_eq, h5, tm_1]
    refine ⟨fun z => bad (fun y => z y.2.2.1), fun z1 => ?_⟩
    refine c_in (d := d + 62) (by decide) P2 P3 P4 P5 (fun r8 h8 => ?_)
    intro _
    rw [i3_eq, h8, tm_1]
    exact ⟨fun z => bad (fun y => z y.2.2.2), fun z0 => good ⟨s2, w8, z1, z0⟩⟩
  · intro _
    exact ⟨fun _ => bad (fun y => w ⟨y.1, y.2.1⟩), fun z => absurd rfl z⟩
/-- all defs -/
theorem c_read_25 : ∀ (f : Nat) (g : ah_T) (p : Nat) (nm : List Nat) (Ds : List PD), n - p < f → CPre R W Lw n t nm 4 p g → LDs G A W Lw g nm Ds →
    (∀ g' nm' Ds' p', pAll t n f p nm Ds = .inr (nm', Ds') → pf Lw R W g g' → CPre R W Lw n t nm' 4 p' g' → LDs G A W Lw g' nm' Ds' → ah_I g' Lw 3 = ah_I g Lw 3 → ah_rc g ≤ ah_rc g' + 4 * (n - p) → ah_rs g ≤ ah_rs g' + 28 * (n - p) → Q (some (rv Lw)) g') →
    (∀ z g', pAll t n f p nm Ds = .inl z → CFlt Lw R W n 4 p z g g' → E W g') →
    MX G mi_X5_read (d + 70) 25 [some (rv R), none] [] g Q E := by
  intro f
  induction f with
  | zero => intro g p nm Ds hf; exact absurd hf (Nat.not_lt_zero _)
  | succ f ih =>
    intro g p nm Ds hf P X K1 K2
    have P' := P
    obtain ⟨⟨p1, p2, p3⟩, P2, P3, P4, P5, ⟨P6, P6'⟩, P7, P8, P9⟩ := P'
    refine v_X5_read_25 (d := d + 69) P2 ?_
    rw [cd4 P (k := 0) (by decide) (y := (0 : Int32)) rfl, P6]
    refine ⟨fun s0 => K1 g nm Ds p (by rw [pAll, if_pos s0]) pf.rf P X rfl (by omega) (by omega), fun s0 => ?_⟩
    refine c_def (d := d) P X (fun q D g2 un m C X2 e3 b1 b2 => ?_) (fun z g2 un C => K2 z g2 (by rw [pAll, if_neg s0, un]) C)
    intro _
    have pq := pos_def P4 un
    refine ih g2 q (nm ++ [tW t n p]) (Ds ++ [D]) (by omega) C X2 (fun g' nm' Ds' p' un2 m' C' X' e' b3 b4 => K1 g' nm' Ds' p' (by rw [pAll, if_neg s0, un]; exact un2) (m.tr m') C' X' (e'.trans e3) (by omega) (by omega)) (fun z g' un2 C' => K2 z g' (by rw [pAll, if_neg s0, un]; exact un2) (CFlt.tr m C' (by omega) (by omega)))
end

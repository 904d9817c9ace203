/-! ===== what the acts tell: the model's stack ===== -/
/-- the stack, its top first -/
def skm (g : ah_T) (M : Nat) : SK → Prop
  | [] => True
  | x :: r => ah_J g (M + 44) r.length = x.1 ∧ ah_I g (M + 47) r.length = (if x.2 = true then 1 else 0) ∧ skm g M r
theorem dv_nI {n c : Nat} (hn : n < 2147483648) (hc : 0 < c) (hc2 : c < 2147483648) : nI n / nI c = nI (n / c) := by
  have q : n / c ≤ n := Nat.div_le_self n c
  rw [← Int32.toInt_inj, Int32.toInt_div, nI_x hn, nI_x hc2, nI_x (by omega), ← Int.ofNat_tdiv]
  generalize n / c = m at q ⊢
  exact Int.bmod_eq_of_le (by omega) (by omega)
theorem enc_d {w v : Nat} (hw : w ≤ 16) (hv : v < 1048576) : enc w v / (1048576 : Int32) = nI w ∧ enc w v - enc w v / (1048576 : Int32) * (1048576 : Int32) = nI v := by
  have e : enc w v / (1048576 : Int32) = nI w := by
    unfold enc
    rw [show (1048576 : Int32) = nI 1048576 from rfl, dv_nI (by omega) (by decide) (by decide)]
    congr 1; omega
  refine ⟨e, ?_⟩
  rw [e, show (1048576 : Int32) = nI 1048576 from rfl, pk_mul]
  unfold enc
  rw [← Int32.toInt_inj, i3_sb (by rw [nI_x (by omega), nI_x (by omega)]; omega) (by rw [nI_x (by omega), nI_x (by omega)]; omega), nI_x (by omega), nI_x (by omega), nI_x (by omega)]
  omega
section
variable {G : ma_G} {d M k : Nat} {h g g2 : ah_T} {r st st' : SK} {Q : Option ma_V → ah_T → Prop} {E : Nat → ah_T → Prop}
theorem skm_ag : ∀ {r : SK}, skm g M r → (∀ j, j < r.length → ah_J g2 (M + 44) j = ah_J g (M + 44) j ∧ ah_I g2 (M + 47) j = ah_I g (M + 47) j) → skm g2 M r
  | [], _, _ => trivial
  | x :: r, s, e => by
    have l : (x :: r).length = r.length + 1 := rfl
    obtain ⟨s1, s2, s3⟩ := s
    exact ⟨by rw [(e _ (by omega)).1]; exact s1, by rw [(e _ (by omega)).2]; exact s2, skm_ag s3 (fun j hj => e j (by omega))⟩
theorem m_push {V : Int64} {B : Int32} {bb : Bool} {R : Option ma_V} (e72 : ah_I h M 72 = nI r.length) (sk : skm h M r) (hl : r.length < 600) (hB : vp_nar .boolean B = if bb = true then 1 else 0)
    (K : ∀ g, mch [44, 47] [72] M h g → ah_I g M 72 = nI (r.length + 1) → skm g M ((V, bb) :: r) → Q R g) :
    vp_in (ah_I h M 72) 600 ∧ ∀ h3 : ah_T, h3 = ah_wJ h (M + 44) (ah_I h M 72).toNatClampNeg V → ah_ext h h3 → ∀ h4 : ah_T, h4 = ah_wI h3 (M + 47) (ah_I h M 72).toNatClampNeg (vp_nar .boolean B) → ah_ext h3 h4 → ∀ h5 : ah_T, h5 = ah_wI h4 M 72 ((ah_I h M 72) + (1 : Int32)) → ah_ext h4 h5 → Q R h5 := by
  rw [e72, nI_clamp (by omega), hB, nI_1]
  refine ⟨vp_in_nI hl (by decide), fun h3 e3 _ h4 e4 _ h5 e5 _ => K h5 ?_ ?_ ⟨?_, ?_, ?_⟩⟩
  · rw [e5, e4, e3]; exact ((mch.rf.wJ (by decide)).wI (by decide)).zI (by decide)
  · rw [e5, rd_Ih]
  · rw [e5, rd_JI, e4, rd_JI, e3, rd_JJ, if_pos ⟨rfl, rfl⟩]
  · rw [e5, rd_Ia (by omega), e4, rd_Ih]
  · refine skm_ag sk (fun j hj => ⟨?_, ?_⟩)
    · rw [e5, rd_JI, e4, rd_JI, e3, rd_JJ, if_neg (by omega)]
    · rw [e5, rd_Ia (by omega), e4, rd_II, if_neg (by omega), e3, rd_IJ]
/-- two of the stack -/
theorem m_both {w v : Nat} {a b : Int64 × Bool} (L : LY8 h M) (hw : 3 ≤ w ∧ w ≤ 14) (hv : v < 1048576) (e72 : ah_I h M 72 = nI (r.length + 2)) (sk : skm h M (b :: a :: r)) (hl : r.length < 598)
    (K : ∀ g, mch [44, 47] [72] M h g → ah_I g M 72 = nI (r.length + 1) → skm g M ((if w ≤ 9 then mop w a b else if w ≤ 12 then (if (a.2 || b.2) = false ∧ (mcm w a.1 b.1 != decide (v = 1)) = true then 1 else 0, false) else (if w = 13 then a.1 &&& b.1 else a.1 ||| b.1, false)) :: r) → Q none g) :
    MX G mi_X8_both (d + 1) 0 [some (rv M), some (iv (nI w)), some (iv (nI v)), none, none, none, none, none, none] [] h Q E := by
  obtain ⟨s1, s2, s3, s4, s5⟩ := sk
  have l1 : (a :: r).length = r.length + 1 := rfl
  rw [l1] at s1 s2
  have f2 : nI (r.length + 2) - (2 : Int32) = nI r.length := by
    rw [show (2 : Int32) = nI 2 from rfl, ← Int32.toInt_inj, i3_sb (by rw [nI_x (by omega), nI_x (by omega)]; omega) (by rw [nI_x (by omega), nI_x (by omega)]; omega), nI_x (by omega), nI_x (by omega), nI_x (by omega)]; omega
  refine v_X8_both (d := d) L ?_
  rw [e72, f2, nI_1, nI_clamp (by omega), nI_clamp (by omega), s1, s2, s3, s4]
  intro h1 e1 X1
  have L1 := L.ext X1
  have m1 : mch [44, 47] [72] M h h1 := by rw [e1]; exact mch.rf.zI (by decide)
  have h72 : ah_I h1 M 72 = nI r.length := by rw [e1, rd_Ih]
  have k1 : skm h1 M r := skm_ag s5 (fun j _ => ⟨by rw [e1, rd_JI], by rw [e1, rd_Ia (by omega)]⟩)
  clear e1
  refine ⟨vp_in_nI (by omega) (by decide), vp_in_nI (by omega) (by decide), ?_⟩
  have n0 : vp_nar .boolean (0 : Int32) = if false = true then 1 else 0 := rfl
  have n1 : vp_nar .boolean (1 : Int32) = if true = true then 1 else 0 := rfl
  have hK : ∀ x : Int64 × Bool, (if w ≤ 9 then mop w a b else if w ≤ 12 then (if (a.2 || b.2) = false ∧ (mcm w a.1 b.1 != decide (v = 1)) = true then 1 else 0, false) else (if w = 13 then a.1 &&& b.1 else a.1 ||| b.1, false)) = x → ∀ g, mch [44, 47] [72] M h1 g → ah_I g M 72 = nI (r.length + 1) → skm g M (x :: r) → Q none g := fun x e g m q s => K g (m1.tr m) q (by rw [e]; exact s)
  clear K
  have end_ : ∀ z : Bool, (a.2 || b.2) = z → MX G mi_X8_both (d + 1) 64 [some (rv M), some (iv (nI w)), some (iv (nI v)), some (jv a.1), none, some (jv b.1), none, none, none] [iv (if z = true then 1 else 0)] h1 Q E := fun z hz => by
    have eqw : ∀ c : Nat, c < 100 → (nI w = nI c ↔ w = c) := fun c hc => nI_eq (by omega) (by omega)
    refine v_X8_both_64 (d := d) L1 ?_
    rw [show (13 : Int32) = nI 13 from rfl, show (14 : Int32) = nI 14 from rfl, show (6 : Int32) = nI 6 from rfl, show (7 : Int32) = nI 7 from rfl, show (10 : Int32) = nI 10 from rfl, show (11 : Int32) = nI 11 from rfl, eqw 13 (by decide), eqw 14 (by decide), eqw 6 (by decide), eqw 7 (by decide), eqw 10 (by decide), eqw 11 (by decide)]
    have bits : 12 < w → MX G mi_X8_both (d + 1) 78 [some (rv M), some (iv (nI w)), none, some (jv a.1), none, some (jv b.1), none, none, none] [] h1 Q E := fun hw12 => by
      refine v_X8_both_78 (d := d) L1 ?_
      rw [show (13 : Int32) = nI 13 from rfl, eqw 13 (by decide)]
      refine ⟨fun c => m_push (bb := false) h72 k1 (by omega) n0 (hK _ ?_), fun c => m_push (bb := false) h72 k1 (by omega) n0 (hK _ ?_)⟩
      · rw [if_neg (by omega), if_neg (by omega), if_neg c]
      · rw [if_neg (by omega), if_neg (by omega), if_pos c]
    have cmp : 9 < w → w ≤ 12 → ∀ y : Bool, mcm w a.1 b.1 = y → MX G mi_X8_both (d + 1) 161 [some (rv M), none, some (iv (nI v)), none, none, none, none, some (iv (if z = true then 1 else 0)), none] [iv (if y = true then 1 else 0)] h1 Q E := fun w1 w2 y hy => by
      have e0 : (if w ≤ 9 then mop w a b else if w ≤ 12 then (if (a.2 || b.2) = false ∧ (mcm w a.1 b.1 != decide (v = 1)) = true then (1 : Int64) else 0, false) else (if w = 13 then a.1 &&& b.1 else a.1 ||| b.1, false)) = (if z = false ∧ (y != decide (v = 1)) = true then (1 : Int64) else 0, false) := by rw [if_neg (by omega), if_pos w2, hz, hy]
      have hK0 := hK _ e0
      refine v_X8_both_161 (d := d) L1 ?_
      rw [show nI v = 1 ↔ v = 1 from nI_eq (b := 1) (by omega) (by omega)]
      cases z with
      | true => exact ⟨fun _ => m_push (bb := false) h72 k1 (by omega) n0 hK0, fun c => absurd c (by decide)⟩
      | false =>
        refine ⟨fun c => absurd rfl c, fun _ => ⟨fun c => ?_, fun c => ?_⟩⟩
        · rw [decide_eq_false c] at hK0
          cases y with
          | true => exact ⟨fun q => absurd q (by decide), fun _ => m_push (bb := false) h72 k1 (by omega) n0 hK0⟩
          | false => exact ⟨fun _ => m_push (bb := false) h72 k1 (by omega) n0 hK0, fun q => absurd rfl q⟩
        · rw [decide_eq_true c] at hK0
          cases y with
          | true => exact ⟨fun _ => m_push (bb := false) h72 k1 (by omega) n0 hK0, fun q => absurd rfl q⟩
          | false => exact ⟨fun q => absurd q (by decide), fun _ => m_push (bb := false) h72 k1 (by omega) n0 hK0⟩
    have nums : w ≤ 9 → ∀ y : Bool, ((a.2 || b.2) = true ∨ ((w = 6 ∨ w = 7) ∧ b.1 = 0) ↔ y = true) → MX G mi_X8_both (d + 1) 223 [some (rv M), some (iv (nI w)), none, some (jv a.1), none, some (jv b.1), none, none, none] [iv (if y = true then 1 else 0)] h1 Q E := fun w9 y hy => by
      have hK0 := hK _ (if_pos w9)
      unfold mop at hK0
      refine v_X8_both_223 (d := d) L1 ?_
      rw [show (3 : Int32) = nI 3 from rfl, show (4 : Int32) = nI 4 from rfl, show (5 : Int32) = nI 5 from rfl, show (6 : Int32) = nI 6 from rfl, show (7 : Int32) = nI 7 from rfl, show (8 : Int32) = nI 8 from rfl, eqw 3 (by decide), eqw 4 (by decide), eqw 5 (by decide), eqw 6 (by decide), eqw 7 (by decide), eqw 8 (by decide)]
      cases y with
      | true =>
        rw [if_pos (hy.2 rfl)] at hK0
        exact ⟨fun c => absurd c (by decide), fun _ => m_push (bb := true) h72 k1 (by omega) n1 hK0⟩
      | false =>
        have hn : ¬ ((a.2 || b.2) = true ∨ ((w = 6 ∨ w = 7) ∧ b.1 = 0)) := fun q => by have := hy.1 q; cases this
        rw [if_neg hn] at hK0
        refine ⟨fun _ => ⟨fun c3 => ⟨fun c4 => ⟨fun c5 => ⟨fun c6 => ⟨fun c7 => ⟨fun c8 => ?_, fun c8 => ?_⟩, fun c7 => ⟨fun q => hn (Or.inr ⟨Or.inr c7, q⟩), ?_⟩⟩, fun c6 => ⟨fun q => hn (Or.inr ⟨Or.inl c6, q⟩), ?_⟩⟩, fun c5 => ?_⟩, fun c4 => ?_⟩, fun c3 => ?_⟩, fun c => absurd rfl c⟩
        · rw [if_neg c3, if_neg c4, if_neg c5, if_neg c6, if_neg c7, if_neg c8] at hK0; exact m_push (bb := false) h72 k1 (by omega) n0 hK0
        · rw [if_neg c3, if_neg c4, if_neg c5, if_neg c6, if_neg c7, if_pos c8] at hK0; exact m_push (bb := false) h72 k1 (by omega) n0 hK0
        · rw [if_neg c3, if_neg c4, if_neg c5, if_neg c6, if_pos c7] at hK0; exact m_push (bb := false) h72 k1 (by omega) n0 hK0
        · rw [if_neg c3, if_neg c4, if_neg c5, if_pos c6] at hK0; exact m_push (bb := false) h72 k1 (by omega) n0 hK0
        · rw [if_neg c3, if_neg c4, if_pos c5] at hK0; exact m_push (bb := false) h72 k1 (by omega) n0 hK0
        · rw [if_neg c3, if_pos c4] at hK0; exact m_push (bb := false) h72 k1 (by omega) n0 hK0
        · rw [if_pos c3] at hK0; exact m_push (bb := false) h72 k1 (by omega) n0 hK0
    refine ⟨fun c => bits (by omega), fun c13 => ⟨fun c14 => ⟨fun c => ?_, fun c => ?_⟩, fun c => bits (by omega)⟩⟩
    · have w9 : w ≤ 9 := by rw [i3_lt, nI_x (by omega), nI_x (by omega)] at c; omega
      cases z with
      | true => exact ⟨fun _ => nums w9 true ⟨fun _ => rfl, fun _ => Or.inl hz⟩, fun q => absurd q (by decide)⟩
      | false =>
        have hz' : ¬ (a.2 || b.2) = true := by rw [hz]; decide
        refine ⟨fun q => absurd rfl q, fun _ => ⟨fun c6 => ⟨fun c0 => nums w9 false ⟨fun q => ?_, fun q => by cases q⟩, fun c0 => nums w9 true ⟨fun _ => rfl, fun _ => Or.inr ⟨Or.inl c6, c0⟩⟩⟩, fun c6 => ⟨fun c7 => nums w9 false ⟨fun q => ?_, fun q => by cases q⟩, fun c7 => ⟨fun c0 => nums w9 false ⟨fun q => ?_, fun q => by cases q⟩, fun c0 => nums w9 true ⟨fun _ => rfl, fun _ => Or.inr ⟨Or.inr c7, c0⟩⟩⟩⟩⟩⟩
        · rcases q with q | q
          · exact absurd q hz'
          · exact absurd q.2 c0
        · rcases q with q | q
          · exact absurd q hz'
          · omega
        · rcases q with q | q
          · exact absurd q hz'
          · exact absurd q.2 c0
    · have w9 : 9 < w := by rw [i3_lt, nI_x (by omega), nI_x (by omega)] at c; omega
      have w12 : w ≤ 12 := by omega
      refine ⟨fun c10 => ⟨fun c11 => ⟨fun q => cmp w9 w12 false ?_, fun q => cmp w9 w12 true ?_⟩, fun c11 => ⟨fun q => cmp w9 w12 false ?_, fun q => cmp w9 w12 true ?_⟩⟩, fun c10 => ⟨fun q => cmp w9 w12 false ?_, fun q => cmp w9 w12 true ?_⟩⟩
      · unfold mcm; rw [if_neg c10, if_neg c11]; exact decide_eq_false q
      · unfold mcm; rw [if_neg c10, if_neg c11]; exact decide_eq_true q
      · unfold mcm; rw [if_neg c10, if_pos c11]; rw [i6_le] at q; exact decide_eq_false (by rw [i6_lt]; omega)
      · unfold mcm; rw [if_neg c10, if_pos c11]; rw [i6_le] at q; exact decide_eq_true (by rw [i6_lt]; omega)
      · unfold mcm; rw [if_pos c10]; rw [i6_le] at q; exact decide_eq_false (by rw [i6_lt]; omega)
      · unfold mcm; rw [if_pos c10]; rw [i6_le] at q; exact decide_eq_true (by rw [i6_lt]; omega)
  obtain ⟨a1, a2⟩ := a
  obtain ⟨b1, b2⟩ := b
  cases a2 with
  | true => exact ⟨fun _ => end_ true rfl, fun c => absurd (show (1 : Int32) = 0 from c) (by decide)⟩
  | false =>
    refine ⟨fun c => absurd rfl c, fun _ => ?_⟩
    cases b2 with
    | true => exact ⟨fun c => absurd (show (1 : Int32) = 0 from c) (by decide), fun _ => end_ true rfl⟩
    | false => exact ⟨fun _ => end_ false rfl, fun c => absurd rfl c⟩
end

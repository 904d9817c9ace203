/-! ===== what the acts tell: the model works marks ===== -/
theorem nb_all (x : Int32) : vp_nar .boolean x = 0 ∨ vp_nar .boolean x = 1 := by
  have e : vp_nar .boolean x = x &&& 1 := rfl
  rw [e]
  have q : (x &&& 1).toBitVec = BitVec.setWidth 32 (BitVec.ofBool (x.toBitVec.getLsbD 0)) := by
    rw [Int32.toBitVec_and]
    exact BitVec.and_one_eq_setWidth_ofBool_getLsbD
  cases c : x.toBitVec.getLsbD 0 with
  | true => right; rw [← Int32.toBitVec_inj, q, c]; rfl
  | false => left; rw [← Int32.toBitVec_inj, q, c]; rfl
theorem nI_64 {v : Nat} (h : v < 2147483648) : (nI v).toInt64 = lN v := by
  rw [← Int64.toInt_inj, i3_l, nI_x h, lN_toInt (by omega)]
/-- which defs lack -/
def dlm (h : ah_T) (M : Nat) : Nat → Bool := fun i => decide (vp_nar .boolean (ah_I h (M + 48) i) = 1)
section
variable {G : ma_G} {d M k k' u : Nat} {h g g2 : ah_T} {st st' : SK} {Q : Option ma_V → ah_T → Prop} {E : Nat → ah_T → Prop} {m : Nat → Int32} {vs dv : Nat → Int64}
theorem m_does (L : LY8 h M) (e72 : ah_I h M 72 = nI st.length) (sk : skm h M st) (hl : st.length < 598) (hk : k < 1000000) (s : mst m (ah_J h (M + 45)) (ah_J h (M + 46)) (dlm h M) k st k' st')
    (K : ∀ g, mch [44, 47] [72] M h g → ah_I g M 72 = nI st'.length → skm g M st' → Q (some (iv (nI k'))) g) : MX G mi_X8_does (d + 2) 0 [some (rv M), some (iv (m k)), some (iv (nI k)), none, none] [] h Q E := by
  obtain ⟨w, v, hv, em, hlt, s⟩ := s
  rw [em]
  have hw : w ≤ 16 := by omega
  have f := enc_d hw hv
  refine v_X8_does (d := d + 1) L ?_
  rw [f.2, f.1, nI_1]
  have eqw : ∀ c : Nat, c < 100 → (nI w = nI c ↔ w = c) := fun c hc => nI_eq (by omega) (by omega)
  rw [show (0 : Int32) = nI 0 from rfl, show (2 : Int32) = nI 2 from rfl, show (15 : Int32) = nI 15 from rfl, show (16 : Int32) = nI 16 from rfl, show (nI w = (1 : Int32)) = (nI w = nI 1) from rfl, eqw 0 (by decide), eqw 1 (by decide), eqw 2 (by decide), eqw 15 (by decide), eqw 16 (by decide), nI_clamp (show v < 2147483648 by omega)]
  have n0 : vp_nar .boolean (nI 0) = if false = true then 1 else 0 := rfl
  refine ⟨fun c0 => ?_, fun c0 => ⟨fun c1 => ?_, fun c1 => ⟨fun c2 => ?_, fun c2 => ⟨fun c15 => ?_, fun c15 => ⟨fun c16 => ?_, fun c16 => ?_⟩⟩⟩⟩⟩
  · obtain ⟨-, q1, q2⟩ : w = 0 ∧ k' = k + 1 ∧ st' = (lN v, false) :: st := by
      rcases s with s | s | s | s | s | s | s | s <;> first | exact s | (exfalso; omega)
    subst q1; subst q2
    rw [nI_64 (by omega)]
    exact m_push (bb := false) e72 sk (by omega) n0 K
  · obtain ⟨-, q0, q1, q2⟩ : w = 1 ∧ v < 11 ∧ k' = k + 1 ∧ st' = (ah_J h (M + 45) v, false) :: st := by
      rcases s with s | s | s | s | s | s | s | s <;> first | exact s | (exfalso; omega)
    subst q1; subst q2
    exact ⟨vp_in_nI q0 (by decide), m_push (bb := false) e72 sk (by omega) n0 K⟩
  · obtain ⟨-, q0, q1, q2⟩ : w = 2 ∧ v < 10 ∧ k' = k + 1 ∧ st' = (ah_J h (M + 46) v, dlm h M v) :: st := by
      rcases s with s | s | s | s | s | s | s | s <;> first | exact s | (exfalso; omega)
    subst q1; subst q2
    refine ⟨vp_in_nI q0 (by decide), m_push (bb := dlm h M v) e72 sk (by omega) ?_ K⟩
    unfold dlm
    rcases nb_all (ah_I h (M + 48) v) with q | q
    · rw [q]; rfl
    · rw [q]; rfl
  · obtain ⟨-, a, r, q1, q2, q3⟩ : w = 15 ∧ ∃ a r, st = a :: r ∧ st' = r ∧ k' = if a.1 = 1 then k + 1 else v := by
      rcases s with s | s | s | s | s | s | s | s <;> first | exact s | (exfalso; omega)
    subst q1; subst q2; subst q3
    obtain ⟨s1, s2, s3⟩ := sk
    have l1 : (a :: st').length = st'.length + 1 := rfl
    rw [l1] at e72 hl
    have f1 : nI (st'.length + 1) - (1 : Int32) = nI st'.length := by
      rw [show (1 : Int32) = nI 1 from rfl, ← Int32.toInt_inj, i3_sb (by rw [nI_x (by omega), nI_x (by omega)]; omega) (by rw [nI_x (by omega), nI_x (by omega)]; omega), nI_x (by omega), nI_x (by omega), nI_x (by omega)]; omega
    rw [e72, f1, nI_clamp (by omega), s1]
    intro h1 e1 _
    have Kc := K h1 (by rw [e1]; exact mch.rf.zI (by decide)) (by rw [e1, rd_Ih]) (skm_ag s3 (fun j _ => ⟨by rw [e1, rd_JI], by rw [e1, rd_Ia (by omega)]⟩))
    refine ⟨vp_in_nI (by omega) (by decide), fun c => ?_, fun c => ?_⟩
    · rw [if_neg c] at Kc; exact Kc
    · rw [if_pos c] at Kc; exact Kc
  · obtain ⟨-, q1, q2⟩ : w = 16 ∧ k' = v ∧ st' = st := by
      rcases s with s | s | s | s | s | s | s | s <;> first | exact s | (exfalso; omega)
    subst q1; subst q2
    exact K h mch.rf e72 sk
  · have : ∃ a b r, st = b :: a :: r ∧ k' = k + 1 ∧ (3 ≤ w ∧ w ≤ 14) ∧ st' = (if w ≤ 9 then mop w a b else if w ≤ 12 then (if (a.2 || b.2) = false ∧ (mcm w a.1 b.1 != decide (v = 1)) = true then 1 else 0, false) else (if w = 13 then a.1 &&& b.1 else a.1 ||| b.1, false)) :: r := by
      rcases s with s | s | s | ⟨w1, w2, e, a, b, r, q1, q2⟩ | ⟨w1, w2, e, a, b, r, q1, q2⟩ | ⟨w1, w2, e, a, b, r, q1, q2⟩ | s | s
      · omega
      · omega
      · omega
      · exact ⟨a, b, r, q1, e, by omega, by rw [q2, if_pos w2]⟩
      · exact ⟨a, b, r, q1, e, by omega, by rw [q2, if_neg (show ¬ w ≤ 9 by omega), if_pos w2]⟩
      · exact ⟨a, b, r, q1, e, by omega, by rw [q2, if_neg (show ¬ w ≤ 9 by omega), if_neg (show ¬ w ≤ 12 by omega)]⟩
      · omega
      · omega
    obtain ⟨a, b, r, q1, q2, q3, q4⟩ := this
    subst q1; subst q2; subst q4
    have l2 : (b :: a :: r).length = r.length + 2 := rfl
    rw [l2] at e72 hl
    refine m_both (d := d) L q3 hv e72 sk (by omega) (fun g mg g72 gs => ?_)
    intro _
    exact K g mg g72 gs
end

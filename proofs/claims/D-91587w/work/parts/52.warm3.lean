/-! ===== warm: the model's call ===== -/
/-- a good number of each row -/
def wok (nu : Nat → Int64) (a b k : Nat) : Prop := ¬ nu (40 * a + k) < 0 ∧ ¬ 20 < nu (40 * a + k) ∧ ¬ nu (40 * b + k) < 1 ∧ ¬ 10000 < nu (40 * b + k)
def wsp (nu : Nat → Int64) (a : Nat) : Nat → Int32 := fun k => (nu (40 * a + k)).toInt32
/-- 0 but for the numbers: 1 no tray, 3 missing, 5 no number, 4 beyond -/
def wy_warm (S : MS) (x1 x2 x3 : Int32) : Int32 := if (0 ≤ x1.toInt ∧ x1.toInt ≤ 3) ∧ (0 ≤ x2.toInt ∧ x2.toInt ≤ 3) then (if 0 ≤ (S.1 2 x1.toNatClampNeg).toInt ∧ 0 ≤ (S.1 2 x2.toNatClampNeg).toInt then (if 1 ≤ x3.toInt ∧ x3.toInt ≤ 8 then (if x3.toInt ≤ (S.1 2 x1.toNatClampNeg).toInt ∧ x3.toInt ≤ (S.1 2 x2.toNatClampNeg).toInt then 0 else 4) else 5) else 3) else 1
def sg_warm (S : MS) (sp ho : Nat → Int32) (n : Nat) : MS := uI (uI (fun b => if b = 69 then (fun j => if j < 20 then wtu sp ho n j else S.1 69 j) else S.1 b, S.2) 0 0 0) 0 107 1
section
variable {G : ma_G} {d M a b n : Nat} {h : ah_T} {S : MS} {Q : Option ma_V → ah_T → Prop} {E : Nat → ah_T → Prop} {x1 x2 x3 : Int32}
theorem wx_40 {t k : Nat} (ht : t < 4) (hk : k < 40) : (40 : Int32) * nI t + nI k = nI (40 * t + k) ∧ 40 * t + k < 160 := by
  refine ⟨?_, by omega⟩
  rw [show (40 : Int32) = nI 40 from rfl, pk_mul, nI_add]
theorem m_warm_166 (hn : n < 9) (ha : a < 4) (hb : b < 4) (L : LY8 h M) (K : ∀ g, mch [67, 68] [] M h g → (∀ k, k < n → ah_I g (M + 67) k = wsp (ah_J h (M + 3)) a k) → (∀ k, k < n → ah_I g (M + 68) k = wsp (ah_J h (M + 3)) b k) → MX G mi_X8_warm (d + 1) 211 [some (rv M), none, none, some (iv (nI n)), some (iv 0), none, none, none] [] g Q E) :
    MX G mi_X8_warm (d + 1) 166 [some (rv M), some (iv (nI a)), some (iv (nI b)), some (iv (nI n)), some (iv 0), none, none, none] [] h Q E := by
  refine mx_up (α := Unit) (fun k _ => [some (rv M), some (iv (nI a)), some (iv (nI b)), some (iv (nI n)), some (iv (nI k)), none, none, none]) n (fun k _ g => mch [67, 68] [] M h g ∧ (∀ j, j < k → ah_I g (M + 67) j = wsp (ah_J h (M + 3)) a j) ∧ ∀ j, j < k → ah_I g (M + 68) j = wsp (ah_J h (M + 3)) b j) (fun k _ g hk hI KK => ?_) (fun _ g hI => ?_) 0 () h (Nat.zero_le _) ⟨mch.rf, fun j hj => absurd hj (Nat.not_lt_zero _), fun j hj => absurd hj (Nat.not_lt_zero _)⟩
  · obtain ⟨m, q1, q2⟩ := hI
    have i1 := wx_40 (k := k) ha (by omega)
    have i2 := wx_40 (k := k) hb (by omega)
    refine v_X8_warm_166 (m.ly L) ⟨fun c => absurd c (nI_ge hk (by omega)), fun _ => ?_⟩
    rw [i1.1, i2.1, nI_clamp (n := 40 * a + k) (by omega), nI_clamp (n := 40 * b + k) (by omega), nI_clamp (n := k) (by omega), nI_1, m.arJ 3 (by decide) (by decide), m.arJ 3 (by decide) (by decide)]
    refine ⟨vp_in_nI i1.2 (by decide), vp_in_nI (by omega) (by decide), ?_⟩
    intro h4 e4 _
    refine ⟨vp_in_nI i2.2 (by decide), ?_⟩
    intro h6 e6 _
    subst e4; subst e6
    refine KK () _ ⟨(m.wI (by decide)).wI (by decide), fun j hj => ?_, fun j hj => ?_⟩
    · rw [rd_Ia (by omega), rd_II]
      rcases Nat.decEq j k with c | c
      · rw [if_neg (fun q => c q.2)]; exact q1 j (by omega)
      · rw [if_pos ⟨rfl, c⟩, c]; rfl
    · rw [rd_II]
      rcases Nat.decEq j k with c | c
      · rw [if_neg (fun q => c q.2), rd_Ia (by omega)]; exact q2 j (by omega)
      · rw [if_pos ⟨rfl, c⟩, c]; rfl
  · obtain ⟨m, q1, q2⟩ := hI
    exact v_X8_warm_166 (m.ly L) ⟨fun _ => K g m q1 q2, fun c => absurd (nI_le (Nat.le_refl n) (by omega)) c⟩
theorem m_warm_111 (hn : n < 9) (ha : a < 4) (hb : b < 4) (L : LY8 h M) (K0 : ¬ (∀ k, k < n → wok (ah_J h (M + 3)) a b k) → Q (some (iv (-1))) (ah_wI h M 0 5)) (K1 : (∀ k, k < n → wok (ah_J h (M + 3)) a b k) → MX G mi_X8_warm (d + 1) 166 [some (rv M), some (iv (nI a)), some (iv (nI b)), some (iv (nI n)), some (iv 0), none, none, none] [] h Q E) :
    MX G mi_X8_warm (d + 1) 111 [some (rv M), some (iv (nI a)), some (iv (nI b)), some (iv (nI n)), some (iv 0), none, none, none] [] h Q E := by
  refine mx_up (α := Unit) (fun k _ => [some (rv M), some (iv (nI a)), some (iv (nI b)), some (iv (nI n)), some (iv (nI k)), none, none, none]) n (fun k _ g => g = h ∧ ∀ j, j < k → wok (ah_J h (M + 3)) a b j) (fun k _ g hk hI KK => ?_) (fun _ g hI => ?_) 0 () h (Nat.zero_le _) ⟨rfl, fun j hj => absurd hj (Nat.not_lt_zero _)⟩
  · obtain ⟨e, q⟩ := hI
    subst e
    have i1 := wx_40 (k := k) ha (by omega)
    have i2 := wx_40 (k := k) hb (by omega)
    have bad : ¬ wok (ah_J g (M + 3)) a b k → ∀ h4, h4 = ah_wI g M 0 5 → ah_ext g h4 → Q (some (iv (-1))) h4 := fun c h4 e4 _ => by subst e4; exact K0 (fun z => c (z k hk))
    refine v_X8_warm_111 L ⟨fun c => absurd c (nI_ge hk (by omega)), fun _ => ?_⟩
    rw [i1.1, i2.1, nI_clamp (n := 40 * a + k) (by omega), nI_clamp (n := 40 * b + k) (by omega), nI_1]
    refine ⟨vp_in_nI i1.2 (by decide), fun c => bad (fun z => z.1 c), fun c1 => ⟨fun c => bad (fun z => z.2.1 c), fun c2 => ⟨vp_in_nI i2.2 (by decide), fun c => bad (fun z => z.2.2.1 c), fun c3 => ⟨fun c => bad (fun z => z.2.2.2 c), fun c4 => ?_⟩⟩⟩⟩
    refine KK () g ⟨rfl, fun j hj => ?_⟩
    rcases Nat.lt_or_ge j k with z | z
    · exact q j z
    · rw [show j = k by omega]; exact ⟨c1, c2, c3, c4⟩
  · obtain ⟨e, q⟩ := hI
    subst e
    exact v_X8_warm_111 L ⟨fun _ => K1 q, fun c => absurd (nI_le (Nat.le_refl n) (by omega)) c⟩
end

/-! ===== numbers of a tray, as warm and send ask them ===== -/
section
variable {G : ma_G} {d X M : Nat} {h : ah_T} {Q : Option ma_V → ah_T → Prop} {E : Nat → ah_T → Prop} {ts tm : Nat → Int32} {nu : Nat → Int64}
theorem CIt.nul (x : CIt h X ts tm nu) {t : Nat} (ht : t < 4) : ah_R h (X + (1494 + t)) 0 = 0 ↔ (tm t).toInt < 0 := by
  rcases x.at_ ht with ⟨p1, p2⟩ | ⟨n, p1, p2, p3, p4, -⟩
  · exact ⟨fun _ => by omega, fun _ => p1⟩
  · exact ⟨fun e => by omega, fun e => by omega⟩
theorem c_many {t : Nat} (L : LY0 h X) (x : CIt h X ts tm nu) (ht : t < 4) (h0 : 0 ≤ (tm t).toInt) (K : Q (some (iv (tm t))) h) : MX G mi_X7_many d 0 [some (rv (X + (1494 + t)))] [] h Q E := by
  refine v_X7_many ⟨ly0_TK L ht, ?_⟩
  rcases x.at_ ht with ⟨p1, p2⟩ | ⟨n, p1, p2, p3, p4, p5, p6, p7⟩
  · omega
  · rw [p5, p6, ← p2]
    rcases p7 with ⟨s0, q1, q2⟩ | ⟨s0, q1, q2⟩ | ⟨s0, q1, q2⟩ | ⟨s0, q1, q2⟩
    · exact ⟨fun c => absurd s0 c, fun _ => ⟨Or.inr q1, q1, K⟩⟩
    · exact ⟨fun _ => ⟨fun c => absurd s0 c, fun _ => ⟨Or.inr q1, q1, K⟩⟩, fun c => absurd (s0.symm.trans c) (by decide)⟩
    · exact ⟨fun _ => ⟨fun _ => ⟨fun c => absurd s0 c, fun _ => ⟨Or.inr q1, q1, K⟩⟩, fun c => absurd (s0.symm.trans c) (by decide)⟩, fun c => absurd (s0.symm.trans c) (by decide)⟩
    · exact ⟨fun _ => ⟨fun _ => ⟨fun _ => ⟨Or.inr q1, q1, K⟩, fun c => absurd (s0.symm.trans c) (by decide)⟩, fun c => absurd (s0.symm.trans c) (by decide)⟩, fun c => absurd (s0.symm.trans c) (by decide)⟩
/-- a number that is there -/
theorem c_get1 {t k : Nat} (L : LY0 h X) (x : CIt h X ts tm nu) (ht : t < 4) (hk : (k : Int) < (tm t).toInt) (h40 : k < 40) (rm : 3 ≤ ah_rc h ∧ 222 ≤ ah_rs h) (K : Q (some (jv (nu (40 * t + k)))) h) : MX G mi_X7_get (d + 40) 0 [some (rv (X + (1494 + t))), some (iv (nI k))] [] h Q E := by
  have e := nI_x (n := k) (by omega)
  refine c_get L x ht rm (fun c => by omega) (fun _ c => absurd (by omega) c) (fun _ _ => ?_)
  rw [nI_clamp (by omega)]
  exact K
theorem c_areFrom {t m : Nat} {lo hi : Int64} (L : LY0 h X) (x : CIt h X ts tm nu) (ht : t < 4) (h0 : 0 ≤ (tm t).toInt) (hm : (m : Int) ≤ (tm t).toInt) (hb : m ≤ 40) (rm : 3 ≤ ah_rc h ∧ 222 ≤ ah_rs h) (K1 : (∀ k, k < m → ¬ nu (40 * t + k) < lo ∧ ¬ hi < nu (40 * t + k)) → Q (some (iv 1)) h) (K0 : ¬ (∀ k, k < m → ¬ nu (40 * t + k) < lo ∧ ¬ hi < nu (40 * t + k)) → Q (some (iv 0)) h) : MX G mi_X0_areFrom (d + 41) 0 [some (rv X), some (iv (nI t)), some (iv (nI m)), some (jv lo), none, some (jv hi), none, none] [] h Q E := by
  refine v_X0_areFrom (d := d + 40) L ?_
  refine mx_up (α := Unit) (fun k _ => [some (rv X), some (iv (nI t)), some (iv (nI m)), some (jv lo), none, some (jv hi), none, some (iv (nI k))]) m (fun k _ g => g = h ∧ ∀ j, j < k → ¬ nu (40 * t + j) < lo ∧ ¬ hi < nu (40 * t + j)) (fun k _ g hk hI KK => ?_) (fun _ g hI => ?_) 0 () h (Nat.zero_le _) ⟨rfl, fun j hj => absurd hj (Nat.not_lt_zero _)⟩
  · obtain ⟨e, hI⟩ := hI
    subst e
    refine v_X0_areFrom_3 (d := d + 40) L ⟨fun c => absurd c (nI_ge hk (by omega)), fun _ => ?_⟩
    refine ⟨vp_in_nI ht (by decide), ?_⟩
    rw [nI_clamp (n := t) (by omega)]
    refine c_get1 L x ht (by omega) (by omega) rm ?_
    intro _
    refine ⟨fun c => K0 (fun q => (q k hk).1 c), fun c1 => ⟨fun c => K0 (fun q => (q k hk).2 c), fun c2 => ?_⟩⟩
    rw [nI_1]
    exact KK () g ⟨rfl, fun j hj => by
      rcases Nat.lt_or_ge j k with q | q
      · exact hI j q
      · rw [show j = k by omega]; exact ⟨c1, c2⟩⟩
  · obtain ⟨e, hI⟩ := hI
    subst e
    exact v_X0_areFrom_3 (d := d + 40) L ⟨fun _ => K1 hI, fun c => absurd (nI_le (Nat.le_refl m) (by omega)) c⟩
end
/-! the most that can be saved: by weeks left, by the set of bins turned ahead -/
def wmk (sp ho nx : Nat → Int32) (t : Nat) (s : Nat) : Nat → Int32
  | 0 => nx s
  | k + 1 => if s / 2 ^ k % 2 = 0 ∧ (t : Int) < (sp k).toInt then iMax (wmk sp ho nx t s k) (ho k + nx (s + 2 ^ k)) else wmk sp ho nx t s k
def wmt (sp ho : Nat → Int32) (n : Nat) : Nat → Nat → Int32
  | 0 => fun _ => 0
  | r + 1 => fun s => wmk sp ho (wmt sp ho n r) (19 - r) s n

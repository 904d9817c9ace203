/-! ===== marks: how the model works them ===== -/
abbrev SK := List (Int64 × Bool)
def enc (w v : Nat) : Int32 := nI (1048576 * w + v)
/-- two values and a sign -/
def mop (w : Nat) (a b : Int64 × Bool) : Int64 × Bool :=
  if (a.2 || b.2) = true ∨ ((w = 6 ∨ w = 7) ∧ b.1 = 0) then (0, true)
  else (if w = 3 then a.1 + b.1 else if w = 4 then a.1 - b.1 else if w = 5 then a.1 * b.1 else if w = 6 then a.1 / b.1 else if w = 7 then a.1 - a.1 / b.1 * b.1 else if w = 8 then jMin a.1 b.1 else jMax a.1 b.1, false)
def mcm (w : Nat) (x y : Int64) : Bool := if w = 10 then decide (x < y) else if w = 11 then decide (y < x) else decide (x = y)
/-- a step from k, st to k', st' -/
def mst (m : Nat → Int32) (vs dv : Nat → Int64) (dl : Nat → Bool) (k : Nat) (st : SK) (k' : Nat) (st' : SK) : Prop :=
  ∃ w v, v < 1048576 ∧ m k = enc w v ∧ k < k' ∧
    ((w = 0 ∧ k' = k + 1 ∧ st' = (lN v, false) :: st) ∨
     (w = 1 ∧ v < 11 ∧ k' = k + 1 ∧ st' = (vs v, false) :: st) ∨
     (w = 2 ∧ v < 10 ∧ k' = k + 1 ∧ st' = (dv v, dl v) :: st) ∨
     (3 ≤ w ∧ w ≤ 9 ∧ k' = k + 1 ∧ ∃ a b r, st = b :: a :: r ∧ st' = mop w a b :: r) ∨
     (10 ≤ w ∧ w ≤ 12 ∧ k' = k + 1 ∧ ∃ a b r, st = b :: a :: r ∧ st' = (if (a.2 || b.2) = false ∧ (mcm w a.1 b.1 != decide (v = 1)) = true then 1 else 0, false) :: r) ∨
     (13 ≤ w ∧ w ≤ 14 ∧ k' = k + 1 ∧ ∃ a b r, st = b :: a :: r ∧ st' = (if w = 13 then a.1 &&& b.1 else a.1 ||| b.1, false) :: r) ∨
     (w = 15 ∧ ∃ a r, st = a :: r ∧ st' = r ∧ k' = if a.1 = 1 then k + 1 else v) ∨
     (w = 16 ∧ k' = v ∧ st' = st))
def rns (m : Nat → Int32) (vs dv : Nat → Int64) (dl : Nat → Bool) : Nat → Nat → SK → Nat → SK → Prop
  | 0, k, st, k', st' => k = k' ∧ st = st'
  | N + 1, k, st, k', st' => ∃ k1 st1, mst m vs dv dl k st k1 st1 ∧ rns m vs dv dl N k1 st1 k' st'
section
variable {m m' : Nat → Int32} {vs dv : Nat → Int64} {dl : Nat → Bool}
theorem rns_tr : ∀ {N N' k : Nat} {st : SK} {k1 : Nat} {st1 : SK} {k2 : Nat} {st2 : SK}, rns m vs dv dl N k st k1 st1 → rns m vs dv dl N' k1 st1 k2 st2 → rns m vs dv dl (N + N') k st k2 st2
  | 0, N', k, st, k1, st1, k2, st2, h, h' => by
    obtain ⟨e1, e2⟩ := h
    subst e1; subst e2
    rw [Nat.zero_add]; exact h'
  | N + 1, N', k, st, k1, st1, k2, st2, h, h' => by
    obtain ⟨k3, st3, a, b⟩ := h
    rw [show N + 1 + N' = (N + N') + 1 by omega]
    exact ⟨k3, st3, a, rns_tr b h'⟩
theorem rns_1 {k : Nat} {st : SK} {k1 : Nat} {st1 : SK} (h : mst m vs dv dl k st k1 st1) : rns m vs dv dl 1 k st k1 st1 := ⟨k1, st1, h, rfl, rfl⟩
theorem rns_le : ∀ {N k : Nat} {st : SK} {k1 : Nat} {st1 : SK}, rns m vs dv dl N k st k1 st1 → k ≤ k1
  | 0, k, st, k1, st1, h => Nat.le_of_eq h.1
  | N + 1, k, st, k1, st1, h => by
    obtain ⟨k3, st3, ⟨w, v, -, -, a, -⟩, b⟩ := h
    have := rns_le b
    omega
theorem rns_ag : ∀ {N k : Nat} {st : SK} {k1 : Nat} {st1 : SK}, (∀ j, k ≤ j → j < k1 → m j = m' j) → rns m vs dv dl N k st k1 st1 → rns m' vs dv dl N k st k1 st1
  | 0, k, st, k1, st1, _, h => h
  | N + 1, k, st, k1, st1, e, h => by
    obtain ⟨k3, st3, ⟨w, v, a1, a2, a3, a4⟩, b⟩ := h
    have := rns_le b
    exact ⟨k3, st3, ⟨w, v, a1, by rw [← e k (Nat.le_refl _) (by omega)]; exact a2, a3, a4⟩, rns_ag (fun j h1 h2 => e j (by omega) h2) b⟩
end
/-- what a def told, or nothing -/
def dso (dv : Nat → Int64) (dl : Nat → Bool) : Nat → Option Int64 := fun i => if dl i = true then none else some (dv i)
/-- a value on the stack tells what D does -/
def tel (x : Int64 × Bool) (o : Option Int64) : Prop := match o with
  | some v => x = (v, false)
  | none => x.2 = true
/-- the marks from b to e tell D -/
def RD (m : Nat → Int32) (b e : Nat) (D : PD) : Prop := ∀ vs dv dl st, ∃ N x, rns m vs dv dl N b st e (x :: st) ∧ tel x (D vs (dso dv dl))
def RB (m : Nat → Int32) (b e : Nat) (B : PB) : Prop := ∀ vs dv dl st, ∃ N, rns m vs dv dl N b st e ((if B vs (dso dv dl) = true then 1 else 0, false) :: st)
section
variable {m m' : Nat → Int32} {b c e : Nat} {D D1 D2 : PD} {B B1 B2 : PB}
theorem RD.ag (x : RD m b e D) (h : ∀ j, b ≤ j → j < e → m j = m' j) : RD m' b e D := fun vs dv dl st => by
  obtain ⟨N, y, r, t⟩ := x vs dv dl st
  exact ⟨N, y, rns_ag h r, t⟩
theorem RB.ag (x : RB m b e B) (h : ∀ j, b ≤ j → j < e → m j = m' j) : RB m' b e B := fun vs dv dl st => by
  obtain ⟨N, r⟩ := x vs dv dl st
  exact ⟨N, rns_ag h r⟩
theorem RD.le (x : RD m b e D) : b ≤ e := by
  obtain ⟨N, y, r, -⟩ := x (fun _ => 0) (fun _ => 0) (fun _ => false) []
  exact rns_le r
theorem RB.le (x : RB m b e B) : b ≤ e := by
  obtain ⟨N, r⟩ := x (fun _ => 0) (fun _ => 0) (fun _ => false) []
  exact rns_le r
theorem RD.num {v : Nat} (hv : v < 1048576) (h : m b = enc 0 v) : RD m b (b + 1) (fun _ _ => some (lN v)) := fun vs dv dl st => ⟨1, (lN v, false), rns_1 ⟨0, v, hv, h, by omega, Or.inl ⟨rfl, rfl, rfl⟩⟩, rfl⟩
theorem RD.var {v : Nat} (hv : v < 11) (h : m b = enc 1 v) : RD m b (b + 1) (fun vs _ => some (vs v)) := fun vs dv dl st => ⟨1, (vs v, false), rns_1 ⟨1, v, by omega, h, by omega, Or.inr (Or.inl ⟨rfl, hv, rfl, rfl⟩)⟩, rfl⟩
theorem RD.def_ {v : Nat} (hv : v < 10) (h : m b = enc 2 v) : RD m b (b + 1) (fun _ ds => ds v) := fun vs dv dl st => by
  refine ⟨1, (dv v, dl v), rns_1 ⟨2, v, by omega, h, by omega, Or.inr (Or.inr (Or.inl ⟨rfl, hv, rfl, rfl⟩))⟩, ?_⟩
  show tel _ (if dl v = true then none else some (dv v))
  by_cases q : dl v = true
  · rw [if_pos q]; exact q
  · rw [if_neg q]
    have : dl v = false := by simpa using q
    rw [this]; rfl
/-- the signs' marks -/
def opw (c : Nat) : Nat := if c = 43 then 3 else if c = 45 then 4 else if c = 42 then 5 else if c = 47 then 6 else 7
theorem RD.bin {o : Nat} (ho : o = 43 ∨ o = 45 ∨ o = 42 ∨ o = 47 ∨ o = 37) (x : RD m b c D1) (y : RD m c e D2) (h : m e = enc (opw o) 0) : RD m b (e + 1) (fun v d => dop o (D1 v d) (D2 v d)) := fun vs dv dl st => by
  obtain ⟨N1, a1, r1, t1⟩ := x vs dv dl st
  obtain ⟨N2, a2, r2, t2⟩ := y vs dv dl (a1 :: st)
  have hw : 3 ≤ opw o ∧ opw o ≤ 9 := by
    unfold opw
    repeat' split
    all_goals omega
  refine ⟨N1 + (N2 + 1), mop (opw o) a1 a2, rns_tr r1 (rns_tr r2 (rns_1 ⟨opw o, 0, by omega, h, by omega, Or.inr (Or.inr (Or.inr (Or.inl ⟨hw.1, hw.2, rfl, a1, a2, st, rfl, rfl⟩)))⟩)), ?_⟩
  show tel _ (dop o (D1 vs (dso dv dl)) (D2 vs (dso dv dl)))
  revert t1 t2
  generalize D1 vs (dso dv dl) = p1
  generalize D2 vs (dso dv dl) = p2
  intro t1 t2
  cases p1 with
  | none =>
    have t1 : a1.2 = true := t1
    have : mop (opw o) a1 a2 = (0, true) := by unfold mop; rw [if_pos (Or.inl (by rw [t1]; rfl))]
    rw [this]
    show tel (0, true) none
    exact rfl
  | some v1 =>
    cases p2 with
    | none =>
      have t2 : a2.2 = true := t2
      have : mop (opw o) a1 a2 = (0, true) := by unfold mop; rw [if_pos (Or.inl (by rw [t2, Bool.or_true]))]
      rw [this]
      show tel (0, true) none
      exact rfl
    | some v2 =>
      have t1 : a1 = (v1, false) := t1
      have t2 : a2 = (v2, false) := t2
      subst t1; subst t2
      have n1 : ¬ ((false || false) = true) := by decide
      rcases ho with q | q | q | q | q
      · subst q
        show tel (mop 3 _ _) (some (v1 + v2))
        unfold mop; rw [if_neg (by rintro (z | ⟨z, -⟩); exact n1 z; omega)]; rfl
      · subst q
        show tel (mop 4 _ _) (some (v1 - v2))
        unfold mop; rw [if_neg (by rintro (z | ⟨z, -⟩); exact n1 z; omega)]; rfl
      · subst q
        show tel (mop 5 _ _) (some (v1 * v2))
        unfold mop; rw [if_neg (by rintro (z | ⟨z, -⟩); exact n1 z; omega)]; rfl
      · subst q
        show tel (mop 6 _ _) (if v2 = 0 then none else some (v1 / v2))
        unfold mop
        by_cases z : v2 = 0
        · rw [if_pos z, if_pos (Or.inr ⟨Or.inl rfl, z⟩)]; exact rfl
        · rw [if_neg z, if_neg (by rintro (w | ⟨-, w⟩); exact n1 w; exact z w)]; rfl
      · subst q
        show tel (mop 7 _ _) (if v2 = 0 then none else some (v1 - v1 / v2 * v2))
        unfold mop
        by_cases z : v2 = 0
        · rw [if_pos z, if_pos (Or.inr ⟨Or.inr rfl, z⟩)]; exact rfl
        · rw [if_neg z, if_neg (by rintro (w | ⟨-, w⟩); exact n1 w; exact z w)]; rfl
theorem RD.pick {k : Bool} (x : RD m b c D1) (y : RD m c e D2) (h : m e = enc (if k = true then 9 else 8) 0) : RD m b (e + 1) (fun v d => dpk k (D1 v d) (D2 v d)) := fun vs dv dl st => by
  obtain ⟨N1, a1, r1, t1⟩ := x vs dv dl st
  obtain ⟨N2, a2, r2, t2⟩ := y vs dv dl (a1 :: st)
  have hw : 3 ≤ (if k = true then 9 else 8) ∧ (if k = true then 9 else 8) ≤ 9 := by split <;> omega
  refine ⟨N1 + (N2 + 1), mop (if k = true then 9 else 8) a1 a2, rns_tr r1 (rns_tr r2 (rns_1 ⟨_, 0, by omega, h, by omega, Or.inr (Or.inr (Or.inr (Or.inl ⟨hw.1, hw.2, rfl, a1, a2, st, rfl, rfl⟩)))⟩)), ?_⟩
  show tel _ (dpk k (D1 vs (dso dv dl)) (D2 vs (dso dv dl)))
  revert t1 t2
  generalize D1 vs (dso dv dl) = p1
  generalize D2 vs (dso dv dl) = p2
  intro t1 t2
  cases p1 with
  | none =>
    have t1 : a1.2 = true := t1
    have : mop (if k = true then 9 else 8) a1 a2 = (0, true) := by unfold mop; rw [if_pos (Or.inl (by rw [t1]; rfl))]
    rw [this]
    exact rfl
  | some v1 =>
    cases p2 with
    | none =>
      have t2 : a2.2 = true := t2
      have : mop (if k = true then 9 else 8) a1 a2 = (0, true) := by unfold mop; rw [if_pos (Or.inl (by rw [t2, Bool.or_true]))]
      rw [this]
      exact rfl
    | some v2 =>
      have t1 : a1 = (v1, false) := t1
      have t2 : a2 = (v2, false) := t2
      subst t1; subst t2
      have n1 : ¬ ((false || false) = true) := by decide
      cases k with
      | true =>
        show tel (mop 9 _ _) (some (jMax v1 v2))
        unfold mop; rw [if_neg (by rintro (z | ⟨z, -⟩); exact n1 z; omega)]; rfl
      | false =>
        show tel (mop 8 _ _) (some (jMin v1 v2))
        unfold mop; rw [if_neg (by rintro (z | ⟨z, -⟩); exact n1 z; omega)]; rfl
/-- what compares -/
def cmw (c : Nat) : Nat := if c = 60 then 10 else if c = 62 then 11 else 12
theorem cmw_m {c : Nat} (hc : c = 60 ∨ c = 62 ∨ c = 61) (x y : Int64) : mcm (cmw c) x y = dcm c x y := by
  rcases hc with q | q | q <;> subst q <;> rfl
theorem RB.cmp {o : Nat} {k : Bool} (ho : o = 60 ∨ o = 62 ∨ o = 61) (x : RD m b c D1) (y : RD m c e D2) (h : m e = enc (cmw o) (if k = true then 1 else 0)) : RB m b (e + 1) (fun v d => dho k o (D1 v d) (D2 v d)) := fun vs dv dl st => by
  obtain ⟨N1, a1, r1, t1⟩ := x vs dv dl st
  obtain ⟨N2, a2, r2, t2⟩ := y vs dv dl (a1 :: st)
  have hw : 10 ≤ cmw o ∧ cmw o ≤ 12 := by
    unfold cmw
    repeat' split
    all_goals omega
  refine ⟨N1 + (N2 + 1), rns_tr r1 (rns_tr r2 (rns_1 ⟨cmw o, _, ?_, h, by omega, Or.inr (Or.inr (Or.inr (Or.inr (Or.inl ⟨hw.1, hw.2, rfl, a1, a2, st, rfl, ?_⟩))))⟩))⟩
  · split <;> omega
  · have dk : decide ((if k = true then 1 else 0) = 1) = k := by cases k <;> rfl
    rw [dk, cmw_m ho]
    congr 1
    congr 1
    show (if dho k o (D1 vs (dso dv dl)) (D2 vs (dso dv dl)) = true then (1 : Int64) else 0) = _
    revert t1 t2
    generalize D1 vs (dso dv dl) = p1
    generalize D2 vs (dso dv dl) = p2
    intro t1 t2
    cases p1 with
    | none =>
      have t1 : a1.2 = true := t1
      rw [if_neg (by show ¬ (false = true); decide), if_neg (by rintro ⟨z, -⟩; rw [t1] at z; simp at z)]
    | some v1 =>
      cases p2 with
      | none =>
        have t2 : a2.2 = true := t2
        rw [if_neg (by show ¬ (false = true); decide), if_neg (by rintro ⟨z, -⟩; rw [t2] at z; simp at z)]
      | some v2 =>
        have t1 : a1 = (v1, false) := t1
        have t2 : a2 = (v2, false) := t2
        subst t1; subst t2
        show (if (k != dcm o v1 v2) = true then (1 : Int64) else 0) = if (false || false) = false ∧ (dcm o v1 v2 != k) = true then 1 else 0
        cases k <;> cases dcm o v1 v2 <;> decide
theorem RB.jn {w : Nat} (hw : w = 13 ∨ w = 14) (x : RB m b c B1) (y : RB m c e B2) (h : m e = enc w 0) : RB m b (e + 1) (fun v d => if w = 13 then B1 v d && B2 v d else B1 v d || B2 v d) := fun vs dv dl st => by
  obtain ⟨N1, r1⟩ := x vs dv dl st
  obtain ⟨N2, r2⟩ := y vs dv dl _
  refine ⟨N1 + (N2 + 1), rns_tr r1 (rns_tr r2 (rns_1 ⟨w, 0, by omega, h, by omega, Or.inr (Or.inr (Or.inr (Or.inr (Or.inr (Or.inl ⟨by omega, by omega, rfl, _, _, st, rfl, ?_⟩)))))⟩))⟩
  congr 1
  congr 1
  show (if (if w = 13 then B1 vs (dso dv dl) && B2 vs (dso dv dl) else B1 vs (dso dv dl) || B2 vs (dso dv dl)) = true then (1 : Int64) else 0) = _
  generalize B1 vs (dso dv dl) = p1
  generalize B2 vs (dso dv dl) = p2
  rcases hw with q | q <;> subst q <;> cases p1 <;> cases p2 <;> decide
/-- if: the test, UNLESS to the else's marks, the then's, GO behind all -/
theorem RD.cond {f : Nat} (x : RB m b c B) (h1 : m c = enc 15 (e + 1)) (y : RD m (c + 1) e D1) (h2 : m e = enc 16 f) (z : RD m (e + 1) f D2) (hf : f < 1048576) : RD m b f (fun v d => if B v d = true then D1 v d else D2 v d) := fun vs dv dl st => by
  obtain ⟨N1, r1⟩ := x vs dv dl st
  have le1 := y.le
  have le2 := z.le
  show ∃ N x, _ ∧ tel x (if B vs (dso dv dl) = true then D1 vs (dso dv dl) else D2 vs (dso dv dl))
  by_cases q : B vs (dso dv dl) = true
  · obtain ⟨N2, a2, r2, t2⟩ := y vs dv dl st
    rw [if_pos q] at r1 ⊢
    refine ⟨N1 + (1 + (N2 + 1)), a2, rns_tr r1 (rns_tr (rns_1 (k1 := c + 1) (st1 := st) ⟨15, e + 1, by omega, h1, by omega, Or.inr (Or.inr (Or.inr (Or.inr (Or.inr (Or.inr (Or.inl ⟨rfl, _, st, rfl, rfl, ?_⟩))))))⟩) (rns_tr r2 (rns_1 ⟨16, f, hf, h2, by omega, Or.inr (Or.inr (Or.inr (Or.inr (Or.inr (Or.inr (Or.inr ⟨rfl, rfl, rfl⟩))))))⟩))), t2⟩
    rw [if_pos rfl]
  · obtain ⟨N2, a2, r2, t2⟩ := z vs dv dl st
    rw [if_neg q] at r1 ⊢
    refine ⟨N1 + (1 + N2), a2, rns_tr r1 (rns_tr (rns_1 (k1 := e + 1) (st1 := st) ⟨15, e + 1, by omega, h1, by omega, Or.inr (Or.inr (Or.inr (Or.inr (Or.inr (Or.inr (Or.inl ⟨rfl, _, st, rfl, rfl, ?_⟩))))))⟩) r2), t2⟩
    rw [if_neg (by decide)]
end

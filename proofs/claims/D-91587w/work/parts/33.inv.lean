/-! ===== all that is kept, but the texts ===== -/
def nF (S : MS) : Nat := (S.1 0 5).toNatClampNeg
def nE (S : MS) : Nat := (S.1 0 6).toNatClampNeg
def nV (S : MS) : Nat := (S.1 0 7).toNatClampNeg
def nG (S : MS) : Nat := (S.1 0 8).toNatClampNeg
def nT (S : MS) : Nat := (S.1 0 56).toNatClampNeg
def nO (S : MS) : Nat := (S.1 0 88).toNatClampNeg
def nP (S : MS) : Nat := (S.1 0 44).toNatClampNeg
def inR (x : Int32) (a b : Int) : Prop := a ≤ x.toInt ∧ x.toInt ≤ b
def WFf (nf : Nat) (di ac de sf st vo le : Nat → Int32) : Prop := ∀ f, f < nf → inR (di f) 0 5 ∧ inR (ac f) 1 5000 ∧ inR (de f) 0 100000 ∧ (sf f = -1 ∨ (inR (sf f) 0 9 ∧ inR (st f) 0 9)) ∧ inR (vo f) (-1) 1 ∧ ∀ y, y < 10 → (le (10 * f + y) = 0 ∨ le (10 * f + y) = 1)
def WFe (ne : Nat) (di ro : Nat → Int32) : Prop := ∀ e, e < ne → inR (di e) 0 5 ∧ inR (ro e) 1 1000000
/-- an event: a load (0), a car (1), a sale (2), a spoil (3) -/
def WFw (nf ne : Nat) (so fo at_ to gt ye bu ex we kn : Int32) : Prop :=
  inR we 0 519 ∧ inR kn we.toInt 519 ∧
  ((so = 0 ∧ inR fo 0 ((nf : Int) - 1) ∧ inR at_ 0 ((ne : Int) - 1) ∧ inR bu 1 10000 ∧ inR ex 0 1000 ∧ ye = we / 52) ∨
   (so = 1 ∧ inR at_ 0 ((ne : Int) - 1) ∧ inR to 0 1 ∧ inR gt 0 5 ∧ inR ye 0 9 ∧ inR bu 1 100000) ∨
   (so = 2 ∧ inR at_ 0 1 ∧ inR gt 0 5 ∧ inR ye 0 9 ∧ inR bu 1 100000 ∧ inR ex 0 1000) ∨
   (so = 3 ∧ inR at_ 0 ((ne : Int) - 1) ∧ inR gt 0 5 ∧ inR ye 0 9 ∧ inR bu 1 100000))
def WFv (nf ne nv : Nat) (so fo at_ to gt ye bu ex we kn : Nat → Int32) : Prop := ∀ k, k < nv → WFw nf ne (so k) (fo k) (at_ k) (to k) (gt k) (ye k) (bu k) (ex k) (we k) (kn k)
def WFg (nv ng : Nat) (so gl gb ga gk : Nat → Int32) : Prop := ng ≤ 100 ∧ ∀ g, g < ng → inR (gl g) 0 ((nv : Int) - 1) ∧ so (gl g).toNatClampNeg = 0 ∧ inR (gb g) 0 5 ∧ inR (ga g) 0 5 ∧ inR (gk g) 0 519
def WFo (nf no : Nat) (f w b p : Nat → Int32) : Prop := no ≤ 60 ∧ ∀ o, o < no → inR (f o) 0 ((nf : Int) - 1) ∧ inR (w o) 0 519 ∧ inR (b o) 1 10000 ∧ inR (p o) 0 1000
def WFp (pr : Nat → Int32) (sp la : Int32) : Prop := (∀ w, w < 520 → inR (pr w) 0 1000) ∧ inR sp 0 100 ∧ inR la 0 20
/-- scalars that count -/
def WFz (S : MS) : Prop := S.1 0 5 = nI (nF S) ∧ S.1 0 6 = nI (nE S) ∧ S.1 0 7 = nI (nV S) ∧ S.1 0 8 = nI (nG S) ∧ S.1 0 56 = nI (nT S) ∧ S.1 0 88 = nI (nO S) ∧ S.1 0 44 = nI (nP S) ∧ nP S ≤ 500 ∧ nT S ≤ 4 ∧ inR (S.1 0 9) 0 519 ∧ (S.1 0 107 = 0 ∨ S.1 0 107 = 1) ∧ S.1 0 10 = (if nV S = 0 then 0 else S.1 17 (nV S - 1)) ∧ ∀ f, nF S ≤ f → f < 20 → S.1 53 f = -1 ∧ S.1 54 f = -1 ∧ S.1 55 f = -1 ∧ ∀ y, y < 10 → S.1 61 (10 * f + y) = 0
def WF (S : MS) : Prop := WFz S ∧ WFf (nF S) (S.1 4) (S.1 5) (S.1 6) (S.1 53) (S.1 54) (S.1 55) (S.1 61) ∧ WFe (nE S) (S.1 7) (S.1 8) ∧ WFv (nF S) (nE S) (nV S) (S.1 9) (S.1 10) (S.1 11) (S.1 12) (S.1 13) (S.1 14) (S.1 15) (S.1 16) (S.1 17) (S.1 18) ∧
  WFg (nV S) (nG S) (S.1 9) (S.1 19) (S.1 20) (S.1 21) (S.1 22) ∧ WFo (nF S) (nO S) (S.1 56) (S.1 57) (S.1 58) (S.1 59) ∧ WFp (S.1 60) (S.1 0 89) (S.1 0 90)
def CI0 (h : ah_T) (X : Nat) (S : MS) : Prop := CIs h X S ∧ CIf h X (nF S) (S.1 4) (S.1 5) (S.1 6) (S.1 53) (S.1 54) (S.1 55) (S.1 61) ∧ CIe h X (nE S) (S.1 7) ∧
  CIv h X (nV S) (S.1 9) (S.1 10) (S.1 11) (S.1 12) (S.1 13) (S.1 14) (S.1 15) (S.1 16) (S.1 17) (S.1 18) ∧ CIt h X (S.1 1) (S.1 2) (S.2 3) ∧ WF S
section
variable {h h' : ah_T} {X : Nat} {S S' : MS}
theorem CI0.kp (x : CI0 h X S) (z : kept S S') : CI0 h X S' := by
  have a := fun a ha => (z.1 a ha).1
  have a2 := fun a ha => (z.1 a ha).2
  have b := z.2
  obtain ⟨x1, x2, x3, x4, x5, x6, x7, x8, x9, x10, x11, x12⟩ := x
  have n1 : nF S' = nF S := by unfold nF; rw [b 5 (by decide)]
  have n2 : nE S' = nE S := by unfold nE; rw [b 6 (by decide)]
  have n3 : nV S' = nV S := by unfold nV; rw [b 7 (by decide)]
  have n4 : nG S' = nG S := by unfold nG; rw [b 8 (by decide)]
  have n5 : nT S' = nT S := by unfold nT; rw [b 56 (by decide)]
  have n6 : nO S' = nO S := by unfold nO; rw [b 88 (by decide)]
  have n7 : nP S' = nP S := by unfold nP; rw [b 44 (by decide)]
  refine ⟨x1.kp z, ?_, ?_, ?_, ?_, ?_, ?_, ?_, ?_, ?_, ?_, ?_⟩
  · rw [n1, ← a 4 (by decide), ← a 5 (by decide), ← a 6 (by decide), ← a 53 (by decide), ← a 54 (by decide), ← a 55 (by decide), ← a 61 (by decide)]; exact x2
  · rw [n2, ← a 7 (by decide)]; exact x3
  · rw [n3, ← a 9 (by decide), ← a 10 (by decide), ← a 11 (by decide), ← a 12 (by decide), ← a 13 (by decide), ← a 14 (by decide), ← a 15 (by decide), ← a 16 (by decide), ← a 17 (by decide), ← a 18 (by decide)]; exact x4
  · rw [← a 1 (by decide), ← a 2 (by decide), ← a2 3 (by decide)]; exact x5
  · unfold WFz
    rw [n1, n2, n3, n4, n5, n6, n7, ← b 5 (by decide), ← b 6 (by decide), ← b 7 (by decide), ← b 8 (by decide), ← b 56 (by decide), ← b 88 (by decide), ← b 44 (by decide), ← b 9 (by decide), ← b 107 (by decide), ← b 10 (by decide), ← a 17 (by decide), ← a 53 (by decide), ← a 54 (by decide), ← a 55 (by decide), ← a 61 (by decide)]; exact x6
  · rw [n1, ← a 4 (by decide), ← a 5 (by decide), ← a 6 (by decide), ← a 53 (by decide), ← a 54 (by decide), ← a 55 (by decide), ← a 61 (by decide)]; exact x7
  · rw [n2, ← a 7 (by decide), ← a 8 (by decide)]; exact x8
  · rw [n1, n2, n3, ← a 9 (by decide), ← a 10 (by decide), ← a 11 (by decide), ← a 12 (by decide), ← a 13 (by decide), ← a 14 (by decide), ← a 15 (by decide), ← a 16 (by decide), ← a 17 (by decide), ← a 18 (by decide)]; exact x9
  · rw [n3, n4, ← a 9 (by decide), ← a 19 (by decide), ← a 20 (by decide), ← a 21 (by decide), ← a 22 (by decide)]; exact x10
  · rw [n1, n6, ← a 56 (by decide), ← a 57 (by decide), ← a 58 (by decide), ← a 59 (by decide)]; exact x11
  · rw [← a 60 (by decide), ← b 89 (by decide), ← b 90 (by decide)]; exact x12
/-- the class's fixed ints changed only as the state says; its objects as they were -/
theorem CI0.dy (L : LY0 h X) (x : CI0 h X S) (z : dyn pT (X + 5, 0) X h h') (q : CIs h' X S) : CI0 h' X S := ⟨q, x.2.1.dy L z (fun _ => ⟨trivial, trivial⟩) ⟨by show X + 5 < _; omega, by show X + 5 ≠ _; omega⟩, x.2.2.1.dy L z (fun _ => trivial) ⟨by show X + 5 < _; omega, by show X + 5 ≠ _; omega⟩, x.2.2.2.1.dy L z (fun _ _ _ _ _ => trivial) ⟨by show X + 5 < _; omega, by show X + 5 ≠ _; omega⟩ (fun q => absurd q (by show X + 5 ≠ _; omega)), x.2.2.2.2.1.dy L z (fun _ _ _ => trivial) (by show X + 5 < _; omega), x.2.2.2.2.2⟩
/-- a model's run -/
theorem CI0.mc {A Z : List Nat} (L : LY0 h X) (x : CI0 h X S) (m : mch A Z (X + 1498) h h') (hA : ∀ a, a ∈ A → a < 78) : CI0 h' X S :=
  x.dy L (m.dyn hA) (x.1.sm (fun c k hc => (m.out hA (X + c) (by omega) k).1))
/-- a status -/
theorem CI0.st (L : LY0 h X) (x : CI0 h X S) {c : Int32} : CI0 (ah_wI h X 20 c) X (uI S 0 0 c) := by
  have q := x.1.pX (v := c) 20 0 (by decide)
  have d : dyn pT (X + 5, 0) X h (ah_wI h X 20 c) := dyn.rf.zI
  have z : CIf (ah_wI h X 20 c) X (nF S) (S.1 4) (S.1 5) (S.1 6) (S.1 53) (S.1 54) (S.1 55) (S.1 61) := x.2.1.dy L d (fun _ => ⟨trivial, trivial⟩) ⟨by show X + 5 < _; omega, by show X + 5 ≠ _; omega⟩
  have z3 : CIe (ah_wI h X 20 c) X (nE S) (S.1 7) := x.2.2.1.dy L d (fun _ => trivial) ⟨by show X + 5 < _; omega, by show X + 5 ≠ _; omega⟩
  have z4 : CIv (ah_wI h X 20 c) X (nV S) (S.1 9) (S.1 10) (S.1 11) (S.1 12) (S.1 13) (S.1 14) (S.1 15) (S.1 16) (S.1 17) (S.1 18) := x.2.2.2.1.dy L d (fun _ _ _ _ _ => trivial) ⟨by show X + 5 < _; omega, by show X + 5 ≠ _; omega⟩ (fun q => absurd q (by show X + 5 ≠ _; omega))
  have z5 : CIt (ah_wI h X 20 c) X (S.1 1) (S.1 2) (S.2 3) := x.2.2.2.2.1.dy L d (fun _ _ _ => trivial) (by show X + 5 < _; omega)
  exact ⟨q, z, z3, z4, z5, x.2.2.2.2.2⟩
end
/-! what a call of the class leaves -/
/-- what the texts rest on -/
def lfr (X : Nat) (h h' : ah_T) : Prop := (∀ a k, X + 1576 ≤ a → 16 ≤ ah_kd h a → ah_kd h a ≤ 21 → ah_R h' a k = ah_R h a k ∧ ah_I h' a k = ah_I h a k ∧ ah_J h' a k = ah_J h a k) ∧ (∀ k, ah_R h' (X + 1437) k = ah_R h (X + 1437) k) ∧ (∀ a k, X ≤ a → ah_kd h a = 50 → ah_R h' a k = ah_R h a k) ∧ (∀ u k, u < 4 → X + 1576 ≤ ah_R h (X + 1437) u → ah_kd h (ah_R h (X + 1437) u + 1) = 41 → ah_J h' (ah_R h (X + 1437) u + 1) k = ah_J h (ah_R h (X + 1437) u + 1) k) ∧ ∀ t, t < 4 → ah_R h' (X + (1494 + t)) 0 = ah_R h (X + (1494 + t)) 0 ∨ ah_sz h ≤ ah_R h' (X + (1494 + t)) 0
/-- by the class: S' as the state, the script and the model as they were, the room that went -/
def cpo (X : Nat) (h h' : ah_T) (S' : MS) : Prop := LY0 h' X ∧ CI0 h' X S' ∧ cfr X h h' ∧ ah_ext h h' ∧ ah_rc h ≤ ah_rc h' + 4000 ∧ ah_rs h ≤ ah_rs h' + 40000 ∧ lfr X h h'
/-- by the model: nothing but itself, the state -/
def mpo (M : Nat) (h h' : ah_T) (S' : MS) : Prop := (∃ A Z, (∀ a, a ∈ A → a < 78) ∧ mch A Z M h h') ∧ kept S' (mv h' M)

/-! ===== what is new: a farm, an elevator, an event ===== -/
section
variable {h h' : ah_T} {b j kd ln c : Nat}
theorem rn_I : ah_I (ah_new h kd ln c) b j = if b = ah_sz h then 0 else ah_I h b j := rfl
theorem rn_J : ah_J (ah_new h kd ln c) b j = if b = ah_sz h then 0 else ah_J h b j := rfl
theorem rn_R : ah_R (ah_new h kd ln c) b j = if b = ah_sz h then 0 else ah_R h b j := rfl
theorem rn_k : ah_kd (ah_new h kd ln c) b = if b = ah_sz h then kd else ah_kd h b := rfl
theorem rn_l : ah_ln (ah_new h kd ln c) b = if b = ah_sz h then ln else ah_ln h b := rfl
theorem rn_s : ah_sz (ah_new h kd ln c) = ah_sz h + 1 := rfl
theorem rw_sI {v : Int32} {a k : Nat} : ah_sz (ah_wI h a k v) = ah_sz h := rfl
theorem rw_sR {v a k : Nat} : ah_sz (ah_wR h a k v) = ah_sz h := rfl
theorem liv_0 (lv : ah_liv h) : ah_kd h (ah_sz h) = 0 := by
  rcases Nat.decEq (ah_kd h (ah_sz h)) 0 with q | q
  · exact absurd (lv _ q) (Nat.lt_irrefl _)
  · exact q
theorem liv_1 (lv : ah_liv h) {a : Nat} (ha : ah_sz h ≤ a) : ah_kd h a = 0 := by
  rcases Nat.decEq (ah_kd h a) 0 with q | q
  · exact absurd (lv _ q) (by omega)
  · exact q
end
section
variable {P : Nat → Nat → Prop} {e : Nat × Nat} {X : Nat} {h h' : ah_T} {S S' : MS}
/-- a write into what wasn't there -/
theorem dyn.fI (x : dyn P e X h h') {a k : Nat} {v : Int32} (h0 : ah_kd h a = 0) : dyn P e X h (ah_wI h' a k v) := ⟨x.1, x.2.1, fun b j h1 h2 hb hp => ⟨by rw [rd_Ia (fun q => hb (by rw [q]; exact h0))]; exact (x.2.2 b j h1 h2 hb hp).1, (x.2.2 b j h1 h2 hb hp).2⟩⟩
theorem dyn.fJ (x : dyn P e X h h') {a k : Nat} {v : Int64} (h0 : ah_kd h a = 0) : dyn P e X h (ah_wJ h' a k v) := ⟨x.1, x.2.1, fun b j h1 h2 hb hp => ⟨(x.2.2 b j h1 h2 hb hp).1, by rw [rd_Ja (fun q => hb (by rw [q]; exact h0))]; exact (x.2.2 b j h1 h2 hb hp).2⟩⟩
theorem dyn.fR (x : dyn P e X h h') {a k v : Nat} (h0 : ah_kd h a = 0) : dyn P e X h (ah_wR h' a k v) := ⟨x.1, fun b j h1 hb he => by rw [rd_RR, if_neg (fun (q : b = a ∧ j = k) => hb (by rw [q.1]; exact h0))]; exact x.2.1 b j h1 hb he, x.2.2⟩
theorem dyn.oR' (x : dyn P e X h h') {a k v : Nat} (q : e = (a, k)) : dyn P e X h (ah_wR h' a k v) := by subst q; exact x.oR
theorem CIs.nw (x : CIs h X S) {kd ln c : Nat} (hs : X + 1576 ≤ ah_sz h) : CIs (ah_new h kd ln c) X S := x.sm (fun c k hc => by rw [rn_I, if_neg (by omega)])
theorem CIf.add {nf : Nat} {di ac de sf st vo le : Nat → Int32} (L : LY0 h X) (x : CIf h X nf di ac de sf st vo le) (h20 : nf < 20) (z : dyn pT (X + 2, nf) X h h') {F : Nat} {v1 v2 v3 : Int32} (hF : X + 1576 ≤ F) (r : ah_R h' (X + 2) nf = F) (k1 : ah_kd h' F = 10) (k2 : ah_R h' F 7 = F + 1) (k3 : ah_kd h' (F + 1) = 44) (k4 : ah_ln h' (F + 1) = 10)
    (i0 : ah_I h' F 0 = nI nf) (i1 : ah_I h' F 1 = v1) (i2 : ah_I h' F 2 = v2) (i3 : ah_I h' F 3 = v3) (i4 : ah_I h' F 4 = -1) (i5 : ah_I h' F 5 = -1) (i6 : ah_I h' F 6 = -1) (il : ∀ y, ah_I h' (F + 1) y = 0) (u : sf nf = -1 ∧ st nf = -1 ∧ vo nf = -1 ∧ ∀ y, y < 10 → le (10 * nf + y) = 0) :
    CIf h' X (nf + 1) (fun j => if j = nf then v1 else di j) (fun j => if j = nf then v2 else ac j) (fun j => if j = nf then v3 else de j) sf st vo le := by
  have k2' : ah_kd h (X + 2) ≠ 0 := by rw [ly0_K_2 L]; decide
  refine ⟨by omega, fun f hf => ?_⟩
  rcases Nat.decEq f nf with c | c
  · have eR : ah_R h' (X + 2) f = ah_R h (X + 2) f := z.2.1 (X + 2) f (by omega) k2' (fun q => c (congrArg Prod.snd q))
    obtain ⟨x1, x2⟩ := x.2 f hf
    rw [eR]
    simp only [if_neg c]
    refine ⟨fun hn => ?_, fun hn => x2 (by omega)⟩
    obtain ⟨p1, p2, p3, p4, p5, p6, p7, p8, p9, p10, p11, p12, p13⟩ := x1 (by omega)
    have n1 : ah_kd h (ah_R h (X + 2) f) ≠ 0 := by rw [p2]; decide
    have n2 : ah_kd h (ah_R h (X + 2) f + 1) ≠ 0 := by rw [p4]; decide
    have e1 := fun k => (z.2.2 (ah_R h (X + 2) f) k (by omega) (by omega) n1 trivial).1
    have e2 := fun k => (z.2.2 (ah_R h (X + 2) f + 1) k (by omega) (by omega) n2 trivial).1
    refine ⟨p1, by rw [(z.1 _ n1).1]; exact p2, by rw [z.2.1 _ 7 (by omega) n1 (fun q => by have := congrArg Prod.fst q; simp only at this; omega)]; exact p3, by rw [(z.1 _ n2).1]; exact p4, by rw [(z.1 _ n2).2]; exact p5, by rw [e1]; exact p6, by rw [e1]; exact p7, by rw [e1]; exact p8, by rw [e1]; exact p9, by rw [e1]; exact p10, by rw [e1]; exact p11, by rw [e1]; exact p12, fun y hy => by rw [e2]; exact p13 y hy⟩
  · subst c
    rw [r]
    simp only [if_true]
    exact ⟨fun _ => ⟨hF, k1, k2, k3, k4, i0, i1, i2, i3, by rw [i4, u.1], by rw [i5, u.2.1], by rw [i6, u.2.2.1], fun y hy => by rw [il, u.2.2.2 y hy]⟩, fun q => absurd q (by omega)⟩
theorem CIe.add {ne : Nat} {di : Nat → Int32} (L : LY0 h X) (x : CIe h X ne di) (h8 : ne < 8) (z : dyn pT (X + 3, ne) X h h') {F : Nat} {v : Int32} (hF : X + 1576 ≤ F) (r : ah_R h' (X + 3) ne = F) (k1 : ah_kd h' F = 11) (i0 : ah_I h' F 0 = v) : CIe h' X (ne + 1) (fun j => if j = ne then v else di j) := by
  have k2' : ah_kd h (X + 3) ≠ 0 := by rw [ly0_K_3 L]; decide
  refine ⟨by omega, fun f hf => ?_⟩
  rcases Nat.decEq f ne with c | c
  · have eR : ah_R h' (X + 3) f = ah_R h (X + 3) f := z.2.1 (X + 3) f (by omega) k2' (fun q => c (congrArg Prod.snd q))
    obtain ⟨x1, x2⟩ := x.2 f hf
    rw [eR]
    simp only [if_neg c]
    refine ⟨fun hn => ?_, fun hn => x2 (by omega)⟩
    obtain ⟨p1, p2, p3⟩ := x1 (by omega)
    have n1 : ah_kd h (ah_R h (X + 3) f) ≠ 0 := by rw [p2]; decide
    exact ⟨p1, by rw [(z.1 _ n1).1]; exact p2, by rw [(z.2.2 (ah_R h (X + 3) f) 0 (by omega) (by omega) n1 trivial).1]; exact p3⟩
  · subst c
    rw [r]
    simp only [if_true]
    exact ⟨fun _ => ⟨hF, k1, i0⟩, fun q => absurd q (by omega)⟩
end
/-- all but some addresses as it was -/
def fre (l : List Nat) (h h' : ah_T) : Prop := ∀ b, b ∉ l → ah_kd h' b = ah_kd h b ∧ ah_ln h' b = ah_ln h b ∧ ∀ k, ah_I h' b k = ah_I h b k ∧ ah_J h' b k = ah_J h b k ∧ ah_R h' b k = ah_R h b k
section
variable {l l' : List Nat} {h h' h'' : ah_T} {a k : Nat}
theorem fre.rf : fre l h h := fun _ _ => ⟨rfl, rfl, fun _ => ⟨rfl, rfl, rfl⟩⟩
theorem fre.tr (x : fre l h h') (z : fre l h' h'') : fre l h h'' := fun b hb => ⟨(z b hb).1.trans (x b hb).1, (z b hb).2.1.trans (x b hb).2.1, fun k => ⟨((z b hb).2.2 k).1.trans ((x b hb).2.2 k).1, ((z b hb).2.2 k).2.1.trans ((x b hb).2.2 k).2.1, ((z b hb).2.2 k).2.2.trans ((x b hb).2.2 k).2.2⟩⟩
theorem fre.mn (x : fre l h h') (q : ∀ b, b ∈ l → b ∈ l') : fre l' h h' := fun b hb => x b (fun hl => hb (q b hl))
theorem fre.wI (x : fre l h h') {v : Int32} (ha : a ∈ l) : fre l h (ah_wI h' a k v) := x.tr fun b hb => ⟨rfl, rfl, fun j => ⟨rd_Ia (fun q => hb (q ▸ ha)), rfl, rfl⟩⟩
theorem fre.wJ (x : fre l h h') {v : Int64} (ha : a ∈ l) : fre l h (ah_wJ h' a k v) := x.tr fun b hb => ⟨rfl, rfl, fun j => ⟨rfl, rd_Ja (fun q => hb (q ▸ ha)), rfl⟩⟩
theorem fre.wR (x : fre l h h') {v : Nat} (ha : a ∈ l) : fre l h (ah_wR h' a k v) := x.tr fun b hb => ⟨rfl, rfl, fun j => ⟨rfl, rfl, by rw [rd_RR, if_neg (fun (q : b = a ∧ j = k) => hb (q.1 ▸ ha))]⟩⟩
theorem fre.nw (x : fre l h h') {kd ln c : Nat} (ha : ah_sz h' ∈ l) : fre l h (ah_new h' kd ln c) := x.tr fun b hb => by
  have n : b ≠ ah_sz h' := fun q => hb (q ▸ ha)
  exact ⟨by rw [rn_k, if_neg n], by rw [rn_l, if_neg n], fun j => ⟨by rw [rn_I, if_neg n], by rw [rn_J, if_neg n], by rw [rn_R, if_neg n]⟩⟩
theorem fre.kd (x : fre l h h') {b : Nat} (hb : b ∉ l) : ah_kd h' b = ah_kd h b := (x b hb).1
theorem fre.I (x : fre l h h') {b : Nat} (hb : b ∉ l) (j : Nat) : ah_I h' b j = ah_I h b j := ((x b hb).2.2 j).1
theorem fre.R (x : fre l h h') {b : Nat} (hb : b ∉ l) (j : Nat) : ah_R h' b j = ah_R h b j := ((x b hb).2.2 j).2.2
theorem fre.cfr {X : Nat} (x : fre l h h') (q : ∀ b, b ∈ l → X ≤ b ∧ (b < X + 1498 ∨ X + 1576 ≤ b)) : cfr X h h' := fun b j hb => by
  have n : b ∉ l := fun hl => by have := q b hl; omega
  exact ⟨((x b n).2.2 j).1, ((x b n).2.2 j).2.1⟩
end
section
variable {G : ma_G} {d F : Nat} {h : ah_T} {Q : Option ma_V → ah_T → Prop} {E : Nat → ah_T → Prop} {x1 x2 x3 x4 : Int32}
/-- a new farm -/
theorem c_X9_init (hk : ah_kd h F = 10) (hF : F < ah_sz h) (h7 : ah_R h F 7 = 0) (rm : 1 ≤ ah_rc h ∧ 10 ≤ ah_rs h)
    (K : ∀ h', fre [F, ah_sz h] h h' → h'.1 = (ah_sz h + 1, ah_rc h - 1, ah_rs h - 10) → ah_kd h' F = 10 → ah_kd h' (ah_sz h) = 44 → ah_ln h' (ah_sz h) = 10 → ah_R h' F 7 = ah_sz h → ah_I h' F 0 = x1 → ah_I h' F 1 = x2 → ah_I h' F 2 = x3 → ah_I h' F 3 = x4 → ah_I h' F 4 = -1 → ah_I h' F 5 = -1 → ah_I h' F 6 = -1 → (∀ y, ah_I h' (ah_sz h) y = 0) → Q none h') :
    MX G mi_X9_init (d + 1) 0 [some (rv F), some (iv x1), some (iv x2), some (iv x3), some (iv x4)] [] h Q E := by
  have n0 : F ≠ ah_sz h := by omega
  have n1 : ah_sz h ≠ F := by omega
  refine v_X9_init ⟨by rw [hk]; decide, hk, ?_⟩
  intro g3 q3 _ g4 q4 _ g5 q5 _
  subst q3; subst q4; subst q5
  refine ⟨rm, ?_⟩
  intro g7 q7 _ lv7
  subst q7
  refine ⟨(if_neg n0).trans h7, ?_⟩
  intro g11 q11 _ g12 q12 _ g13 q13 _ g14 q14 _ g15 q15 _
  subst q11; subst q12; subst q13; subst q14; subst q15
  have nI : ∀ k, ah_I (ah_new (ah_wI (ah_wI (ah_wI h F 4 (-1)) F 5 (-1)) F 6 (-1)) 44 10 10) F k = ah_I (ah_wI (ah_wI (ah_wI h F 4 (-1)) F 5 (-1)) F 6 (-1)) F k := fun k => if_neg n0
  refine K _ ?_ rfl ?_ ?_ ?_ ?_ ?_ ?_ ?_ ?_ ?_ ?_ ?_ ?_
  · refine fre.wI (fre.wI (fre.wI (fre.wI (fre.wR (fre.nw (fre.wI (fre.wI (fre.wI fre.rf ?_) ?_) ?_) ?_) ?_) ?_) ?_) ?_) ?_
    all_goals first | exact List.mem_cons_self | exact List.mem_cons_of_mem _ List.mem_cons_self
  · exact (if_neg n0).trans hk
  · exact if_pos rfl
  · exact if_pos rfl
  · simp only [rd_RI]; rw [rd_RR, if_pos ⟨rfl, rfl⟩]; rfl
  · rw [rd_Ik (by decide), rd_Ik (by decide), rd_Ik (by decide), rd_Ih]
  · rw [rd_Ik (by decide), rd_Ik (by decide), rd_Ih]
  · rw [rd_Ik (by decide), rd_Ih]
  · rw [rd_Ih]
  · rw [rd_Ik (by decide), rd_Ik (by decide), rd_Ik (by decide), rd_Ik (by decide), rd_IR, nI, rd_Ik (by decide), rd_Ik (by decide), rd_Ih]
  · rw [rd_Ik (by decide), rd_Ik (by decide), rd_Ik (by decide), rd_Ik (by decide), rd_IR, nI, rd_Ik (by decide), rd_Ih]
  · rw [rd_Ik (by decide), rd_Ik (by decide), rd_Ik (by decide), rd_Ik (by decide), rd_IR, nI, rd_Ih]
  · intro y
    rw [rd_Ia n1, rd_Ia n1, rd_Ia n1, rd_Ia n1, rd_IR]
    exact if_pos rfl
end
def wy_farm (S : MS) (x1 x2 x3 : Int32) : Int32 := if (0 ≤ x1.toInt ∧ x1.toInt ≤ 5) then (if (1 ≤ x2.toInt ∧ x2.toInt ≤ 5000) ∧ (0 ≤ x3.toInt ∧ x3.toInt ≤ 100000) then (if nF S = 20 then 7 else 0) else 5) else 2
def sg_farm (S : MS) (x1 x2 x3 : Int32) : MS := uI (uI (uI (uI (uI S 0 0 0) 4 (nF S) x1) 5 (nF S) x2) 6 (nF S) x3) 0 5 (S.1 0 5 + 1)
theorem wf_farm {S : MS} {x1 x2 x3 : Int32} (W : WF S) (w : wy_farm S x1 x2 x3 = 0) (h20 : nF S ≤ 20) : WF (sg_farm S x1 x2 x3) := by
  have hw : inR x1 0 5 ∧ (inR x2 1 5000 ∧ inR x3 0 100000) ∧ nF S ≠ 20 := by
    unfold wy_farm at w
    repeat' split at w
    all_goals first | exact absurd w (by decide) | exact ⟨by assumption, by assumption, by assumption⟩
  obtain ⟨⟨b1, b2, b3, b4, b5, b6, b7, b8, b9, b10, b11, b12, b13⟩, a2, a3, a4, a5, a6, a7⟩ := W
  have ho : S.1 0 5 + 1 = nI (nF S + 1) := by rw [b1, nI_1]
  have hn : nF (sg_farm S x1 x2 x3) = nF S + 1 := by
    show (S.1 0 5 + 1).toNatClampNeg = _
    rw [ho, nI_clamp (by omega)]
  refine ⟨⟨?_, b2, b3, b4, b5, b6, b7, b8, b9, b10, b11, b12, ?_⟩, ?_, a3, ?_, a5, ?_, a7⟩
  · rw [hn]; exact ho
  · rw [hn]; exact fun f h1 h2 => b13 f (by omega) h2
  · rw [hn]
    intro f hf
    show inR (if f = nF S then x1 else S.1 4 f) 0 5 ∧ inR (if f = nF S then x2 else S.1 5 f) 1 5000 ∧ inR (if f = nF S then x3 else S.1 6 f) 0 100000 ∧ (S.1 53 f = -1 ∨ (inR (S.1 53 f) 0 9 ∧ inR (S.1 54 f) 0 9)) ∧ inR (S.1 55 f) (-1) 1 ∧ ∀ y, y < 10 → (S.1 61 (10 * f + y) = 0 ∨ S.1 61 (10 * f + y) = 1)
    rcases Nat.decEq f (nF S) with c | c
    · simp only [if_neg c]; exact a2 f (by omega)
    · simp only [if_pos c]
      obtain ⟨q1, q2, q3, q4⟩ := b13 f (by omega) (by omega)
      exact ⟨hw.1, hw.2.1.1, hw.2.1.2, Or.inl q1, by rw [q3]; exact ⟨by decide, by decide⟩, fun y hy => Or.inl (q4 y hy)⟩
  · rw [hn]
    intro k hk
    obtain ⟨q1, q2, q3⟩ := a4 k hk
    refine ⟨q1, q2, ?_⟩
    rcases q3 with q | q | q | q
    · exact Or.inl ⟨q.1, ⟨q.2.1.1, by have := q.2.1.2; show (S.1 10 k).toInt ≤ ((nF S + 1 : Nat) : Int) - 1; omega⟩, q.2.2⟩
    · exact Or.inr (Or.inl q)
    · exact Or.inr (Or.inr (Or.inl q))
    · exact Or.inr (Or.inr (Or.inr q))
  · rw [hn]
    refine ⟨a6.1, fun o h0 => ?_⟩
    obtain ⟨q1, q2⟩ := a6.2 o h0
    exact ⟨⟨q1.1, by have := q1.2; show (S.1 56 o).toInt ≤ ((nF S + 1 : Nat) : Int) - 1; omega⟩, q2⟩
theorem c_farm {G : ma_G} {d X : Nat} {h : ah_T} {S : MS} {Q : Option ma_V → ah_T → Prop} {E : Nat → ah_T → Prop} {x1 x2 x3 : Int32} (L : LY0 h X) (C : CI0 h X S) (RM : X + 1576 ≤ ah_sz h ∧ 4000 ≤ ah_rc h ∧ 40000 ≤ ah_rs h) (Kf : wy_farm S x1 x2 x3 ≠ 0 → ∀ h1, cpo X h h1 (uI S 0 0 (wy_farm S x1 x2 x3)) → Q (some (iv (-1))) h1) (Kg : wy_farm S x1 x2 x3 = 0 → ∀ h1, cpo X h h1 (sg_farm S x1 x2 x3) → Q (some (iv (S.1 0 5 + 1 - 1))) h1) : MX G mi_X0_farm (d + 2) 0 [some (rv X), some (iv x1), some (iv x2), some (iv x3)] [] h Q E := by
  have bF := C.iF.2
  have fF : (ah_I h X 14).toInt = (nF S : Int) := by rw [C.iF.1]; exact nI_x (by omega)
  refine v_X0_farm (d := d + 1) L ?_
  refine ⟨fun c1 => ?_, fun c1 => ?_⟩
  · skip
    intro h2 eh2 Xh2
    have w_ : wy_farm S x1 x2 x3 = (2 : Int32) := by
      unfold wy_farm
      simp only [i3_lt, i3_le, i6_lt, i6_le, i3_eq, i3_l, Int32.reduceToInt, Int64.reduceToInt, tm_1, tl_1, fF] at c1
      repeat' split
      all_goals first | rfl | (exfalso; omega)
    subst eh2
    exact Kf (by rw [w_]; decide) _ (by rw [w_]; exact cpo.st L C Xh2)
  · skip
    refine ⟨fun c2 => ?_, fun c2 => ?_⟩
    · skip
      intro h4 eh4 Xh4
      have w_ : wy_farm S x1 x2 x3 = (2 : Int32) := by
        unfold wy_farm
        simp only [i3_lt, i3_le, i6_lt, i6_le, i3_eq, i3_l, Int32.reduceToInt, Int64.reduceToInt, tm_1, tl_1, fF] at c1 c2
        repeat' split
        all_goals first | rfl | (exfalso; omega)
      subst eh4
      exact Kf (by rw [w_]; decide) _ (by rw [w_]; exact cpo.st L C Xh4)
    · skip
      refine ⟨fun c3 => ?_, fun c3 => ?_⟩
      · skip
        intro h6 eh6 Xh6
        have w_ : wy_farm S x1 x2 x3 = (5 : Int32) := by
          unfold wy_farm
          simp only [i3_lt, i3_le, i6_lt, i6_le, i3_eq, i3_l, Int32.reduceToInt, Int64.reduceToInt, tm_1, tl_1, fF] at c1 c2 c3
          repeat' split
          all_goals first | rfl | (exfalso; omega)
        subst eh6
        exact Kf (by rw [w_]; decide) _ (by rw [w_]; exact cpo.st L C Xh6)
      · skip
        refine ⟨fun c4 => ?_, fun c4 => ?_⟩
        · skip
          intro h8 eh8 Xh8
          have w_ : wy_farm S x1 x2 x3 = (5 : Int32) := by
            unfold wy_farm
            simp only [i3_lt, i3_le, i6_lt, i6_le, i3_eq, i3_l, Int32.reduceToInt, Int64.reduceToInt, tm_1, tl_1, fF] at c1 c2 c3 c4
            repeat' split
            all_goals first | rfl | (exfalso; omega)
          subst eh8
          exact Kf (by rw [w_]; decide) _ (by rw [w_]; exact cpo.st L C Xh8)
        · skip
          refine ⟨fun c5 => ?_, fun c5 => ?_⟩
          · skip
            intro h10 eh10 Xh10
            have w_ : wy_farm S x1 x2 x3 = (5 : Int32) := by
              unfold wy_farm
              simp only [i3_lt, i3_le, i6_lt, i6_le, i3_eq, i3_l, Int32.reduceToInt, Int64.reduceToInt, tm_1, tl_1, fF] at c1 c2 c3 c4 c5
              repeat' split
              all_goals first | rfl | (exfalso; omega)
            subst eh10
            exact Kf (by rw [w_]; decide) _ (by rw [w_]; exact cpo.st L C Xh10)
          · skip
            refine ⟨fun c6 => ?_, fun c6 => ?_⟩
            · skip
              intro h12 eh12 Xh12
              have w_ : wy_farm S x1 x2 x3 = (5 : Int32) := by
                unfold wy_farm
                simp only [i3_lt, i3_le, i6_lt, i6_le, i3_eq, i3_l, Int32.reduceToInt, Int64.reduceToInt, tm_1, tl_1, fF] at c1 c2 c3 c4 c5 c6
                repeat' split
                all_goals first | rfl | (exfalso; omega)
              subst eh12
              exact Kf (by rw [w_]; decide) _ (by rw [w_]; exact cpo.st L C Xh12)
            · skip
              refine ⟨fun c7 => ?_, fun c7 => ?_⟩
              · skip
                refine ⟨?_, ?_⟩
                · exact ⟨by omega, by omega⟩
                intro h15 eh15 Xh15 lv_h15
                have w_ : wy_farm S x1 x2 x3 = (0 : Int32) := by
                  unfold wy_farm
                  simp only [i3_lt, i3_le, i6_lt, i6_le, i3_eq, i3_l, Int32.reduceToInt, Int64.reduceToInt, tm_1, tl_1, fF] at c1 c2 c3 c4 c5 c6 c7
                  repeat' split
                  all_goals first | rfl | (exfalso; omega)
                subst eh15
                have F0 := liv_0 lv_h15
                have F1 : ah_kd h (ah_sz h + 1) = 0 := liv_1 lv_h15 (by omega)
                have hs := RM.1
                have r1 : 4000 ≤ h.1.2.1 := RM.2.1
                have r2 : 40000 ≤ h.1.2.2 := RM.2.2
                have cz : ah_I h X 14 = S.1 0 5 := C.1.2 0 14 5 (by decide)
                have en : (S.1 0 5).toNatClampNeg = nF S := rfl
                have cv : S.1 0 5 = nI (nF S) := C.2.2.2.2.2.1.1
                have hlt : nF S < 20 := by simp only [i3_lt, i3_le, i6_lt, i6_le, i3_eq, i3_l, Int32.reduceToInt, Int64.reduceToInt, tm_1, tl_1, fF] at c7; omega
                have i0 : ah_I (ah_new h 10 0 8) X 14 = nI (nF S) := by rw [rn_I, if_neg (by omega), cz, cv]
                refine c_X9_init (h := ah_new h 10 0 8) (F := ah_sz h) (by rw [rn_k, if_pos rfl]) (by rw [rn_s]; omega) (by rw [rn_R, if_pos rfl]) ⟨by show 1 ≤ h.1.2.1 - 1; omega, by show 10 ≤ h.1.2.2 - 8; omega⟩ ?_
                intro g fg g1 k1 k3 k4 k2 v0 v1 v2 v3 v4 v5 v6 vl x17
                rw [rn_s] at k3 k4 k2 vl fg
                have fg1 : fre [ah_sz h, ah_sz h + 1] h g := (fre.nw fre.rf List.mem_cons_self).tr fg
                have nX : ∀ c, c < 1576 → X + c ∉ [ah_sz h, ah_sz h + 1] := fun c hc => by simp only [List.mem_cons, List.not_mem_nil, or_false]; omega
                have n0 : X ∉ [ah_sz h, ah_sz h + 1] := nX 0 (by decide)
                have cz' : ah_I g X 14 = S.1 0 5 := (fg1.I n0 14).trans cz
                refine ⟨vp_x (by rw [fF]; omega) (by rw [fF]; omega), ?_, ?_⟩
                · rw [cz, en, fg1.R (nX 2 (by decide))]
                  exact (C.2.1.2 (nF S) (by omega)).2 (Nat.le_refl _)
                intro h22 e22 X22 h23 e23 X23 h24 e24 X24
                subst e22; subst e23; subst e24
                rw [cz'] at X23 ⊢
                rw [cz, en] at X22 X23 X24 ⊢
                have z0 : dyn pT (X + 2, nF S) X h g := ⟨fun a ha => by
                    have n : a ∉ [ah_sz h, ah_sz h + 1] := fun q => by
                      simp only [List.mem_cons, List.not_mem_nil, or_false] at q
                      rcases q with q | q
                      · exact ha (by rw [q]; exact F0)
                      · exact ha (by rw [q]; exact F1)
                    exact ⟨(fg1 a n).1, (fg1 a n).2.1⟩, fun a k _ ha _ => by
                    have n : a ∉ [ah_sz h, ah_sz h + 1] := fun q => by
                      simp only [List.mem_cons, List.not_mem_nil, or_false] at q
                      rcases q with q | q
                      · exact ha (by rw [q]; exact F0)
                      · exact ha (by rw [q]; exact F1)
                    exact fg1.R n k, fun a k _ _ ha _ => by
                    have n : a ∉ [ah_sz h, ah_sz h + 1] := fun q => by
                      simp only [List.mem_cons, List.not_mem_nil, or_false] at q
                      rcases q with q | q
                      · exact ha (by rw [q]; exact F0)
                      · exact ha (by rw [q]; exact F1)
                    exact ⟨((fg1 a n).2.2 k).1, ((fg1 a n).2.2 k).2.1⟩⟩
                have z : dyn pT (X + 2, nF S) X h _ := (((z0.oR' (a := X + 2) (k := nF S) (v := ah_sz h) rfl).zI (k := 14) (v := S.1 0 5 + 1)).zI (k := 20) (v := 0))
                have xt := ((((Xh15.tr x17).tr X22).tr X23).tr X24)
                have e_ := ((((C.1.sm (h' := g) (fun c k hc => fg1.I (nX c (by omega)) k)).sR (a := X + 2) (k := nF S) (v := ah_sz h)).pX (v := S.1 0 5 + 1) 14 5 (by decide)).pX (v := 0) 20 0 (by decide))
                rw [uI_cm (a := 0) (k := 5) (b := 0) (j := 0) (Or.inr (by decide))] at e_
                have e1 := e_.cA (m := 4) (k := nF S) (v := x1) (ctA_n rfl) (by decide)
                rw [uI_cm (a := 0) (k := 5) (b := 4) (Or.inl (by decide))] at e1
                have e2 := e1.cA (m := 5) (k := nF S) (v := x2) (ctA_n rfl) (by decide)
                rw [uI_cm (a := 0) (k := 5) (b := 5) (Or.inl (by decide))] at e2
                have e3 := e2.cA (m := 6) (k := nF S) (v := x3) (ctA_n rfl) (by decide)
                rw [uI_cm (a := 0) (k := 5) (b := 6) (Or.inl (by decide))] at e3
                have hn : nF (sg_farm S x1 x2 x3) = nF S + 1 := by
                  show (S.1 0 5 + 1).toNatClampNeg = _
                  rw [cv, nI_1, nI_clamp (by omega)]
                have nF2 : ah_sz h ≠ X + 2 := by omega
                have nF0 : ah_sz h ≠ X := by omega
                have nF3 : ah_sz h + 1 ≠ X := by omega
                refine Kg w_ _ ⟨L.ext xt, ⟨e3, ?_, ?_, ?_, ?_, wf_farm C.2.2.2.2.2 w_ C.2.1.1⟩, ?_, xt, ?_, ?_, ?_⟩
                · rw [hn]
                  refine C.2.1.add L hlt z (F := ah_sz h) hs ?_ ?_ ?_ ?_ ?_ ?_ ?_ ?_ ?_ ?_ ?_ ?_ ?_ (C.2.2.2.2.2.1.2.2.2.2.2.2.2.2.2.2.2.2 (nF S) (Nat.le_refl _) hlt)
                  · rw [rd_RI, rd_RI, rd_RR, if_pos ⟨rfl, rfl⟩]
                  · exact k1
                  · rw [rd_RI, rd_RI, rd_RR, if_neg (fun q => nF2 q.1)]; exact k2
                  · exact k3
                  · exact k4
                  · rw [rd_Ia nF0, rd_Ia nF0, rd_IR, v0, i0]
                  · rw [rd_Ia nF0, rd_Ia nF0, rd_IR, v1]
                  · rw [rd_Ia nF0, rd_Ia nF0, rd_IR, v2]
                  · rw [rd_Ia nF0, rd_Ia nF0, rd_IR, v3]
                  · rw [rd_Ia nF0, rd_Ia nF0, rd_IR, v4]
                  · rw [rd_Ia nF0, rd_Ia nF0, rd_IR, v5]
                  · rw [rd_Ia nF0, rd_Ia nF0, rd_IR, v6]
                  · intro y; rw [rd_Ia nF3, rd_Ia nF3, rd_IR]; exact vl y
                · exact C.2.2.1.dy L z (fun _ => trivial) ⟨by show X + 2 < _; omega, by show X + 2 ≠ _; omega⟩
                · refine C.2.2.2.1.dy L z (fun _ _ _ _ _ => trivial) ⟨by show X + 2 < _; omega, by show X + 2 ≠ _; omega⟩ (fun _ k hk hs0 => ?_)
                  obtain ⟨-, -, q⟩ := C.2.2.2.2.2.2.2.2.1 k hk
                  rcases q with q | q | q | q
                  · have := cl_lt q.2.1.1 q.2.1.2; show (S.1 10 k).toNatClampNeg ≠ nF S; omega
                  · exact absurd (hs0.symm.trans q.1) (by decide)
                  · exact absurd (hs0.symm.trans q.1) (by decide)
                  · exact absurd (hs0.symm.trans q.1) (by decide)
                · exact C.2.2.2.2.1.dy L z (fun _ _ _ => trivial) (by show X + 2 < _; omega)
                · exact ((((fg1.mn (l' := [ah_sz h, ah_sz h + 1, X, X + 2]) (fun b hb => by simp only [List.mem_cons, List.not_mem_nil, or_false] at hb ⊢; omega)).wR (by simp)).wI (by simp)).wI (by simp)).cfr (fun b hb => by simp only [List.mem_cons, List.not_mem_nil, or_false] at hb; omega)
                · show h.1.2.1 ≤ g.1.2.1 + 4000
                  rw [g1]; show h.1.2.1 ≤ h.1.2.1 - 1 - 1 + 4000; omega
                · show h.1.2.2 ≤ g.1.2.2 + 40000
                  rw [g1]; show h.1.2.2 ≤ h.1.2.2 - 8 - 10 + 40000; omega
                · exact z.lf L ⟨by show X + 2 < _; omega, by show X + 2 ≠ _; omega, by show ah_kd h (X + 2) ≠ 50; rw [ly0_K_2 L]; decide⟩ (fun _ _ _ => trivial)
              · skip
                intro h25 eh25 Xh25
                have w_ : wy_farm S x1 x2 x3 = (7 : Int32) := by
                  unfold wy_farm
                  simp only [i3_lt, i3_le, i6_lt, i6_le, i3_eq, i3_l, Int32.reduceToInt, Int64.reduceToInt, tm_1, tl_1, fF] at c1 c2 c3 c4 c5 c6 c7
                  repeat' split
                  all_goals first | rfl | (exfalso; omega)
                subst eh25
                exact Kf (by rw [w_]; decide) _ (by rw [w_]; exact cpo.st L C Xh25)
theorem m_farm {G : ma_G} {d M : Nat} {h : ah_T} {S : MS} {Q : Option ma_V → ah_T → Prop} {E : Nat → ah_T → Prop} {x1 x2 x3 : Int32} (L : LY8 h M) (eS : mv h M = S) (W : WF S) (B : WB S) (Kf : wy_farm S x1 x2 x3 ≠ 0 → ∀ h1, mpo M h h1 (uI S 0 0 (wy_farm S x1 x2 x3)) → Q (some (iv (-1))) h1) (Kg : wy_farm S x1 x2 x3 = 0 → ∀ h1, mpo M h h1 (sg_farm S x1 x2 x3) → Q (some (iv (S.1 0 5 + 1 - 1))) h1) : MX G mi_X8_farm (d + 1) 0 [some (rv M), some (iv x1), some (iv x2), some (iv x3)] [] h Q E := by
  have qF := mk_F eS W
  have bF := mb_F W B
  have fF : (ah_I h M 5).toInt = (nF S : Int) := by rw [qF]; exact nI_x (by omega)
  have gF : (ah_I h M 5 - 1).toInt = (nF S : Int) - 1 := by rw [qF]; exact nI_m1 (by omega)
  refine v_X8_farm L ?_
  intro h1 eh1 Xh1
  intro h2 eh2 Xh2
  refine ⟨fun c1 => ?_, fun c1 => ?_⟩
  · skip
    intro h4 eh4 Xh4
    have w_ : wy_farm S x1 x2 x3 = (2 : Int32) := by
      unfold wy_farm
      simp only [i3_lt, i3_le, i6_lt, i6_le, i3_eq, i3_l, Int32.reduceToInt, Int64.reduceToInt, tm_1, tl_1, fF, gF] at c1
      repeat' split
      all_goals first | rfl | (exfalso; omega)
    subst eh1
    subst eh2
    subst eh4
    exact Kf (by rw [w_]; decide) _ (by rw [w_]; exact mpo.st eS)
  · skip
    refine ⟨fun c2 => ?_, fun c2 => ?_⟩
    · skip
      intro h6 eh6 Xh6
      have w_ : wy_farm S x1 x2 x3 = (2 : Int32) := by
        unfold wy_farm
        simp only [i3_lt, i3_le, i6_lt, i6_le, i3_eq, i3_l, Int32.reduceToInt, Int64.reduceToInt, tm_1, tl_1, fF, gF] at c1 c2
        repeat' split
        all_goals first | rfl | (exfalso; omega)
      subst eh1
      subst eh2
      subst eh6
      exact Kf (by rw [w_]; decide) _ (by rw [w_]; exact mpo.st eS)
    · skip
      refine ⟨fun c3 => ?_, fun c3 => ?_⟩
      · skip
        intro h8 eh8 Xh8
        have w_ : wy_farm S x1 x2 x3 = (5 : Int32) := by
          unfold wy_farm
          simp only [i3_lt, i3_le, i6_lt, i6_le, i3_eq, i3_l, Int32.reduceToInt, Int64.reduceToInt, tm_1, tl_1, fF, gF] at c1 c2 c3
          repeat' split
          all_goals first | rfl | (exfalso; omega)
        subst eh1
        subst eh2
        subst eh8
        exact Kf (by rw [w_]; decide) _ (by rw [w_]; exact mpo.st eS)
      · skip
        refine ⟨fun c4 => ?_, fun c4 => ?_⟩
        · skip
          intro h10 eh10 Xh10
          have w_ : wy_farm S x1 x2 x3 = (5 : Int32) := by
            unfold wy_farm
            simp only [i3_lt, i3_le, i6_lt, i6_le, i3_eq, i3_l, Int32.reduceToInt, Int64.reduceToInt, tm_1, tl_1, fF, gF] at c1 c2 c3 c4
            repeat' split
            all_goals first | rfl | (exfalso; omega)
          subst eh1
          subst eh2
          subst eh10
          exact Kf (by rw [w_]; decide) _ (by rw [w_]; exact mpo.st eS)
        · skip
          refine ⟨fun c5 => ?_, fun c5 => ?_⟩
          · skip
            intro h12 eh12 Xh12
            have w_ : wy_farm S x1 x2 x3 = (5 : Int32) := by
              unfold wy_farm
              simp only [i3_lt, i3_le, i6_lt, i6_le, i3_eq, i3_l, Int32.reduceToInt, Int64.reduceToInt, tm_1, tl_1, fF, gF] at c1 c2 c3 c4 c5
              repeat' split
              all_goals first | rfl | (exfalso; omega)
            subst eh1
            subst eh2
            subst eh12
            exact Kf (by rw [w_]; decide) _ (by rw [w_]; exact mpo.st eS)
          · skip
            refine ⟨fun c6 => ?_, fun c6 => ?_⟩
            · skip
              intro h14 eh14 Xh14
              have w_ : wy_farm S x1 x2 x3 = (5 : Int32) := by
                unfold wy_farm
                simp only [i3_lt, i3_le, i6_lt, i6_le, i3_eq, i3_l, Int32.reduceToInt, Int64.reduceToInt, tm_1, tl_1, fF, gF] at c1 c2 c3 c4 c5 c6
                repeat' split
                all_goals first | rfl | (exfalso; omega)
              subst eh1
              subst eh2
              subst eh14
              exact Kf (by rw [w_]; decide) _ (by rw [w_]; exact mpo.st eS)
            · skip
              refine ⟨fun c7 => ?_, fun c7 => ?_⟩
              · skip
                refine ⟨?_, ?_⟩
                · exact vp_x (by simp only [i3_lt, i3_le, i6_lt, i6_le, i3_eq, i3_l, Int32.reduceToInt, Int64.reduceToInt, tm_1, tl_1, fF, gF] at c1 c2 c3 c4 c5 c6 c7 ⊢; omega) (by simp only [i3_lt, i3_le, i6_lt, i6_le, i3_eq, i3_l, Int32.reduceToInt, Int64.reduceToInt, tm_1, tl_1, fF, gF] at c1 c2 c3 c4 c5 c6 c7 ⊢; omega)
                intro h17 eh17 Xh17
                intro h18 eh18 Xh18
                intro h19 eh19 Xh19
                intro h20 eh20 Xh20
                have w_ : wy_farm S x1 x2 x3 = (0 : Int32) := by
                  unfold wy_farm
                  simp only [i3_lt, i3_le, i6_lt, i6_le, i3_eq, i3_l, Int32.reduceToInt, Int64.reduceToInt, tm_1, tl_1, fF, gF] at c1 c2 c3 c4 c5 c6 c7
                  repeat' split
                  all_goals first | rfl | (exfalso; omega)
                subst eh1
                subst eh2
                subst eh17
                subst eh18
                subst eh19
                subst eh20
                have en : (S.1 0 5).toNatClampNeg = nF S := rfl
                simp only [mk_z0 eS 5, en]
                exact Kg w_ _ (mpo.mk (A := [4, 5, 6]) (Z := [0, 1, 5]) (by decide) ((((((mch.rf.zI (by decide)).zI (by decide)).wI (by decide)).wI (by decide)).wI (by decide)).zI (by decide)) (by rw [mv_zI, mv_wI, mv_wI, mv_wI, mv_zI, mv_zI, eS]; exact ((((((kept.rf.sI (by decide) (by decide)).cI).cI).cI).cI).cI)))
              · skip
                intro h21 eh21 Xh21
                have w_ : wy_farm S x1 x2 x3 = (7 : Int32) := by
                  unfold wy_farm
                  simp only [i3_lt, i3_le, i6_lt, i6_le, i3_eq, i3_l, Int32.reduceToInt, Int64.reduceToInt, tm_1, tl_1, fF, gF] at c1 c2 c3 c4 c5 c6 c7
                  repeat' split
                  all_goals first | rfl | (exfalso; omega)
                subst eh1
                subst eh2
                subst eh21
                exact Kf (by rw [w_]; decide) _ (by rw [w_]; exact mpo.st eS)

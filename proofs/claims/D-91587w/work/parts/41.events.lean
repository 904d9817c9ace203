/-! ===== a new event: the state behind, what it rests on ===== -/
/-- the row of an event, the counts, the weeks -/
def sgE (S : MS) (n : Nat) (c a b e f g i j k w o : Int32) : MS :=
  uI (uI (uI (uI (uI (uI (uI (uI (uI (uI (uI (uI (uI S 9 n a) 10 n b) 11 n e) 12 n f) 13 n g) 14 n i) 15 n j) 16 n k) 17 n w) 18 n o) 0 7 c) 0 10 w) 0 9 o
def wyE (S : MS) (good : Bool) (w o : Int32) : Int32 :=
  if good = true ∧ (0 ≤ w.toInt ∧ w.toInt ≤ 519) ∧ (w.toInt ≤ o.toInt ∧ o.toInt ≤ 519) then (if nV S = 120 then 7 else if (S.1 0 9).toInt ≤ o.toInt ∧ (S.1 0 10).toInt ≤ w.toInt then 0 else 12) else 5
theorem sgE_k {S S' : MS} {n : Nat} {c a b e f g i j k w o : Int32} (x : kept S S') : kept (sgE S n c a b e f g i j k w o) (sgE S' n c a b e f g i j k w o) := x.cI.cI.cI.cI.cI.cI.cI.cI.cI.cI.cI.cI.cI
section
variable {h h' : ah_T} {X : Nat} {S : MS}
theorem CIv.add {nv : Nat} {so fo at_ to gt ye bu ex we kn : Nat → Int32} (L : LY0 h X) (x : CIv h X nv so fo at_ to gt ye bu ex we kn) (h120 : nv < 120) (z : dyn pT (X + 4, nv) X h h') {V : Nat} {a b e f g i j k w o : Int32} (hV : X + 1576 ≤ V) (fr : ah_kd h V = 0) (r : ah_R h' (X + 4) nv = V) (i0 : ah_I h' V 0 = w) (i1 : ah_I h' V 1 = o) (i2 : ah_I h' V 2 = j) (q : CIw h' X V a b e f g i k) :
    CIv h' X (nv + 1) (fun q => if q = nv then a else so q) (fun q => if q = nv then b else fo q) (fun q => if q = nv then e else at_ q) (fun q => if q = nv then f else to q) (fun q => if q = nv then g else gt q) (fun q => if q = nv then i else ye q) (fun q => if q = nv then j else bu q) (fun q => if q = nv then k else ex q) (fun q => if q = nv then w else we q) (fun q => if q = nv then o else kn q) := by
  have k2 : ah_kd h (X + 4) ≠ 0 := by rw [ly0_K_4 L]; decide
  have k3 : ah_kd h (X + 2) ≠ 0 := by rw [ly0_K_2 L]; decide
  have eR : ∀ k, k ≠ nv → ah_R h' (X + 4) k = ah_R h (X + 4) k := fun k hk => z.2.1 (X + 4) k (by omega) k2 (fun q => hk (congrArg Prod.snd q))
  refine ⟨by omega, fun m hm => ?_, fun m n hmn hn => ?_⟩
  · rcases Nat.decEq m nv with c | c
    · obtain ⟨x1, x2⟩ := x.2.1 m hm
      rw [eR m c]
      simp only [if_neg c]
      refine ⟨fun hn => ?_, fun hn => x2 (by omega)⟩
      obtain ⟨p1, p2, p3, p4, p5⟩ := x1 (by omega)
      have n1 := p5.k0
      have e1 := fun k => (z.2.2 (ah_R h (X + 4) m) k (by omega) (by omega) n1 trivial).1
      exact ⟨p1, by rw [e1]; exact p2, by rw [e1]; exact p3, by rw [e1]; exact p4, p5.dy L (z.1 _ n1).1 (fun k => z.2.1 _ k (by omega) n1 (fun q => by have := congrArg Prod.fst q; simp only at this; omega)) (fun _ => z.2.1 _ _ (by omega) k3 (fun q => by have := congrArg Prod.fst q; simp only at this; omega)) (fun k _ => e1 k)⟩
    · subst c
      rw [r]
      simp only [if_true]
      exact ⟨fun _ => ⟨hV, i0, i1, i2, q⟩, fun q => absurd q (by omega)⟩
  · have old : ∀ m, m < nv → ah_R h (X + 4) m ≠ V := fun m hm e => by
      obtain ⟨-, -, -, -, p5⟩ := (x.2.1 m (by omega)).1 hm
      exact p5.k0 (by rw [e]; exact fr)
    rcases Nat.decEq n nv with c | c
    · rw [eR n c, eR m (by omega)]
      exact x.2.2 m n hmn (by omega)
    · subst c
      rw [r, eR m (by omega)]
      exact old m hmn
/-- the state behind is good -/
theorem wfE {a b e f g i j k w o : Int32} (W : WF S) (h120 : nV S < 120) (q : WFw (nF S) (nE S) a b e f g i j k w o) : WF (sgE (uI S 0 0 0) (nV S) (S.1 0 7 + 1) a b e f g i j k w o) ∧ nV (sgE (uI S 0 0 0) (nV S) (S.1 0 7 + 1) a b e f g i j k w o) = nV S + 1 := by
  obtain ⟨⟨b1, b2, b3, b4, b5, b6, b7, b8, b9, b10, b11, b12, b13⟩, a2, a3, a4, a5, a6, a7⟩ := W
  have ho : S.1 0 7 + 1 = nI (nV S + 1) := by rw [b3, nI_1]
  have hn : nV (sgE (uI S 0 0 0) (nV S) (S.1 0 7 + 1) a b e f g i j k w o) = nV S + 1 := by
    show (S.1 0 7 + 1).toNatClampNeg = _
    rw [ho, nI_clamp (by omega)]
  refine ⟨⟨⟨b1, b2, ?_, b4, b5, b6, b7, b8, b9, ⟨by have := q.1.1; have := q.2.1.1; show 0 ≤ o.toInt; omega, q.2.1.2⟩, b11, ?_, b13⟩, a2, a3, ?_, ?_, a6, a7⟩, hn⟩
  · rw [hn]; exact ho
  · rw [hn, if_neg (by omega)]
    show w = (if nV S + 1 - 1 = nV S then w else S.1 17 (nV S + 1 - 1))
    rw [if_pos (by omega)]
  · rw [hn]
    intro m hm
    show WFw (nF S) (nE S) (if m = nV S then a else S.1 9 m) (if m = nV S then b else S.1 10 m) (if m = nV S then e else S.1 11 m) (if m = nV S then f else S.1 12 m) (if m = nV S then g else S.1 13 m) (if m = nV S then i else S.1 14 m) (if m = nV S then j else S.1 15 m) (if m = nV S then k else S.1 16 m) (if m = nV S then w else S.1 17 m) (if m = nV S then o else S.1 18 m)
    rcases Nat.decEq m (nV S) with c | c
    · simp only [if_neg c]; exact a4 m (by omega)
    · simp only [if_pos c]; exact q
  · rw [hn]
    refine ⟨a5.1, fun m hm => ?_⟩
    obtain ⟨q1, q2, q3⟩ := a5.2 m hm
    refine ⟨⟨q1.1, by have := q1.2; show (S.1 19 m).toInt ≤ ((nV S + 1 : Nat) : Int) - 1; omega⟩, ?_, q3⟩
    show (if (S.1 19 m).toNatClampNeg = nV S then a else S.1 9 (S.1 19 m).toNatClampNeg) = 0
    have := cl_lt q1.1 q1.2
    rw [if_neg (by omega)]
    exact q2
end
section
variable {G : ma_G} {d X M : Nat} {h : ah_T} {S : MS} {Q : Option ma_V → ah_T → Prop} {E : Nat → ah_T → Prop}
/-- whether an event may come -/
theorem c_wrongEvent0 {x2 x3 : Int32} (L : LY0 h X) (K : Q (some (iv 5)) h) : MX G mi_X0_wrongEvent (d + 1) 0 [some (rv X), some (iv 0), some (iv x2), some (iv x3)] [] h Q E :=
  v_X0_wrongEvent L ⟨fun _ => K, fun c => absurd rfl c⟩
theorem c_wrongEvent1 {x2 x3 : Int32} (L : LY0 h X) (C : CI0 h X S) (K : Q (some (iv (wyE S true x2 x3))) h) : MX G mi_X0_wrongEvent (d + 1) 0 [some (rv X), some (iv 1), some (iv x2), some (iv x3)] [] h Q E := by
  have bV := C.iV.2
  have fV : (ah_I h X 16).toInt = (nV S : Int) := by rw [C.iV.1]; exact nI_x (by omega)
  have gV : (ah_I h X 16 - 1).toInt = (nV S : Int) - 1 := by rw [C.iV.1]; exact nI_m1 (by omega)
  have fL : ah_I h X 19 = S.1 0 9 := C.1.2 0 19 9 (by decide)
  have fw : S.1 0 10 = _ := C.2.2.2.2.2.1.2.2.2.2.2.2.2.2.2.2.2.1
  refine v_X0_wrongEvent L ?_
  refine ⟨fun c1 => ?_, fun c1 => ?_⟩
  · skip
    exact absurd c1 (by decide)
  · skip
    refine ⟨fun c2 => ?_, fun c2 => ?_⟩
    · skip
      have w_ : wyE S true x2 x3 = (5 : Int32) := by
        unfold wyE
        simp only [i3_lt, i3_le, i6_lt, i6_le, i3_eq, i3_l, Int32.reduceToInt, Int64.reduceToInt, tm_1, tl_1, fV, fL] at c2
        simp only [true_and]
        (repeat' split) <;> first | rfl | (exfalso; omega)
      rw [← w_]; exact K
    · skip
      refine ⟨fun c3 => ?_, fun c3 => ?_⟩
      · skip
        have w_ : wyE S true x2 x3 = (5 : Int32) := by
          unfold wyE
          simp only [i3_lt, i3_le, i6_lt, i6_le, i3_eq, i3_l, Int32.reduceToInt, Int64.reduceToInt, tm_1, tl_1, fV, fL] at c2 c3
          simp only [true_and]
          (repeat' split) <;> first | rfl | (exfalso; omega)
        rw [← w_]; exact K
      · skip
        refine ⟨fun c4 => ?_, fun c4 => ?_⟩
        · skip
          have w_ : wyE S true x2 x3 = (5 : Int32) := by
            unfold wyE
            simp only [i3_lt, i3_le, i6_lt, i6_le, i3_eq, i3_l, Int32.reduceToInt, Int64.reduceToInt, tm_1, tl_1, fV, fL] at c2 c3 c4
            simp only [true_and]
            (repeat' split) <;> first | rfl | (exfalso; omega)
          rw [← w_]; exact K
        · skip
          refine ⟨fun c5 => ?_, fun c5 => ?_⟩
          · skip
            have w_ : wyE S true x2 x3 = (5 : Int32) := by
              unfold wyE
              simp only [i3_lt, i3_le, i6_lt, i6_le, i3_eq, i3_l, Int32.reduceToInt, Int64.reduceToInt, tm_1, tl_1, fV, fL] at c2 c3 c4 c5
              simp only [true_and]
              (repeat' split) <;> first | rfl | (exfalso; omega)
            rw [← w_]; exact K
          · skip
            refine ⟨fun c6 => ?_, fun c6 => ?_⟩
            · skip
              refine ⟨fun c7 => ?_, fun c7 => ?_⟩
              · skip
                refine ⟨fun c8 => ?_, fun c8 => ?_⟩
                · skip
                  have w_ : wyE S true x2 x3 = (12 : Int32) := by
                    unfold wyE
                    simp only [i3_lt, i3_le, i6_lt, i6_le, i3_eq, i3_l, Int32.reduceToInt, Int64.reduceToInt, tm_1, tl_1, fV, fL] at c2 c3 c4 c5 c6 c7 c8
                    simp only [true_and]
                    (repeat' split) <;> first | rfl | (exfalso; omega)
                  rw [← w_]; exact K
                · skip
                  refine ⟨fun c9 => ?_, fun c9 => ?_⟩
                  · skip
                    have hv : nV S = 0 := by simp only [i3_lt, i3_le, i6_lt, i6_le, i3_eq, i3_l, Int32.reduceToInt, Int64.reduceToInt, tm_1, tl_1, fV] at c9; omega
                    rw [if_pos hv] at fw
                    have w_ : wyE S true x2 x3 = (0 : Int32) := by
                      unfold wyE
                      simp only [i3_lt, i3_le, i6_lt, i6_le, i3_eq, i3_l, Int32.reduceToInt, Int64.reduceToInt, tm_1, tl_1, fV, fL] at c2 c3 c4 c5 c6 c7 c8 c9 fw
                      simp only [true_and]
                      (repeat' split) <;> first | rfl | (exfalso; omega)
                    rw [← w_]; exact K
                  · skip
                    refine ⟨?_, ?_⟩
                    · exact vp_x (by rw [gV]; simp only [i3_lt, i3_le, i6_lt, i6_le, i3_eq, i3_l, Int32.reduceToInt, Int64.reduceToInt, tm_1, tl_1, fV] at c2 c3 c4 c5 c6 c7 c8 c9; omega) (by rw [gV]; omega)
                    refine ⟨?_, ?_⟩
                    · have hv : 0 < nV S := by simp only [i3_lt, i3_le, i6_lt, i6_le, i3_eq, i3_l, Int32.reduceToInt, Int64.reduceToInt, tm_1, tl_1, fV] at c2 c3 c4 c5 c6 c7 c8 c9; omega
                      have e0 : (ah_I h X 16 - 1).toNatClampNeg = (ah_I h X 16 - 1).toInt.toNat := rfl
                      rw [e0, gV, show ((nV S : Int) - 1).toNat = nV S - 1 by omega]
                      exact C.2.2.2.1.ks (by omega)
                    refine ⟨fun c10 => ?_, fun c10 => ?_⟩
                    · skip
                      have hv : 0 < nV S := by simp only [i3_lt, i3_le, i6_lt, i6_le, i3_eq, i3_l, Int32.reduceToInt, Int64.reduceToInt, tm_1, tl_1, fV] at c2 c3 c4 c5 c6 c7 c8 c9; omega
                      have ei : (ah_I h X 16 - 1).toNatClampNeg = nV S - 1 := by
                        have e0 : (ah_I h X 16 - 1).toNatClampNeg = (ah_I h X 16 - 1).toInt.toNat := rfl
                        rw [e0, gV]; omega
                      rw [ei, ((C.2.2.2.1.2.1 (nV S - 1) (by omega)).1 (by omega)).2.1] at c10
                      rw [if_neg (by omega)] at fw
                      have w_ : wyE S true x2 x3 = (0 : Int32) := by
                        unfold wyE
                        simp only [i3_lt, i3_le, i6_lt, i6_le, i3_eq, i3_l, Int32.reduceToInt, Int64.reduceToInt, tm_1, tl_1, fV, fL] at c2 c3 c4 c5 c6 c7 c8 c9 c10 fw
                        simp only [true_and]
                        (repeat' split) <;> first | rfl | (exfalso; omega)
                      rw [← w_]; exact K
                    · skip
                      have hv : 0 < nV S := by simp only [i3_lt, i3_le, i6_lt, i6_le, i3_eq, i3_l, Int32.reduceToInt, Int64.reduceToInt, tm_1, tl_1, fV] at c2 c3 c4 c5 c6 c7 c8 c9; omega
                      have ei : (ah_I h X 16 - 1).toNatClampNeg = nV S - 1 := by
                        have e0 : (ah_I h X 16 - 1).toNatClampNeg = (ah_I h X 16 - 1).toInt.toNat := rfl
                        rw [e0, gV]; omega
                      rw [ei, ((C.2.2.2.1.2.1 (nV S - 1) (by omega)).1 (by omega)).2.1] at c10
                      rw [if_neg (by omega)] at fw
                      have w_ : wyE S true x2 x3 = (12 : Int32) := by
                        unfold wyE
                        simp only [i3_lt, i3_le, i6_lt, i6_le, i3_eq, i3_l, Int32.reduceToInt, Int64.reduceToInt, tm_1, tl_1, fV, fL] at c2 c3 c4 c5 c6 c7 c8 c9 c10 fw
                        simp only [true_and]
                        (repeat' split) <;> first | rfl | (exfalso; omega)
                      rw [← w_]; exact K
              · skip
                have w_ : wyE S true x2 x3 = (7 : Int32) := by
                  unfold wyE
                  simp only [i3_lt, i3_le, i6_lt, i6_le, i3_eq, i3_l, Int32.reduceToInt, Int64.reduceToInt, tm_1, tl_1, fV, fL] at c2 c3 c4 c5 c6 c7
                  simp only [true_and]
                  (repeat' split) <;> first | rfl | (exfalso; omega)
                rw [← w_]; exact K
            · skip
              have w_ : wyE S true x2 x3 = (5 : Int32) := by
                unfold wyE
                simp only [i3_lt, i3_le, i6_lt, i6_le, i3_eq, i3_l, Int32.reduceToInt, Int64.reduceToInt, tm_1, tl_1, fV, fL] at c2 c3 c4 c5 c6
                simp only [true_and]
                (repeat' split) <;> first | rfl | (exfalso; omega)
              rw [← w_]; exact K
/-- an event's row in the model -/
theorem m_event {x1 x2 x3 x4 x5 x6 x7 x8 x9 x10 : Int32} (L : LY8 h M) (eS : mv h M = S) (W : WF S) (B : WB S) (Kf : wyE S true x9 x10 ≠ 0 → ∀ h1, mpo M h h1 (uI S 0 0 (wyE S true x9 x10)) → Q (some (iv (-1))) h1) (Kg : wyE S true x9 x10 = 0 → ∀ h1, mpo M h h1 (sgE S (nV S) (S.1 0 7 + 1) x1 x2 x3 x4 x5 x6 x7 x8 x9 x10) → Q (some (iv (S.1 0 7 + 1 - 1))) h1) : MX G mi_X8_event (d + 2) 0 [some (rv M), some (iv x1), some (iv x2), some (iv x3), some (iv x4), some (iv x5), some (iv x6), some (iv x7), some (iv x8), some (iv x9), some (iv x10)] [] h Q E := by
  have qV := mk_V eS W
  have bV := mb_V W B
  have fV : (ah_I h M 7).toInt = (nV S : Int) := by rw [qV]; exact nI_x (by omega)
  have fL : ah_I h M 9 = S.1 0 9 := mk_z0 eS 9
  have fw : ah_I h M 10 = S.1 0 10 := mk_z0 eS 10
  refine v_X8_event L ?_
  refine ⟨fun c1 => ?_, fun c1 => ?_⟩
  · skip
    intro h2 eh2 Xh2
    have w_ : wyE S true x9 x10 = (5 : Int32) := by
      unfold wyE
      simp only [i3_lt, i3_le, i6_lt, i6_le, i3_eq, i3_l, Int32.reduceToInt, Int64.reduceToInt, tm_1, tl_1, fV, fL, fw] at c1
      simp only [true_and]
      (repeat' split) <;> first | rfl | (exfalso; omega)
    subst eh2
    exact Kf (by rw [w_]; decide) _ (by rw [w_]; exact mpo.mk (A := []) (Z := [0]) (by decide) (mch.rf.zI (by decide)) (by rw [mv_zI, eS]; exact kept.rf))
  · skip
    refine ⟨fun c2 => ?_, fun c2 => ?_⟩
    · skip
      intro h4 eh4 Xh4
      have w_ : wyE S true x9 x10 = (5 : Int32) := by
        unfold wyE
        simp only [i3_lt, i3_le, i6_lt, i6_le, i3_eq, i3_l, Int32.reduceToInt, Int64.reduceToInt, tm_1, tl_1, fV, fL, fw] at c1 c2
        simp only [true_and]
        (repeat' split) <;> first | rfl | (exfalso; omega)
      subst eh4
      exact Kf (by rw [w_]; decide) _ (by rw [w_]; exact mpo.mk (A := []) (Z := [0]) (by decide) (mch.rf.zI (by decide)) (by rw [mv_zI, eS]; exact kept.rf))
    · skip
      refine ⟨fun c3 => ?_, fun c3 => ?_⟩
      · skip
        intro h6 eh6 Xh6
        have w_ : wyE S true x9 x10 = (5 : Int32) := by
          unfold wyE
          simp only [i3_lt, i3_le, i6_lt, i6_le, i3_eq, i3_l, Int32.reduceToInt, Int64.reduceToInt, tm_1, tl_1, fV, fL, fw] at c1 c2 c3
          simp only [true_and]
          (repeat' split) <;> first | rfl | (exfalso; omega)
        subst eh6
        exact Kf (by rw [w_]; decide) _ (by rw [w_]; exact mpo.mk (A := []) (Z := [0]) (by decide) (mch.rf.zI (by decide)) (by rw [mv_zI, eS]; exact kept.rf))
      · skip
        refine ⟨fun c4 => ?_, fun c4 => ?_⟩
        · skip
          intro h8 eh8 Xh8
          have w_ : wyE S true x9 x10 = (5 : Int32) := by
            unfold wyE
            simp only [i3_lt, i3_le, i6_lt, i6_le, i3_eq, i3_l, Int32.reduceToInt, Int64.reduceToInt, tm_1, tl_1, fV, fL, fw] at c1 c2 c3 c4
            simp only [true_and]
            (repeat' split) <;> first | rfl | (exfalso; omega)
          subst eh8
          exact Kf (by rw [w_]; decide) _ (by rw [w_]; exact mpo.mk (A := []) (Z := [0]) (by decide) (mch.rf.zI (by decide)) (by rw [mv_zI, eS]; exact kept.rf))
        · skip
          refine ⟨fun c5 => ?_, fun c5 => ?_⟩
          · skip
            refine ⟨fun c6 => ?_, fun c6 => ?_⟩
            · skip
              intro h11 eh11 Xh11
              have w_ : wyE S true x9 x10 = (12 : Int32) := by
                unfold wyE
                simp only [i3_lt, i3_le, i6_lt, i6_le, i3_eq, i3_l, Int32.reduceToInt, Int64.reduceToInt, tm_1, tl_1, fV, fL, fw] at c1 c2 c3 c4 c5 c6
                simp only [true_and]
                (repeat' split) <;> first | rfl | (exfalso; omega)
              subst eh11
              exact Kf (by rw [w_]; decide) _ (by rw [w_]; exact mpo.mk (A := []) (Z := [0]) (by decide) (mch.rf.zI (by decide)) (by rw [mv_zI, eS]; exact kept.rf))
            · skip
              refine ⟨fun c7 => ?_, fun c7 => ?_⟩
              · skip
                refine ⟨?_, ?_⟩
                · exact vp_x (by rw [fV]; omega) (by rw [fV]; simp only [i3_lt, i3_le, i6_lt, i6_le, i3_eq, i3_l, Int32.reduceToInt, Int64.reduceToInt, tm_1, tl_1, fV] at c1 c2 c3 c4 c5 c6 c7; omega)
                intro h14 eh14 Xh14
                intro h15 eh15 Xh15
                intro h16 eh16 Xh16
                intro h17 eh17 Xh17
                intro h18 eh18 Xh18
                intro h19 eh19 Xh19
                intro h20 eh20 Xh20
                intro h21 eh21 Xh21
                intro h22 eh22 Xh22
                intro h23 eh23 Xh23
                intro h24 eh24 Xh24
                intro h25 eh25 Xh25
                intro h26 eh26 Xh26
                have w_ : wyE S true x9 x10 = (0 : Int32) := by
                  unfold wyE
                  simp only [i3_lt, i3_le, i6_lt, i6_le, i3_eq, i3_l, Int32.reduceToInt, Int64.reduceToInt, tm_1, tl_1, fV, fL, fw] at c1 c2 c3 c4 c5 c6 c7
                  simp only [true_and]
                  (repeat' split) <;> first | rfl | (exfalso; omega)
                subst eh14
                subst eh15
                subst eh16
                subst eh17
                subst eh18
                subst eh19
                subst eh20
                subst eh21
                subst eh22
                subst eh23
                subst eh24
                subst eh25
                subst eh26
                have en : (S.1 0 7).toNatClampNeg = nV S := rfl
                simp only [mk_z0 eS 7, en]
                exact Kg w_ _ (mpo.mk (A := [9, 10, 11, 12, 13, 14, 15, 16, 17, 18]) (Z := [7, 9, 10]) (by decide) (((((((((((((mch.rf.wI (by decide)).wI (by decide)).wI (by decide)).wI (by decide)).wI (by decide)).wI (by decide)).wI (by decide)).wI (by decide)).wI (by decide)).wI (by decide)).zI (by decide)).zI (by decide)).zI (by decide)) (by rw [mv_zI, mv_zI, mv_zI, mv_wI, mv_wI, mv_wI, mv_wI, mv_wI, mv_wI, mv_wI, mv_wI, mv_wI, mv_wI, eS]; exact sgE_k kept.rf))
              · skip
                intro h27 eh27 Xh27
                have w_ : wyE S true x9 x10 = (12 : Int32) := by
                  unfold wyE
                  simp only [i3_lt, i3_le, i6_lt, i6_le, i3_eq, i3_l, Int32.reduceToInt, Int64.reduceToInt, tm_1, tl_1, fV, fL, fw] at c1 c2 c3 c4 c5 c6 c7
                  simp only [true_and]
                  (repeat' split) <;> first | rfl | (exfalso; omega)
                subst eh27
                exact Kf (by rw [w_]; decide) _ (by rw [w_]; exact mpo.mk (A := []) (Z := [0]) (by decide) (mch.rf.zI (by decide)) (by rw [mv_zI, eS]; exact kept.rf))
          · skip
            intro h28 eh28 Xh28
            have w_ : wyE S true x9 x10 = (7 : Int32) := by
              unfold wyE
              simp only [i3_lt, i3_le, i6_lt, i6_le, i3_eq, i3_l, Int32.reduceToInt, Int64.reduceToInt, tm_1, tl_1, fV, fL, fw] at c1 c2 c3 c4 c5
              simp only [true_and]
              (repeat' split) <;> first | rfl | (exfalso; omega)
            subst eh28
            exact Kf (by rw [w_]; decide) _ (by rw [w_]; exact mpo.mk (A := []) (Z := [0]) (by decide) (mch.rf.zI (by decide)) (by rw [mv_zI, eS]; exact kept.rf))
end

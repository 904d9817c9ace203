/-! ===== breach: the model ===== -/
section
variable {G : ma_G} {d M X o : Nat} {h : ah_T} {S : MS} {Q : Option ma_V → ah_T → Prop} {E : Nat → ah_T → Prop} {tx : Nat → List Nat × List PD}
/-- told, cut, the values being laid -/
theorem m_ask2 {g : ah_T} {x : Int32} {w : Nat} {wo lo hi : Int64} {vs : Nat → Int64} (L : LY8 h M) (eS : mv h M = S) (T : TXm S tx) (hw : w < 1099511627776) (z : mch [45] [] M h g) (e : ∀ j, j < 11 → ah_J g (M + 45) j = vs j) (h1 : lo.toInt ≤ wo.toInt) (h2 : wo.toInt ≤ hi.toInt)
    (K : ∀ g2 v, mch [44, 45, 46, 47, 48] [72, 108] M h g2 → jCut v lo hi = askS S tx vs x w wo lo hi → Q (some (jv v)) g2) :
    MX G mi_X8_told (d + 4) 0 [some (rv M), some (jv (lN w)), none, some (iv x), some (jv wo), none, none, none, none] [] g Q E := by
  have hJ : ∀ k, ah_J h (M + 42) k = S.2 42 k := fun k => congrFun (congrFun (congrArg Prod.snd eS) 42) k
  refine m_told (S := S) (tx := tx) (z.ly L) T hw (by rw [z.sc 56 (by decide) (by decide)]; exact mk_z0 eS 56) (fun a ha k => ?_) (fun k => by rw [z.arJ 42 (by decide) (by decide)]; exact hJ k) (fun g2 z2 => K g2 _ ((z.mono (by decide) (by decide)).tr (z2.mono (by decide) (by decide))) ?_)
  · simp only [List.mem_cons, List.not_mem_nil, or_false] at ha
    rcases ha with q | q | q | q <;> subst q <;> rw [z.ar _ (by decide) (by decide)] <;> exact mk_r eS _ k
  · rw [ask_cut h1 h2, tolS_vs T e]
theorem m_breachOf (L : LY8 h M) (eS : mv h M = S) (W : WF S) (B : nF S ≤ 20) (T : TXm S tx) (ho : o < nO S) (K : ∀ g, mch [44, 45, 46, 47, 48] [72, 108] M h g → Q (some (jv (brS S tx o))) g) : MX G mi_X8_breachOf (d + 5) 0 [some (rv M), some (iv (nI o)), none, none] [] h Q E := by
  obtain ⟨o60, wo⟩ := W.2.2.2.2.2.1
  obtain ⟨w1, w2, w3, w4⟩ := wo o ho
  obtain ⟨f1, f2⟩ := x_nI (x := S.1 56 o) (n := 19) w1.1 (by have := w1.2; omega)
  have f3 : (S.1 56 o).toNatClampNeg < nF S := by have := w1.2; rw [f1, nI_x (by omega)] at this; omega
  obtain ⟨y1, y2⟩ := y52 w2
  have sf := (W.2.1 _ f3).2.2.2.1
  unfold brS at K
  have ei : (10 : Int32) * S.1 56 o + S.1 57 o / (52 : Int32) = nI (10 * (S.1 56 o).toNatClampNeg + (S.1 57 o).toNatClampNeg / 52) := by
    rw [y1, show (10 : Int32) = nI 10 from rfl]
    conv => lhs; rw [f1]
    rw [pk_mul, nI_add]
  refine v_X8_breachOf (d := d + 4) L ?_
  rw [nI_clamp (by omega), mk_r eS, mk_r eS, mk_r eS, mk_r eS, ei, nI_clamp (by omega), mk_r eS]
  have y3 : (S.1 57 o / (52 : Int32)).toNatClampNeg = (S.1 57 o).toNatClampNeg / 52 := by rw [y1, nI_clamp (by omega)]
  rw [y3] at K
  simp only [i6_lt, i3_lt, i3_l]
  refine ⟨vp_in_nI (by omega) (by decide), by rw [f1]; exact vp_in_nI (by omega) (by decide), fun z1 => ?_, fun z1 => ⟨fun z2 => ?_, fun z2 => ⟨fun z3 => ?_, fun z3 => ⟨vp_in_nI (by omega) (by decide), fun z4 => ?_, fun z4 => ?_⟩⟩⟩⟩
  · have : S.1 53 (S.1 56 o).toNatClampNeg = -1 := by
      rcases sf with q | q
      · exact q
      · have := q.1.1; exact absurd z1 (by show ¬ _ < (0 : Int); omega)
    rw [if_pos (Or.inl this)] at K; exact K h mch.rf
  · rw [if_pos (Or.inr (Or.inl z2))] at K; exact K h mch.rf
  · rw [if_pos (Or.inr (Or.inr (Or.inl z3)))] at K; exact K h mch.rf
  · have z0 : ¬ S.1 53 (S.1 56 o).toNatClampNeg = -1 := fun q => z1 (by rw [q]; decide)
    rw [if_neg (by rintro (q | q | q | q); exact z0 q; omega; omega; exact q z4)] at K
    refine m_letNothing L (fun g z zz => ?_)
    intro _ h10 e10 _ h11 e11 _ h12 e12 _ h13 e13 _ h14 e14 _ h15 e15 _ h16 e16 _
    have R : ∀ a k, a ≠ 45 → a ≠ 0 → ah_I g (M + a) k = S.1 a k := fun a k h1 h2 => by rw [z.ar a (by simpa using h1) h2]; exact mk_r eS a k
    rw [R 57 _ (by decide) (by decide)] at e10
    rw [R 58 _ (by decide) (by decide)] at e12
    rw [R 5 _ (by decide) (by decide)] at e13
    rw [R 6 _ (by decide) (by decide)] at e14
    rw [R 4 _ (by decide) (by decide)] at e15
    rw [R 59 _ (by decide) (by decide)] at e16
    rw [R 57 _ (by decide) (by decide)]
    have z16 : mch [45] [] M h h16 := by rw [e16, e15, e14, e13, e12, e11, e10]; exact ((((((z.wJ (by decide)).wJ (by decide)).wJ (by decide)).wJ (by decide)).wJ (by decide)).wJ (by decide)).wJ (by decide)
    rw [show (86148200 : Int64) = lN 86148200 from rfl]
    refine m_ask2 (d := d) (vs := vbr S o) (lo := 0) (hi := 1000) L eS T (by decide) z16 (fun j hj => ?_) (by decide) (by decide) (fun g2 v z2 ev => ?_)
    · unfold vbr
      rw [e16, rd_JJ]
      by_cases q10 : j = 10
      · rw [if_pos ⟨rfl, q10⟩, if_pos q10]
      rw [if_neg (fun q => q10 q.2), if_neg q10, e15, rd_JJ]
      by_cases q7 : j = 7
      · rw [if_pos ⟨rfl, q7⟩, if_pos q7]
      rw [if_neg (fun q => q7 q.2), if_neg q7, e14, rd_JJ]
      by_cases q6 : j = 6
      · rw [if_pos ⟨rfl, q6⟩, if_pos q6]
      rw [if_neg (fun q => q6 q.2), if_neg q6, e13, rd_JJ]
      by_cases q5 : j = 5
      · rw [if_pos ⟨rfl, q5⟩, if_pos q5]
      rw [if_neg (fun q => q5 q.2), if_neg q5, e12, rd_JJ]
      by_cases q4 : j = 4
      · rw [if_pos ⟨rfl, q4⟩, if_pos q4]
      rw [if_neg (fun q => q4 q.2), if_neg q4, e11, rd_JJ]
      by_cases q3 : j = 3
      · rw [if_pos ⟨rfl, q3⟩, if_pos q3]
      rw [if_neg (fun q => q3 q.2), if_neg q3, e10, rd_JJ]
      by_cases q2 : j = 2
      · rw [if_pos ⟨rfl, q2⟩, if_pos q2]
      rw [if_neg (fun q => q2 q.2), if_neg q2]
      exact zz j hj
    · intro _
      rw [ev]; exact K g2 z2
  · rw [if_pos (Or.inr (Or.inr (Or.inr z4)))] at K; exact K h mch.rf
end

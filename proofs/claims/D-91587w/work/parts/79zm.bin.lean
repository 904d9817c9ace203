/-! ===== bin, port, sum ===== -/
/-- of a row one farm's, or all -/
def rwV (r : Nat → Nat) (x : Int32) : Int32 := if x = -1 then nI (sN r 20) else nI (r x.toNatClampNeg)
/-- as a loop sums it -/
def rwL (r : Nat → Nat) (x : Int32) (n : Nat) : Nat := if x = -1 then sN r n else if x.toNatClampNeg < n then r x.toNatClampNeg else 0
section
variable {G : ma_G} {d M X m : Nat} {P : PS} {h g : ah_T} {r : Nat → Nat} {S : MS} {Q : Option ma_V → ah_T → Prop} {E : Nat → ah_T → Prop} {x x1 x2 x3 : Int32}
theorem rwL_0 : rwL r x 0 = 0 := by
  unfold rwL
  split
  · rfl
  · rw [if_neg (by omega)]
theorem rwL_1 {n : Nat} (hx : x = -1) : rwL r x (n + 1) = rwL r x n + r n := by
  unfold rwL; rw [if_pos hx, if_pos hx]; rfl
theorem rwL_2 {n : Nat} (hx : ¬ x = -1) (hn : n < 2147483648) (h0 : 0 ≤ x.toInt) (e : x = nI n) : rwL r x (n + 1) = rwL r x n + r n := by
  have q : x.toNatClampNeg = n := by rw [e, nI_clamp (by omega)]
  unfold rwL; rw [if_neg hx, if_neg hx, if_pos (by omega), if_neg (by omega), q, Nat.zero_add]
theorem rwL_3 {n : Nat} (hx : ¬ x = -1) (h0 : 0 ≤ x.toInt) (h1 : x.toInt < 20) (e : ¬ x = nI n) : rwL r x (n + 1) = rwL r x n := by
  have q : x.toNatClampNeg ≠ n := fun q => e (by rw [← q]; exact (x_nI (n := 20) h0 (by show x.toInt ≤ (20 : Int); omega)).1)
  unfold rwL; rw [if_neg hx, if_neg hx]
  by_cases c : x.toNatClampNeg < n
  · rw [if_pos c, if_pos (by omega)]
  · rw [if_neg c, if_neg (by omega)]
theorem rwL_V (hx : x = -1 ∨ (0 ≤ x.toInt ∧ x.toInt < 20)) : nI (rwL r x 20) = rwV r x := by
  unfold rwL rwV
  by_cases c : x = -1
  · rw [if_pos c, if_pos c]
  · have hx := hx.resolve_left c
    have := x_cl (x := x) hx.1
    rw [if_neg c, if_neg c, if_pos (by omega)]
/-- fewer farms, the others having nothing -/
theorem rwL_m (hm : m ≤ 20) (hz : ∀ f, m ≤ f → f < 20 → r f = 0) (hx : x = -1 ∨ (0 ≤ x.toInt ∧ x.toInt < m)) : rwL r x m = rwL r x 20 := by
  unfold rwL
  by_cases c : x = -1
  · rw [if_pos c, if_pos c]; exact (sN_cut hm hz).symm
  · have hx := hx.resolve_left c
    have := x_cl (x := x) hx.1
    rw [if_neg c, if_neg c, if_pos (by omega), if_pos (by omega)]
theorem m_bin73 {e gr yr : Nat} (L : LY8 h M) (C : MPl h M P) (he : e < 8) (hg : gr < 6) (hy : yr < 10) (hx : x = -1 ∨ (0 ≤ x.toInt ∧ x.toInt < 20)) (K : Q (some (iv (rwV (P e (10 * gr + yr)) x))) h) : MX G mi_X8_bin (d + 3) 73 [some (rv M), some (iv (nI e)), some (iv (nI gr)), some (iv (nI yr)), some (iv x), none, some (iv (0 : Int32)), some (iv (0 : Int32))] [] h Q E := by
  suffices H : MX G mi_X8_bin (d + 3) 73 [some (rv M), some (iv (nI e)), some (iv (nI gr)), some (iv (nI yr)), some (iv x), none, some (iv (nI (rwL (P e (10 * gr + yr)) x 0))), some (iv (nI 0))] [] h Q E by
    rw [rwL_0] at H; exact H
  refine mx_up (α := Unit) (fun f _ => [some (rv M), some (iv (nI e)), some (iv (nI gr)), some (iv (nI yr)), some (iv x), none, some (iv (nI (rwL (P e (10 * gr + yr)) x f))), some (iv (nI f))]) 20 (fun f _ g => g = h) (fun f _ g hf q KK => ?_) (fun _ g q => ?_) 0 () h (Nat.zero_le _) rfl
  · subst q
    refine v_X8_bin_73 L ⟨fun c => ?_, fun _ => ?_⟩
    · exfalso; rw [i3_le, nI_x (by omega)] at c; have : (20 : Int) ≤ (f : Int) := c; omega
    rw [binAt_n, nI_add, nI_clamp (n := 20 * (60 * e + (10 * gr + yr)) + f) (by omega), C.1 e (10 * gr + yr) f he (by omega) hf, nI_1, nI_add]
    refine ⟨fun c => ⟨vp_in_nI (by omega) (by decide), ?_⟩, fun c => ⟨fun c2 => ?_, fun c2 => ⟨vp_in_nI (by omega) (by decide), ?_⟩⟩⟩
    · rw [← rwL_1 c]; exact KK () g rfl
    · have k := KK () g rfl
      rw [rwL_3 c (hx.resolve_left c).1 (hx.resolve_left c).2 c2] at k
      rw [Int32.add_zero]; exact k
    · rw [← rwL_2 c (by omega) (hx.resolve_left c).1 c2]; exact KK () g rfl
  · subst q
    refine v_X8_bin_73 L ⟨fun _ => ?_, fun c => absurd (by decide) c⟩
    rw [rwL_V hx]; exact K
theorem m_port75 {e gr yr : Nat} (L : LY8 h M) (C : MPl h M P) (he : e < 2) (hg : gr < 6) (hy : yr < 10) (hx : x = -1 ∨ (0 ≤ x.toInt ∧ x.toInt < 20)) (K : Q (some (iv (rwV (P (8 + e) (10 * gr + yr)) x))) h) : MX G mi_X8_port (d + 3) 75 [some (rv M), some (iv (nI e)), some (iv (nI gr)), some (iv (nI yr)), some (iv x), none, some (iv (0 : Int32)), some (iv (0 : Int32))] [] h Q E := by
  suffices H : MX G mi_X8_port (d + 3) 75 [some (rv M), some (iv (nI e)), some (iv (nI gr)), some (iv (nI yr)), some (iv x), none, some (iv (nI (rwL (P (8 + e) (10 * gr + yr)) x 0))), some (iv (nI 0))] [] h Q E by
    rw [rwL_0] at H; exact H
  refine mx_up (α := Unit) (fun f _ => [some (rv M), some (iv (nI e)), some (iv (nI gr)), some (iv (nI yr)), some (iv x), none, some (iv (nI (rwL (P (8 + e) (10 * gr + yr)) x f))), some (iv (nI f))]) 20 (fun f _ g => g = h) (fun f _ g hf q KK => ?_) (fun _ g q => ?_) 0 () h (Nat.zero_le _) rfl
  · subst q
    refine v_X8_port_75 L ⟨fun c => ?_, fun _ => ?_⟩
    · exfalso; rw [i3_le, nI_x (by omega)] at c; have : (20 : Int) ≤ (f : Int) := c; omega
    rw [binAt_n, nI_add, nI_clamp (n := 20 * (60 * e + (10 * gr + yr)) + f) (by omega), C.2.1 e (10 * gr + yr) f he (by omega) hf, nI_1, nI_add]
    refine ⟨fun c => ⟨vp_in_nI (by omega) (by decide), ?_⟩, fun c => ⟨fun c2 => ?_, fun c2 => ⟨vp_in_nI (by omega) (by decide), ?_⟩⟩⟩
    · rw [← rwL_1 c]; exact KK () g rfl
    · have k := KK () g rfl
      rw [rwL_3 c (hx.resolve_left c).1 (hx.resolve_left c).2 c2] at k
      rw [Int32.add_zero]; exact k
    · rw [← rwL_2 c (by omega) (hx.resolve_left c).1 c2]; exact KK () g rfl
  · subst q
    refine v_X8_port_75 L ⟨fun _ => ?_, fun c => absurd (by decide) c⟩
    rw [rwL_V hx]; exact K
theorem c_sum133 {i : Nat} (L : LY0 h X) (C : CI0 h X S) (cp : CPl h (X + 9) P) (hi : i < 4) (hz : ∀ f, nF S ≤ f → f < 20 → P (11 + i) 0 f = 0) (hx : x1 = -1 ∨ (0 ≤ x1.toInt ∧ x1.toInt < nF S)) (K : ∀ h2, h2 = ah_wI h X 20 0 → Q (some (iv (rwV (P (11 + i) 0) x1))) h2) : MX G mi_X0_sum (d + 1) 133 [some (rv X), some (iv x1), none, none, some (rv (X + 9 + (89 + i))), some (iv (0 : Int32)), some (iv (0 : Int32))] [] h Q E := by
  have f20 := C.iF.2
  have hx2 : x1 = -1 ∨ (0 ≤ x1.toInt ∧ x1.toInt < 20) := hx.imp (fun q => q) (fun q => ⟨q.1, by omega⟩)
  obtain ⟨kr, lr⟩ := ly1_rows L.2.1 hi
  suffices H : MX G mi_X0_sum (d + 1) 133 [some (rv X), some (iv x1), none, none, some (rv (X + 9 + (89 + i))), some (iv (nI (rwL (P (11 + i) 0) x1 0))), some (iv (nI 0))] [] h Q E by
    rw [rwL_0] at H; exact H
  refine mx_up (α := Unit) (fun f _ => [some (rv X), some (iv x1), none, none, some (rv (X + 9 + (89 + i))), some (iv (nI (rwL (P (11 + i) 0) x1 f))), some (iv (nI f))]) (nF S) (fun f _ g => g = h) (fun f _ g hf q KK => ?_) (fun _ g q => ?_) 0 () h (Nat.zero_le _) rfl
  · subst q
    refine v_X0_sum_133 L ⟨fun c => ?_, fun _ => ?_⟩
    · exfalso; rw [C.iF.1, i3_le, nI_x (by omega), nI_x (by omega)] at c; omega
    have A : aok g 40 (X + 9 + (89 + i)) (nI f) := ⟨kr, by rw [lr]; exact vp_in_nI (by omega) (by decide)⟩
    rw [nI_clamp (n := f) (by omega), cp.2.2.1 i f hi (by omega), nI_1, nI_add]
    refine ⟨fun c => ⟨A, ?_⟩, fun c => ⟨fun c2 => ?_, fun c2 => ⟨A, ?_⟩⟩⟩
    · rw [← rwL_1 c]; exact KK () g rfl
    · have k := KK () g rfl
      rw [rwL_3 c (hx.resolve_left c).1 (hx2.resolve_left c).2 c2] at k
      rw [Int32.add_zero]; exact k
    · rw [← rwL_2 c (by omega) (hx.resolve_left c).1 c2]; exact KK () g rfl
  · subst q
    refine v_X0_sum_133 L ⟨fun _ h2 e2 _ => ?_, fun c => absurd (by rw [C.iF.1, i3_le]; exact Int.le_refl _) c⟩
    rw [rwL_m f20 hz hx, rwL_V hx2]; exact K h2 e2
theorem m_sum81 {i : Nat} (L : LY8 h M) (C : MPl h M P) (hi : i < 4) (hx : x1 = -1 ∨ (0 ≤ x1.toInt ∧ x1.toInt < 20)) (K : Q (some (iv (rwV (P (11 + i) 0) x1))) h) : MX G mi_X8_sum (d + 3) 81 [some (rv M), some (iv x1), some (iv (nI i)), none, some (iv (0 : Int32)), some (iv (0 : Int32))] [] h Q E := by
  suffices H : MX G mi_X8_sum (d + 3) 81 [some (rv M), some (iv x1), some (iv (nI i)), none, some (iv (nI (rwL (P (11 + i) 0) x1 0))), some (iv (nI 0))] [] h Q E by
    rw [rwL_0] at H; exact H
  refine mx_up (α := Unit) (fun f _ => [some (rv M), some (iv x1), some (iv (nI i)), none, some (iv (nI (rwL (P (11 + i) 0) x1 f))), some (iv (nI f))]) 20 (fun f _ g => g = h) (fun f _ g hf q KK => ?_) (fun _ g q => ?_) 0 () h (Nat.zero_le _) rfl
  · subst q
    have go : ∀ v, v = nI (rwL (P (11 + i) 0) x1 f) → rwL (P (11 + i) 0) x1 (f + 1) = rwL (P (11 + i) 0) x1 f + P (11 + i) 0 f → MX G mi_X8_sum (d + 3) 102 [some (rv M), some (iv x1), some (iv (nI i)), none, some (iv v), some (iv (nI f))] [] g Q E := fun v hv e => by
      subst hv
      have k := KK () g rfl
      rw [e, ← nI_add, ← C.2.2.1 i f hi hf, ← nI_1] at k
      refine v_X8_sum_102 L ?_
      rw [nI_clamp (n := f) (by omega)]
      have : i = 0 ∨ i = 1 ∨ i = 2 ∨ i = 3 := by omega
      rcases this with q | q | q | q <;> subst q
      · exact ⟨fun c => absurd rfl c, fun _ => ⟨vp_in_nI hf (by decide), k⟩⟩
      · exact ⟨fun _ => ⟨fun c => absurd rfl c, fun _ => ⟨vp_in_nI hf (by decide), k⟩⟩, fun c => absurd c (by decide)⟩
      · exact ⟨fun _ => ⟨fun _ => ⟨fun c => absurd rfl c, fun _ => ⟨vp_in_nI hf (by decide), k⟩⟩, fun c => absurd c (by decide)⟩, fun c => absurd c (by decide)⟩
      · exact ⟨fun _ => ⟨fun _ => ⟨fun _ => ⟨vp_in_nI hf (by decide), k⟩, fun c => absurd c (by decide)⟩, fun c => absurd c (by decide)⟩, fun c => absurd c (by decide)⟩
    refine v_X8_sum_81 L ⟨fun c => ?_, fun _ => ⟨fun c => ?_, fun c => ⟨fun c2 => ?_, fun c2 => ?_⟩⟩⟩
    · exfalso; rw [i3_le, nI_x (by omega)] at c; have : (20 : Int) ≤ (f : Int) := c; omega
    · exact go _ rfl (rwL_1 c)
    · exact go _ rfl (rwL_2 c (by omega) (hx.resolve_left c).1 c2)
    · have k := KK () g rfl
      rw [rwL_3 c (hx.resolve_left c).1 (hx.resolve_left c).2 c2] at k
      rw [nI_1]; exact k
  · subst q
    refine v_X8_sum_81 L ⟨fun _ => ?_, fun c => absurd (by decide) c⟩
    rw [rwL_V hx]; exact K
end
def smV (P : PS) (x1 x2 : Int32) : Int32 := if x2 = 4 then nI (P 15 0 0) else rwV (P (11 + x2.toNatClampNeg) 0) x1
def wy_bin (S : MS) (x1 x2 x3 x4 x5 : Int32) : Int32 := if (0 ≤ x1.toInt ∧ x1.toInt ≤ ((nE) S : Int) - 1) ∧ (0 ≤ x2.toInt ∧ x2.toInt ≤ 5) ∧ (x4.toInt = -1 ∨ (0 ≤ x4.toInt ∧ x4.toInt ≤ ((nF) S : Int) - 1)) then (if (0 ≤ x3.toInt ∧ x3.toInt ≤ 9) ∧ (0 ≤ x5.toInt ∧ x5.toInt ≤ 519) then 0 else 5) else 2
theorem c_bin {G : ma_G} {d X : Nat} {h : ah_T} {S : MS} {tx : Nat → List Nat × List PD} {Q : Option ma_V → ah_T → Prop} {E : Nat → ah_T → Prop} {x1 x2 x3 x4 x5 : Int32} (L : LY0 h X) (C : CI0 h X S) (T : CIk G h X S tx)  (Kf : wy_bin S x1 x2 x3 x4 x5 ≠ 0 → ∀ h1, cpo X h h1 (uI S 0 0 (wy_bin S x1 x2 x3 x4 x5)) → Q (some (iv (-1))) h1) (Kg : wy_bin S x1 x2 x3 x4 x5 = 0 → ∀ h1, cpo X h h1 (uI S 0 0 0) → Q (some (iv (rwV (PLS S tx x5 (nV S) x1.toNatClampNeg (10 * x2.toNatClampNeg + x3.toNatClampNeg)) x4))) h1) : MX G mi_X0_bin (d + 53) 0 [some (rv X), some (iv x1), some (iv x2), some (iv x3), some (iv x4), some (iv x5)] [] h Q E := by
  have bE := C.iE.2
  have fE : (ah_I h X 15).toInt = (nE S : Int) := by rw [C.iE.1]; exact nI_x (by omega)
  have bF := C.iF.2
  have fF : (ah_I h X 14).toInt = (nF S : Int) := by rw [C.iF.1]; exact nI_x (by omega)
  refine v_X0_bin (d := d + 51) L ?_
  refine ⟨fun c1 => ?_, fun c1 => ?_⟩
  · skip
    intro h2_1 eh2_1 Xh2_1
    have w_ : wy_bin S x1 x2 x3 x4 x5 = (2 : Int32) := by
      unfold wy_bin
      simp only [i3_lt, i3_le, i6_lt, i6_le, i3_eq, i3_l, Int32.reduceToInt, Int64.reduceToInt, tm_1, tl_1, fE, fF] at c1
      repeat' split
      all_goals first | rfl | (exfalso; omega)
    subst eh2_1
    exact Kf (by rw [w_]; decide) _ (by rw [w_]; exact cpo.st L C Xh2_1)
  · skip
    refine ⟨fun c2 => ?_, fun c2 => ?_⟩
    · skip
      intro h4_2 eh4_2 Xh4_2
      have w_ : wy_bin S x1 x2 x3 x4 x5 = (2 : Int32) := by
        unfold wy_bin
        simp only [i3_lt, i3_le, i6_lt, i6_le, i3_eq, i3_l, Int32.reduceToInt, Int64.reduceToInt, tm_1, tl_1, fE, fF] at c1 c2
        repeat' split
        all_goals first | rfl | (exfalso; omega)
      subst eh4_2
      exact Kf (by rw [w_]; decide) _ (by rw [w_]; exact cpo.st L C Xh4_2)
    · skip
      refine ⟨fun c3 => ?_, fun c3 => ?_⟩
      · skip
        intro h6_3 eh6_3 Xh6_3
        have w_ : wy_bin S x1 x2 x3 x4 x5 = (2 : Int32) := by
          unfold wy_bin
          simp only [i3_lt, i3_le, i6_lt, i6_le, i3_eq, i3_l, Int32.reduceToInt, Int64.reduceToInt, tm_1, tl_1, fE, fF] at c1 c2 c3
          repeat' split
          all_goals first | rfl | (exfalso; omega)
        subst eh6_3
        exact Kf (by rw [w_]; decide) _ (by rw [w_]; exact cpo.st L C Xh6_3)
      · skip
        refine ⟨fun c4 => ?_, fun c4 => ?_⟩
        · skip
          intro h8_4 eh8_4 Xh8_4
          have w_ : wy_bin S x1 x2 x3 x4 x5 = (2 : Int32) := by
            unfold wy_bin
            simp only [i3_lt, i3_le, i6_lt, i6_le, i3_eq, i3_l, Int32.reduceToInt, Int64.reduceToInt, tm_1, tl_1, fE, fF] at c1 c2 c3 c4
            repeat' split
            all_goals first | rfl | (exfalso; omega)
          subst eh8_4
          exact Kf (by rw [w_]; decide) _ (by rw [w_]; exact cpo.st L C Xh8_4)
        · skip
          refine ⟨fun c5 => ?_, fun c5 => ?_⟩
          · skip
            refine v_X0_bin_36 (d := d + 51) L ?_
            refine ⟨fun c6 => ?_, fun c6 => ?_⟩
            · skip
              intro h2_5 eh2_5 Xh2_5
              have w_ : wy_bin S x1 x2 x3 x4 x5 = (5 : Int32) := by
                unfold wy_bin
                simp only [i3_lt, i3_le, i6_lt, i6_le, i3_eq, i3_l, Int32.reduceToInt, Int64.reduceToInt, tm_1, tl_1, fE, fF] at c1 c2 c3 c4 c5 c6
                repeat' split
                all_goals first | rfl | (exfalso; omega)
              subst eh2_5
              exact Kf (by rw [w_]; decide) _ (by rw [w_]; exact cpo.st L C Xh2_5)
            · skip
              refine ⟨fun c7 => ?_, fun c7 => ?_⟩
              · skip
                intro h4_6 eh4_6 Xh4_6
                have w_ : wy_bin S x1 x2 x3 x4 x5 = (5 : Int32) := by
                  unfold wy_bin
                  simp only [i3_lt, i3_le, i6_lt, i6_le, i3_eq, i3_l, Int32.reduceToInt, Int64.reduceToInt, tm_1, tl_1, fE, fF] at c1 c2 c3 c4 c5 c6 c7
                  repeat' split
                  all_goals first | rfl | (exfalso; omega)
                subst eh4_6
                exact Kf (by rw [w_]; decide) _ (by rw [w_]; exact cpo.st L C Xh4_6)
              · skip
                refine ⟨fun c8 => ?_, fun c8 => ?_⟩
                · skip
                  intro h6_7 eh6_7 Xh6_7
                  have w_ : wy_bin S x1 x2 x3 x4 x5 = (5 : Int32) := by
                    unfold wy_bin
                    simp only [i3_lt, i3_le, i6_lt, i6_le, i3_eq, i3_l, Int32.reduceToInt, Int64.reduceToInt, tm_1, tl_1, fE, fF] at c1 c2 c3 c4 c5 c6 c7 c8
                    repeat' split
                    all_goals first | rfl | (exfalso; omega)
                  subst eh6_7
                  exact Kf (by rw [w_]; decide) _ (by rw [w_]; exact cpo.st L C Xh6_7)
                · skip
                  refine ⟨fun c9 => ?_, fun c9 => ?_⟩
                  · skip
                    intro h8_8 eh8_8 Xh8_8
                    have w_ : wy_bin S x1 x2 x3 x4 x5 = (5 : Int32) := by
                      unfold wy_bin
                      simp only [i3_lt, i3_le, i6_lt, i6_le, i3_eq, i3_l, Int32.reduceToInt, Int64.reduceToInt, tm_1, tl_1, fE, fF] at c1 c2 c3 c4 c5 c6 c7 c8 c9
                      repeat' split
                      all_goals first | rfl | (exfalso; omega)
                    subst eh8_8
                    exact Kf (by rw [w_]; decide) _ (by rw [w_]; exact cpo.st L C Xh8_8)
                  · skip
                    have w_ : wy_bin S x1 x2 x3 x4 x5 = (0 : Int32) := by
                      unfold wy_bin
                      simp only [i3_lt, i3_le, i6_lt, i6_le, i3_eq, i3_l, Int32.reduceToInt, Int64.reduceToInt, tm_1, tl_1, fE, fF] at c1 c2 c3 c4 c5 c6 c7 c8 c9
                      repeat' split
                      all_goals first | rfl | (exfalso; omega)
                    obtain ⟨nx11, nx12⟩ := x_nI (x := x1) (n := 7) (by simp only [i3_lt, i3_le, i6_lt, i6_le, i3_eq, i3_l, Int32.reduceToInt, Int64.reduceToInt, tm_1, tl_1, fE, fF] at c1 c2 c3 c4 c5 c6 c7 c8 c9 ⊢; omega) (by simp only [i3_lt, i3_le, i6_lt, i6_le, i3_eq, i3_l, Int32.reduceToInt, Int64.reduceToInt, tm_1, tl_1, fE, fF] at c1 c2 c3 c4 c5 c6 c7 c8 c9 ⊢; omega)
                    obtain ⟨nx21, nx22⟩ := x_nI (x := x2) (n := 5) (by simp only [i3_lt, i3_le, i6_lt, i6_le, i3_eq, i3_l, Int32.reduceToInt, Int64.reduceToInt, tm_1, tl_1, fE, fF] at c1 c2 c3 c4 c5 c6 c7 c8 c9 ⊢; omega) (by simp only [i3_lt, i3_le, i6_lt, i6_le, i3_eq, i3_l, Int32.reduceToInt, Int64.reduceToInt, tm_1, tl_1, fE, fF] at c1 c2 c3 c4 c5 c6 c7 c8 c9 ⊢; omega)
                    obtain ⟨nx31, nx32⟩ := x_nI (x := x3) (n := 9) (by simp only [i3_lt, i3_le, i6_lt, i6_le, i3_eq, i3_l, Int32.reduceToInt, Int64.reduceToInt, tm_1, tl_1, fE, fF] at c1 c2 c3 c4 c5 c6 c7 c8 c9 ⊢; omega) (by simp only [i3_lt, i3_le, i6_lt, i6_le, i3_eq, i3_l, Int32.reduceToInt, Int64.reduceToInt, tm_1, tl_1, fE, fF] at c1 c2 c3 c4 c5 c6 c7 c8 c9 ⊢; omega)
                    have hf : x4 = -1 ∨ (0 ≤ x4.toInt ∧ x4.toInt < (nF S : Int)) := by
                      simp only [i3_lt, i3_le, i6_lt, i6_le, i3_eq, i3_l, Int32.reduceToInt, Int64.reduceToInt, tm_1, tl_1, fE, fF] at c1 c2 c3 c4 c5 c6 c7 c8 c9 ⊢
                      omega
                    refine c_plays L C T (fun g I _ => ?_)
                    intro _
                    have Cg := C.qf L I.1
                    have hh := I.2.1.1 x1.toNatClampNeg (10 * x2.toNatClampNeg + x3.toNatClampNeg) (by omega) (by omega)
                    rw [show X + 9 + (97 + 22 * (10 * x2.toNatClampNeg + x3.toNatClampNeg) + 2 * x1.toNatClampNeg) = X + (106 + 22 * (10 * x2.toNatClampNeg + x3.toNatClampNeg) + 2 * x1.toNatClampNeg) by omega] at hh
                    refine ⟨by rw [nx11]; exact vp_in_nI (by omega) (by decide), by rw [nx21]; exact vp_in_nI (by omega) (by decide), by rw [nx31]; exact vp_in_nI (by omega) (by decide), fun q => ?_, fun q h18 e18 _ => ?_⟩
                    · have hf2 := hf.resolve_left q
                      have f20 := C.iF.2
                      have n4 : x4.toNatClampNeg < 20 := by
                        have := x_cl (x := x4) hf2.1
                        omega
                      refine ⟨vp_x hf2.1 (by show x4.toInt < (20 : Int); omega), fun h16 e16 _ => ?_⟩
                      have kk := Kg w_ _ (I.1.po L C (c := 0))
                      unfold rwV at kk
                      rw [if_neg q] at kk
                      rw [hh.1 _ n4, e16]; exact kk
                    · have kk := Kg w_ _ (I.1.po L C (c := 0))
                      unfold rwV at kk
                      rw [if_pos q] at kk
                      rw [hh.2, e18]; exact kk
          · skip
            refine ⟨fun c10 => ?_, fun c10 => ?_⟩
            · skip
              intro h11_9 eh11_9 Xh11_9
              have w_ : wy_bin S x1 x2 x3 x4 x5 = (2 : Int32) := by
                unfold wy_bin
                simp only [i3_lt, i3_le, i6_lt, i6_le, i3_eq, i3_l, Int32.reduceToInt, Int64.reduceToInt, tm_1, tl_1, fE, fF] at c1 c2 c3 c4 c5 c10
                repeat' split
                all_goals first | rfl | (exfalso; omega)
              subst eh11_9
              exact Kf (by rw [w_]; decide) _ (by rw [w_]; exact cpo.st L C Xh11_9)
            · skip
              refine ⟨fun c11 => ?_, fun c11 => ?_⟩
              · skip
                intro h13_10 eh13_10 Xh13_10
                have w_ : wy_bin S x1 x2 x3 x4 x5 = (2 : Int32) := by
                  unfold wy_bin
                  simp only [i3_lt, i3_le, i6_lt, i6_le, i3_eq, i3_l, Int32.reduceToInt, Int64.reduceToInt, tm_1, tl_1, fE, fF] at c1 c2 c3 c4 c5 c10 c11
                  repeat' split
                  all_goals first | rfl | (exfalso; omega)
                subst eh13_10
                exact Kf (by rw [w_]; decide) _ (by rw [w_]; exact cpo.st L C Xh13_10)
              · skip
                refine v_X0_bin_36 (d := d + 51) L ?_
                refine ⟨fun c12 => ?_, fun c12 => ?_⟩
                · skip
                  intro h2_11 eh2_11 Xh2_11
                  have w_ : wy_bin S x1 x2 x3 x4 x5 = (5 : Int32) := by
                    unfold wy_bin
                    simp only [i3_lt, i3_le, i6_lt, i6_le, i3_eq, i3_l, Int32.reduceToInt, Int64.reduceToInt, tm_1, tl_1, fE, fF] at c1 c2 c3 c4 c5 c10 c11 c12
                    repeat' split
                    all_goals first | rfl | (exfalso; omega)
                  subst eh2_11
                  exact Kf (by rw [w_]; decide) _ (by rw [w_]; exact cpo.st L C Xh2_11)
                · skip
                  refine ⟨fun c13 => ?_, fun c13 => ?_⟩
                  · skip
                    intro h4_12 eh4_12 Xh4_12
                    have w_ : wy_bin S x1 x2 x3 x4 x5 = (5 : Int32) := by
                      unfold wy_bin
                      simp only [i3_lt, i3_le, i6_lt, i6_le, i3_eq, i3_l, Int32.reduceToInt, Int64.reduceToInt, tm_1, tl_1, fE, fF] at c1 c2 c3 c4 c5 c10 c11 c12 c13
                      repeat' split
                      all_goals first | rfl | (exfalso; omega)
                    subst eh4_12
                    exact Kf (by rw [w_]; decide) _ (by rw [w_]; exact cpo.st L C Xh4_12)
                  · skip
                    refine ⟨fun c14 => ?_, fun c14 => ?_⟩
                    · skip
                      intro h6_13 eh6_13 Xh6_13
                      have w_ : wy_bin S x1 x2 x3 x4 x5 = (5 : Int32) := by
                        unfold wy_bin
                        simp only [i3_lt, i3_le, i6_lt, i6_le, i3_eq, i3_l, Int32.reduceToInt, Int64.reduceToInt, tm_1, tl_1, fE, fF] at c1 c2 c3 c4 c5 c10 c11 c12 c13 c14
                        repeat' split
                        all_goals first | rfl | (exfalso; omega)
                      subst eh6_13
                      exact Kf (by rw [w_]; decide) _ (by rw [w_]; exact cpo.st L C Xh6_13)
                    · skip
                      refine ⟨fun c15 => ?_, fun c15 => ?_⟩
                      · skip
                        intro h8_14 eh8_14 Xh8_14
                        have w_ : wy_bin S x1 x2 x3 x4 x5 = (5 : Int32) := by
                          unfold wy_bin
                          simp only [i3_lt, i3_le, i6_lt, i6_le, i3_eq, i3_l, Int32.reduceToInt, Int64.reduceToInt, tm_1, tl_1, fE, fF] at c1 c2 c3 c4 c5 c10 c11 c12 c13 c14 c15
                          repeat' split
                          all_goals first | rfl | (exfalso; omega)
                        subst eh8_14
                        exact Kf (by rw [w_]; decide) _ (by rw [w_]; exact cpo.st L C Xh8_14)
                      · skip
                        have w_ : wy_bin S x1 x2 x3 x4 x5 = (0 : Int32) := by
                          unfold wy_bin
                          simp only [i3_lt, i3_le, i6_lt, i6_le, i3_eq, i3_l, Int32.reduceToInt, Int64.reduceToInt, tm_1, tl_1, fE, fF] at c1 c2 c3 c4 c5 c10 c11 c12 c13 c14 c15
                          repeat' split
                          all_goals first | rfl | (exfalso; omega)
                        obtain ⟨nx11, nx12⟩ := x_nI (x := x1) (n := 7) (by simp only [i3_lt, i3_le, i6_lt, i6_le, i3_eq, i3_l, Int32.reduceToInt, Int64.reduceToInt, tm_1, tl_1, fE, fF] at c1 c2 c3 c4 c5 c10 c11 c12 c13 c14 c15 ⊢; omega) (by simp only [i3_lt, i3_le, i6_lt, i6_le, i3_eq, i3_l, Int32.reduceToInt, Int64.reduceToInt, tm_1, tl_1, fE, fF] at c1 c2 c3 c4 c5 c10 c11 c12 c13 c14 c15 ⊢; omega)
                        obtain ⟨nx21, nx22⟩ := x_nI (x := x2) (n := 5) (by simp only [i3_lt, i3_le, i6_lt, i6_le, i3_eq, i3_l, Int32.reduceToInt, Int64.reduceToInt, tm_1, tl_1, fE, fF] at c1 c2 c3 c4 c5 c10 c11 c12 c13 c14 c15 ⊢; omega) (by simp only [i3_lt, i3_le, i6_lt, i6_le, i3_eq, i3_l, Int32.reduceToInt, Int64.reduceToInt, tm_1, tl_1, fE, fF] at c1 c2 c3 c4 c5 c10 c11 c12 c13 c14 c15 ⊢; omega)
                        obtain ⟨nx31, nx32⟩ := x_nI (x := x3) (n := 9) (by simp only [i3_lt, i3_le, i6_lt, i6_le, i3_eq, i3_l, Int32.reduceToInt, Int64.reduceToInt, tm_1, tl_1, fE, fF] at c1 c2 c3 c4 c5 c10 c11 c12 c13 c14 c15 ⊢; omega) (by simp only [i3_lt, i3_le, i6_lt, i6_le, i3_eq, i3_l, Int32.reduceToInt, Int64.reduceToInt, tm_1, tl_1, fE, fF] at c1 c2 c3 c4 c5 c10 c11 c12 c13 c14 c15 ⊢; omega)
                        have hf : x4 = -1 ∨ (0 ≤ x4.toInt ∧ x4.toInt < (nF S : Int)) := by
                          simp only [i3_lt, i3_le, i6_lt, i6_le, i3_eq, i3_l, Int32.reduceToInt, Int64.reduceToInt, tm_1, tl_1, fE, fF] at c1 c2 c3 c4 c5 c10 c11 c12 c13 c14 c15 ⊢
                          omega
                        refine c_plays L C T (fun g I _ => ?_)
                        intro _
                        have Cg := C.qf L I.1
                        have hh := I.2.1.1 x1.toNatClampNeg (10 * x2.toNatClampNeg + x3.toNatClampNeg) (by omega) (by omega)
                        rw [show X + 9 + (97 + 22 * (10 * x2.toNatClampNeg + x3.toNatClampNeg) + 2 * x1.toNatClampNeg) = X + (106 + 22 * (10 * x2.toNatClampNeg + x3.toNatClampNeg) + 2 * x1.toNatClampNeg) by omega] at hh
                        refine ⟨by rw [nx11]; exact vp_in_nI (by omega) (by decide), by rw [nx21]; exact vp_in_nI (by omega) (by decide), by rw [nx31]; exact vp_in_nI (by omega) (by decide), fun q => ?_, fun q h18 e18 _ => ?_⟩
                        · have hf2 := hf.resolve_left q
                          have f20 := C.iF.2
                          have n4 : x4.toNatClampNeg < 20 := by
                            have := x_cl (x := x4) hf2.1
                            omega
                          refine ⟨vp_x hf2.1 (by show x4.toInt < (20 : Int); omega), fun h16 e16 _ => ?_⟩
                          have kk := Kg w_ _ (I.1.po L C (c := 0))
                          unfold rwV at kk
                          rw [if_neg q] at kk
                          rw [hh.1 _ n4, e16]; exact kk
                        · have kk := Kg w_ _ (I.1.po L C (c := 0))
                          unfold rwV at kk
                          rw [if_pos q] at kk
                          rw [hh.2, e18]; exact kk
theorem m_bin {G : ma_G} {d M : Nat} {h : ah_T} {S : MS} {tx : Nat → List Nat × List PD} {Q : Option ma_V → ah_T → Prop} {E : Nat → ah_T → Prop} {x1 x2 x3 x4 x5 : Int32} (L : LY8 h M) (eS : mv h M = S) (W : WF S) (B : WB S) (T : TXm S tx)  (Kf : wy_bin S x1 x2 x3 x4 x5 ≠ 0 → ∀ h1, mpo M h h1 (uI S 0 0 (wy_bin S x1 x2 x3 x4 x5)) → Q (some (iv (-1))) h1) (Kg : wy_bin S x1 x2 x3 x4 x5 = 0 → ∀ h1, mpo M h h1 (uI S 0 0 0) → Q (some (iv (rwV (PLS S tx x5 (nV S) x1.toNatClampNeg (10 * x2.toNatClampNeg + x3.toNatClampNeg)) x4))) h1) : MX G mi_X8_bin (d + 8) 0 [some (rv M), some (iv x1), some (iv x2), some (iv x3), some (iv x4), some (iv x5), none, none] [] h Q E := by
  have qE := mk_E eS W
  have bE := mb_E W B
  have fE : (ah_I h M 6).toInt = (nE S : Int) := by rw [qE]; exact nI_x (by omega)
  have gE : (ah_I h M 6 - 1).toInt = (nE S : Int) - 1 := by rw [qE]; exact nI_m1 (by omega)
  have qF := mk_F eS W
  have bF := mb_F W B
  have fF : (ah_I h M 5).toInt = (nF S : Int) := by rw [qF]; exact nI_x (by omega)
  have gF : (ah_I h M 5 - 1).toInt = (nF S : Int) - 1 := by rw [qF]; exact nI_m1 (by omega)
  refine v_X8_bin (d := d + 5) L ?_
  intro h1_1 eh1_1 Xh1_1
  intro h2_2 eh2_2 Xh2_2
  refine ⟨fun c1 => ?_, fun c1 => ?_⟩
  · skip
    intro h4_3 eh4_3 Xh4_3
    have w_ : wy_bin S x1 x2 x3 x4 x5 = (2 : Int32) := by
      unfold wy_bin
      simp only [i3_lt, i3_le, i6_lt, i6_le, i3_eq, i3_l, Int32.reduceToInt, Int64.reduceToInt, tm_1, tl_1, fE, gE, fF, gF] at c1
      repeat' split
      all_goals first | rfl | (exfalso; omega)
    subst eh1_1
    subst eh2_2
    subst eh4_3
    exact Kf (by rw [w_]; decide) _ (by rw [w_]; exact mpo.st eS)
  · skip
    refine ⟨fun c2 => ?_, fun c2 => ?_⟩
    · skip
      intro h6_4 eh6_4 Xh6_4
      have w_ : wy_bin S x1 x2 x3 x4 x5 = (2 : Int32) := by
        unfold wy_bin
        simp only [i3_lt, i3_le, i6_lt, i6_le, i3_eq, i3_l, Int32.reduceToInt, Int64.reduceToInt, tm_1, tl_1, fE, gE, fF, gF] at c1 c2
        repeat' split
        all_goals first | rfl | (exfalso; omega)
      subst eh1_1
      subst eh2_2
      subst eh6_4
      exact Kf (by rw [w_]; decide) _ (by rw [w_]; exact mpo.st eS)
    · skip
      refine ⟨fun c3 => ?_, fun c3 => ?_⟩
      · skip
        intro h8_5 eh8_5 Xh8_5
        have w_ : wy_bin S x1 x2 x3 x4 x5 = (2 : Int32) := by
          unfold wy_bin
          simp only [i3_lt, i3_le, i6_lt, i6_le, i3_eq, i3_l, Int32.reduceToInt, Int64.reduceToInt, tm_1, tl_1, fE, gE, fF, gF] at c1 c2 c3
          repeat' split
          all_goals first | rfl | (exfalso; omega)
        subst eh1_1
        subst eh2_2
        subst eh8_5
        exact Kf (by rw [w_]; decide) _ (by rw [w_]; exact mpo.st eS)
      · skip
        refine ⟨fun c4 => ?_, fun c4 => ?_⟩
        · skip
          intro h10_6 eh10_6 Xh10_6
          have w_ : wy_bin S x1 x2 x3 x4 x5 = (2 : Int32) := by
            unfold wy_bin
            simp only [i3_lt, i3_le, i6_lt, i6_le, i3_eq, i3_l, Int32.reduceToInt, Int64.reduceToInt, tm_1, tl_1, fE, gE, fF, gF] at c1 c2 c3 c4
            repeat' split
            all_goals first | rfl | (exfalso; omega)
          subst eh1_1
          subst eh2_2
          subst eh10_6
          exact Kf (by rw [w_]; decide) _ (by rw [w_]; exact mpo.st eS)
        · skip
          refine ⟨fun c5 => ?_, fun c5 => ?_⟩
          · skip
            refine ⟨fun c6 => ?_, fun c6 => ?_⟩
            · skip
              intro h13_7 eh13_7 Xh13_7
              have w_ : wy_bin S x1 x2 x3 x4 x5 = (5 : Int32) := by
                unfold wy_bin
                simp only [i3_lt, i3_le, i6_lt, i6_le, i3_eq, i3_l, Int32.reduceToInt, Int64.reduceToInt, tm_1, tl_1, fE, gE, fF, gF] at c1 c2 c3 c4 c5 c6
                repeat' split
                all_goals first | rfl | (exfalso; omega)
              subst eh1_1
              subst eh2_2
              subst eh13_7
              exact Kf (by rw [w_]; decide) _ (by rw [w_]; exact mpo.st eS)
            · skip
              refine ⟨fun c7 => ?_, fun c7 => ?_⟩
              · skip
                intro h15_8 eh15_8 Xh15_8
                have w_ : wy_bin S x1 x2 x3 x4 x5 = (5 : Int32) := by
                  unfold wy_bin
                  simp only [i3_lt, i3_le, i6_lt, i6_le, i3_eq, i3_l, Int32.reduceToInt, Int64.reduceToInt, tm_1, tl_1, fE, gE, fF, gF] at c1 c2 c3 c4 c5 c6 c7
                  repeat' split
                  all_goals first | rfl | (exfalso; omega)
                subst eh1_1
                subst eh2_2
                subst eh15_8
                exact Kf (by rw [w_]; decide) _ (by rw [w_]; exact mpo.st eS)
              · skip
                refine ⟨fun c8 => ?_, fun c8 => ?_⟩
                · skip
                  intro h17_9 eh17_9 Xh17_9
                  have w_ : wy_bin S x1 x2 x3 x4 x5 = (5 : Int32) := by
                    unfold wy_bin
                    simp only [i3_lt, i3_le, i6_lt, i6_le, i3_eq, i3_l, Int32.reduceToInt, Int64.reduceToInt, tm_1, tl_1, fE, gE, fF, gF] at c1 c2 c3 c4 c5 c6 c7 c8
                    repeat' split
                    all_goals first | rfl | (exfalso; omega)
                  subst eh1_1
                  subst eh2_2
                  subst eh17_9
                  exact Kf (by rw [w_]; decide) _ (by rw [w_]; exact mpo.st eS)
                · skip
                  refine ⟨fun c9 => ?_, fun c9 => ?_⟩
                  · skip
                    intro h19_10 eh19_10 Xh19_10
                    have w_ : wy_bin S x1 x2 x3 x4 x5 = (5 : Int32) := by
                      unfold wy_bin
                      simp only [i3_lt, i3_le, i6_lt, i6_le, i3_eq, i3_l, Int32.reduceToInt, Int64.reduceToInt, tm_1, tl_1, fE, gE, fF, gF] at c1 c2 c3 c4 c5 c6 c7 c8 c9
                      repeat' split
                      all_goals first | rfl | (exfalso; omega)
                    subst eh1_1
                    subst eh2_2
                    subst eh19_10
                    exact Kf (by rw [w_]; decide) _ (by rw [w_]; exact mpo.st eS)
                  · skip
                    have w_ : wy_bin S x1 x2 x3 x4 x5 = (0 : Int32) := by
                      unfold wy_bin
                      simp only [i3_lt, i3_le, i6_lt, i6_le, i3_eq, i3_l, Int32.reduceToInt, Int64.reduceToInt, tm_1, tl_1, fE, gE, fF, gF] at c1 c2 c3 c4 c5 c6 c7 c8 c9
                      repeat' split
                      all_goals first | rfl | (exfalso; omega)
                    subst eh1_1
                    subst eh2_2
                    obtain ⟨nx11, nx12⟩ := x_nI (x := x1) (n := 7) (by simp only [i3_lt, i3_le, i6_lt, i6_le, i3_eq, i3_l, Int32.reduceToInt, Int64.reduceToInt, tm_1, tl_1, fE, gE, fF, gF] at c1 c2 c3 c4 c5 c6 c7 c8 c9 ⊢; omega) (by simp only [i3_lt, i3_le, i6_lt, i6_le, i3_eq, i3_l, Int32.reduceToInt, Int64.reduceToInt, tm_1, tl_1, fE, gE, fF, gF] at c1 c2 c3 c4 c5 c6 c7 c8 c9 ⊢; omega)
                    obtain ⟨nx21, nx22⟩ := x_nI (x := x2) (n := 5) (by simp only [i3_lt, i3_le, i6_lt, i6_le, i3_eq, i3_l, Int32.reduceToInt, Int64.reduceToInt, tm_1, tl_1, fE, gE, fF, gF] at c1 c2 c3 c4 c5 c6 c7 c8 c9 ⊢; omega) (by simp only [i3_lt, i3_le, i6_lt, i6_le, i3_eq, i3_l, Int32.reduceToInt, Int64.reduceToInt, tm_1, tl_1, fE, gE, fF, gF] at c1 c2 c3 c4 c5 c6 c7 c8 c9 ⊢; omega)
                    obtain ⟨nx31, nx32⟩ := x_nI (x := x3) (n := 9) (by simp only [i3_lt, i3_le, i6_lt, i6_le, i3_eq, i3_l, Int32.reduceToInt, Int64.reduceToInt, tm_1, tl_1, fE, gE, fF, gF] at c1 c2 c3 c4 c5 c6 c7 c8 c9 ⊢; omega) (by simp only [i3_lt, i3_le, i6_lt, i6_le, i3_eq, i3_l, Int32.reduceToInt, Int64.reduceToInt, tm_1, tl_1, fE, gE, fF, gF] at c1 c2 c3 c4 c5 c6 c7 c8 c9 ⊢; omega)
                    have hf : x4 = -1 ∨ (0 ≤ x4.toInt ∧ x4.toInt < 20) := by
                      simp only [i3_lt, i3_le, i6_lt, i6_le, i3_eq, i3_l, Int32.reduceToInt, Int64.reduceToInt, tm_1, tl_1, fE, gE, fF, gF] at c1 c2 c3 c4 c5 c6 c7 c8 c9 ⊢
                      omega
                    refine m_play (L.ext (Xh1_1.tr Xh2_2)) (kq.st eS) W B T (fun g z => ?_)
                    intro _
                    rw [nx11, nx21, nx31]
                    exact m_bin73 (z.1.ly (L.ext (Xh1_1.tr Xh2_2))) z.2.1 (by omega) (by omega) (by omega) hf (Kg w_ _ (mpo.qy eS z.1 (by decide) (by decide) (by decide) (by decide)))
          · skip
            refine ⟨fun c10 => ?_, fun c10 => ?_⟩
            · skip
              intro h23_11 eh23_11 Xh23_11
              have w_ : wy_bin S x1 x2 x3 x4 x5 = (2 : Int32) := by
                unfold wy_bin
                simp only [i3_lt, i3_le, i6_lt, i6_le, i3_eq, i3_l, Int32.reduceToInt, Int64.reduceToInt, tm_1, tl_1, fE, gE, fF, gF] at c1 c2 c3 c4 c5 c10
                repeat' split
                all_goals first | rfl | (exfalso; omega)
              subst eh1_1
              subst eh2_2
              subst eh23_11
              exact Kf (by rw [w_]; decide) _ (by rw [w_]; exact mpo.st eS)
            · skip
              refine ⟨fun c11 => ?_, fun c11 => ?_⟩
              · skip
                intro h25_12 eh25_12 Xh25_12
                have w_ : wy_bin S x1 x2 x3 x4 x5 = (2 : Int32) := by
                  unfold wy_bin
                  simp only [i3_lt, i3_le, i6_lt, i6_le, i3_eq, i3_l, Int32.reduceToInt, Int64.reduceToInt, tm_1, tl_1, fE, gE, fF, gF] at c1 c2 c3 c4 c5 c10 c11
                  repeat' split
                  all_goals first | rfl | (exfalso; omega)
                subst eh1_1
                subst eh2_2
                subst eh25_12
                exact Kf (by rw [w_]; decide) _ (by rw [w_]; exact mpo.st eS)
              · skip
                refine ⟨fun c12 => ?_, fun c12 => ?_⟩
                · skip
                  intro h27_13 eh27_13 Xh27_13
                  have w_ : wy_bin S x1 x2 x3 x4 x5 = (5 : Int32) := by
                    unfold wy_bin
                    simp only [i3_lt, i3_le, i6_lt, i6_le, i3_eq, i3_l, Int32.reduceToInt, Int64.reduceToInt, tm_1, tl_1, fE, gE, fF, gF] at c1 c2 c3 c4 c5 c10 c11 c12
                    repeat' split
                    all_goals first | rfl | (exfalso; omega)
                  subst eh1_1
                  subst eh2_2
                  subst eh27_13
                  exact Kf (by rw [w_]; decide) _ (by rw [w_]; exact mpo.st eS)
                · skip
                  refine ⟨fun c13 => ?_, fun c13 => ?_⟩
                  · skip
                    intro h29_14 eh29_14 Xh29_14
                    have w_ : wy_bin S x1 x2 x3 x4 x5 = (5 : Int32) := by
                      unfold wy_bin
                      simp only [i3_lt, i3_le, i6_lt, i6_le, i3_eq, i3_l, Int32.reduceToInt, Int64.reduceToInt, tm_1, tl_1, fE, gE, fF, gF] at c1 c2 c3 c4 c5 c10 c11 c12 c13
                      repeat' split
                      all_goals first | rfl | (exfalso; omega)
                    subst eh1_1
                    subst eh2_2
                    subst eh29_14
                    exact Kf (by rw [w_]; decide) _ (by rw [w_]; exact mpo.st eS)
                  · skip
                    refine ⟨fun c14 => ?_, fun c14 => ?_⟩
                    · skip
                      intro h31_15 eh31_15 Xh31_15
                      have w_ : wy_bin S x1 x2 x3 x4 x5 = (5 : Int32) := by
                        unfold wy_bin
                        simp only [i3_lt, i3_le, i6_lt, i6_le, i3_eq, i3_l, Int32.reduceToInt, Int64.reduceToInt, tm_1, tl_1, fE, gE, fF, gF] at c1 c2 c3 c4 c5 c10 c11 c12 c13 c14
                        repeat' split
                        all_goals first | rfl | (exfalso; omega)
                      subst eh1_1
                      subst eh2_2
                      subst eh31_15
                      exact Kf (by rw [w_]; decide) _ (by rw [w_]; exact mpo.st eS)
                    · skip
                      refine ⟨fun c15 => ?_, fun c15 => ?_⟩
                      · skip
                        intro h33_16 eh33_16 Xh33_16
                        have w_ : wy_bin S x1 x2 x3 x4 x5 = (5 : Int32) := by
                          unfold wy_bin
                          simp only [i3_lt, i3_le, i6_lt, i6_le, i3_eq, i3_l, Int32.reduceToInt, Int64.reduceToInt, tm_1, tl_1, fE, gE, fF, gF] at c1 c2 c3 c4 c5 c10 c11 c12 c13 c14 c15
                          repeat' split
                          all_goals first | rfl | (exfalso; omega)
                        subst eh1_1
                        subst eh2_2
                        subst eh33_16
                        exact Kf (by rw [w_]; decide) _ (by rw [w_]; exact mpo.st eS)
                      · skip
                        have w_ : wy_bin S x1 x2 x3 x4 x5 = (0 : Int32) := by
                          unfold wy_bin
                          simp only [i3_lt, i3_le, i6_lt, i6_le, i3_eq, i3_l, Int32.reduceToInt, Int64.reduceToInt, tm_1, tl_1, fE, gE, fF, gF] at c1 c2 c3 c4 c5 c10 c11 c12 c13 c14 c15
                          repeat' split
                          all_goals first | rfl | (exfalso; omega)
                        subst eh1_1
                        subst eh2_2
                        obtain ⟨nx11, nx12⟩ := x_nI (x := x1) (n := 7) (by simp only [i3_lt, i3_le, i6_lt, i6_le, i3_eq, i3_l, Int32.reduceToInt, Int64.reduceToInt, tm_1, tl_1, fE, gE, fF, gF] at c1 c2 c3 c4 c5 c10 c11 c12 c13 c14 c15 ⊢; omega) (by simp only [i3_lt, i3_le, i6_lt, i6_le, i3_eq, i3_l, Int32.reduceToInt, Int64.reduceToInt, tm_1, tl_1, fE, gE, fF, gF] at c1 c2 c3 c4 c5 c10 c11 c12 c13 c14 c15 ⊢; omega)
                        obtain ⟨nx21, nx22⟩ := x_nI (x := x2) (n := 5) (by simp only [i3_lt, i3_le, i6_lt, i6_le, i3_eq, i3_l, Int32.reduceToInt, Int64.reduceToInt, tm_1, tl_1, fE, gE, fF, gF] at c1 c2 c3 c4 c5 c10 c11 c12 c13 c14 c15 ⊢; omega) (by simp only [i3_lt, i3_le, i6_lt, i6_le, i3_eq, i3_l, Int32.reduceToInt, Int64.reduceToInt, tm_1, tl_1, fE, gE, fF, gF] at c1 c2 c3 c4 c5 c10 c11 c12 c13 c14 c15 ⊢; omega)
                        obtain ⟨nx31, nx32⟩ := x_nI (x := x3) (n := 9) (by simp only [i3_lt, i3_le, i6_lt, i6_le, i3_eq, i3_l, Int32.reduceToInt, Int64.reduceToInt, tm_1, tl_1, fE, gE, fF, gF] at c1 c2 c3 c4 c5 c10 c11 c12 c13 c14 c15 ⊢; omega) (by simp only [i3_lt, i3_le, i6_lt, i6_le, i3_eq, i3_l, Int32.reduceToInt, Int64.reduceToInt, tm_1, tl_1, fE, gE, fF, gF] at c1 c2 c3 c4 c5 c10 c11 c12 c13 c14 c15 ⊢; omega)
                        have hf : x4 = -1 ∨ (0 ≤ x4.toInt ∧ x4.toInt < 20) := by
                          simp only [i3_lt, i3_le, i6_lt, i6_le, i3_eq, i3_l, Int32.reduceToInt, Int64.reduceToInt, tm_1, tl_1, fE, gE, fF, gF] at c1 c2 c3 c4 c5 c10 c11 c12 c13 c14 c15 ⊢
                          omega
                        refine m_play (L.ext (Xh1_1.tr Xh2_2)) (kq.st eS) W B T (fun g z => ?_)
                        intro _
                        rw [nx11, nx21, nx31]
                        exact m_bin73 (z.1.ly (L.ext (Xh1_1.tr Xh2_2))) z.2.1 (by omega) (by omega) (by omega) hf (Kg w_ _ (mpo.qy eS z.1 (by decide) (by decide) (by decide) (by decide)))
def wy_port (S : MS) (x1 x2 x3 x4 x5 : Int32) : Int32 := if (0 ≤ x1.toInt ∧ x1.toInt ≤ 1) ∧ (0 ≤ x2.toInt ∧ x2.toInt ≤ 5) ∧ (x4.toInt = -1 ∨ (0 ≤ x4.toInt ∧ x4.toInt ≤ ((nF) S : Int) - 1)) then (if (0 ≤ x3.toInt ∧ x3.toInt ≤ 9) ∧ (0 ≤ x5.toInt ∧ x5.toInt ≤ 519) then 0 else 5) else 2
theorem c_port {G : ma_G} {d X : Nat} {h : ah_T} {S : MS} {tx : Nat → List Nat × List PD} {Q : Option ma_V → ah_T → Prop} {E : Nat → ah_T → Prop} {x1 x2 x3 x4 x5 : Int32} (L : LY0 h X) (C : CI0 h X S) (T : CIk G h X S tx)  (Kf : wy_port S x1 x2 x3 x4 x5 ≠ 0 → ∀ h1, cpo X h h1 (uI S 0 0 (wy_port S x1 x2 x3 x4 x5)) → Q (some (iv (-1))) h1) (Kg : wy_port S x1 x2 x3 x4 x5 = 0 → ∀ h1, cpo X h h1 (uI S 0 0 0) → Q (some (iv (rwV (PLS S tx x5 (nV S) (8 + x1.toNatClampNeg) (10 * x2.toNatClampNeg + x3.toNatClampNeg)) x4))) h1) : MX G mi_X0_port (d + 53) 0 [some (rv X), some (iv x1), some (iv x2), some (iv x3), some (iv x4), some (iv x5)] [] h Q E := by
  have bF := C.iF.2
  have fF : (ah_I h X 14).toInt = (nF S : Int) := by rw [C.iF.1]; exact nI_x (by omega)
  refine v_X0_port (d := d + 51) L ?_
  refine ⟨fun c1 => ?_, fun c1 => ?_⟩
  · skip
    intro h2_1 eh2_1 Xh2_1
    have w_ : wy_port S x1 x2 x3 x4 x5 = (2 : Int32) := by
      unfold wy_port
      simp only [i3_lt, i3_le, i6_lt, i6_le, i3_eq, i3_l, Int32.reduceToInt, Int64.reduceToInt, tm_1, tl_1, fF] at c1
      repeat' split
      all_goals first | rfl | (exfalso; omega)
    subst eh2_1
    exact Kf (by rw [w_]; decide) _ (by rw [w_]; exact cpo.st L C Xh2_1)
  · skip
    refine ⟨fun c2 => ?_, fun c2 => ?_⟩
    · skip
      intro h4_2 eh4_2 Xh4_2
      have w_ : wy_port S x1 x2 x3 x4 x5 = (2 : Int32) := by
        unfold wy_port
        simp only [i3_lt, i3_le, i6_lt, i6_le, i3_eq, i3_l, Int32.reduceToInt, Int64.reduceToInt, tm_1, tl_1, fF] at c1 c2
        repeat' split
        all_goals first | rfl | (exfalso; omega)
      subst eh4_2
      exact Kf (by rw [w_]; decide) _ (by rw [w_]; exact cpo.st L C Xh4_2)
    · skip
      refine ⟨fun c3 => ?_, fun c3 => ?_⟩
      · skip
        intro h6_3 eh6_3 Xh6_3
        have w_ : wy_port S x1 x2 x3 x4 x5 = (2 : Int32) := by
          unfold wy_port
          simp only [i3_lt, i3_le, i6_lt, i6_le, i3_eq, i3_l, Int32.reduceToInt, Int64.reduceToInt, tm_1, tl_1, fF] at c1 c2 c3
          repeat' split
          all_goals first | rfl | (exfalso; omega)
        subst eh6_3
        exact Kf (by rw [w_]; decide) _ (by rw [w_]; exact cpo.st L C Xh6_3)
      · skip
        refine ⟨fun c4 => ?_, fun c4 => ?_⟩
        · skip
          intro h8_4 eh8_4 Xh8_4
          have w_ : wy_port S x1 x2 x3 x4 x5 = (2 : Int32) := by
            unfold wy_port
            simp only [i3_lt, i3_le, i6_lt, i6_le, i3_eq, i3_l, Int32.reduceToInt, Int64.reduceToInt, tm_1, tl_1, fF] at c1 c2 c3 c4
            repeat' split
            all_goals first | rfl | (exfalso; omega)
          subst eh8_4
          exact Kf (by rw [w_]; decide) _ (by rw [w_]; exact cpo.st L C Xh8_4)
        · skip
          refine ⟨fun c5 => ?_, fun c5 => ?_⟩
          · skip
            refine v_X0_port_35 (d := d + 51) L ?_
            refine ⟨fun c6 => ?_, fun c6 => ?_⟩
            · skip
              intro h2_5 eh2_5 Xh2_5
              have w_ : wy_port S x1 x2 x3 x4 x5 = (5 : Int32) := by
                unfold wy_port
                simp only [i3_lt, i3_le, i6_lt, i6_le, i3_eq, i3_l, Int32.reduceToInt, Int64.reduceToInt, tm_1, tl_1, fF] at c1 c2 c3 c4 c5 c6
                repeat' split
                all_goals first | rfl | (exfalso; omega)
              subst eh2_5
              exact Kf (by rw [w_]; decide) _ (by rw [w_]; exact cpo.st L C Xh2_5)
            · skip
              refine ⟨fun c7 => ?_, fun c7 => ?_⟩
              · skip
                intro h4_6 eh4_6 Xh4_6
                have w_ : wy_port S x1 x2 x3 x4 x5 = (5 : Int32) := by
                  unfold wy_port
                  simp only [i3_lt, i3_le, i6_lt, i6_le, i3_eq, i3_l, Int32.reduceToInt, Int64.reduceToInt, tm_1, tl_1, fF] at c1 c2 c3 c4 c5 c6 c7
                  repeat' split
                  all_goals first | rfl | (exfalso; omega)
                subst eh4_6
                exact Kf (by rw [w_]; decide) _ (by rw [w_]; exact cpo.st L C Xh4_6)
              · skip
                refine ⟨fun c8 => ?_, fun c8 => ?_⟩
                · skip
                  intro h6_7 eh6_7 Xh6_7
                  have w_ : wy_port S x1 x2 x3 x4 x5 = (5 : Int32) := by
                    unfold wy_port
                    simp only [i3_lt, i3_le, i6_lt, i6_le, i3_eq, i3_l, Int32.reduceToInt, Int64.reduceToInt, tm_1, tl_1, fF] at c1 c2 c3 c4 c5 c6 c7 c8
                    repeat' split
                    all_goals first | rfl | (exfalso; omega)
                  subst eh6_7
                  exact Kf (by rw [w_]; decide) _ (by rw [w_]; exact cpo.st L C Xh6_7)
                · skip
                  refine ⟨fun c9 => ?_, fun c9 => ?_⟩
                  · skip
                    intro h8_8 eh8_8 Xh8_8
                    have w_ : wy_port S x1 x2 x3 x4 x5 = (5 : Int32) := by
                      unfold wy_port
                      simp only [i3_lt, i3_le, i6_lt, i6_le, i3_eq, i3_l, Int32.reduceToInt, Int64.reduceToInt, tm_1, tl_1, fF] at c1 c2 c3 c4 c5 c6 c7 c8 c9
                      repeat' split
                      all_goals first | rfl | (exfalso; omega)
                    subst eh8_8
                    exact Kf (by rw [w_]; decide) _ (by rw [w_]; exact cpo.st L C Xh8_8)
                  · skip
                    have w_ : wy_port S x1 x2 x3 x4 x5 = (0 : Int32) := by
                      unfold wy_port
                      simp only [i3_lt, i3_le, i6_lt, i6_le, i3_eq, i3_l, Int32.reduceToInt, Int64.reduceToInt, tm_1, tl_1, fF] at c1 c2 c3 c4 c5 c6 c7 c8 c9
                      repeat' split
                      all_goals first | rfl | (exfalso; omega)
                    obtain ⟨nx11, nx12⟩ := x_nI (x := x1) (n := 1) (by simp only [i3_lt, i3_le, i6_lt, i6_le, i3_eq, i3_l, Int32.reduceToInt, Int64.reduceToInt, tm_1, tl_1, fF] at c1 c2 c3 c4 c5 c6 c7 c8 c9 ⊢; omega) (by simp only [i3_lt, i3_le, i6_lt, i6_le, i3_eq, i3_l, Int32.reduceToInt, Int64.reduceToInt, tm_1, tl_1, fF] at c1 c2 c3 c4 c5 c6 c7 c8 c9 ⊢; omega)
                    obtain ⟨nx21, nx22⟩ := x_nI (x := x2) (n := 5) (by simp only [i3_lt, i3_le, i6_lt, i6_le, i3_eq, i3_l, Int32.reduceToInt, Int64.reduceToInt, tm_1, tl_1, fF] at c1 c2 c3 c4 c5 c6 c7 c8 c9 ⊢; omega) (by simp only [i3_lt, i3_le, i6_lt, i6_le, i3_eq, i3_l, Int32.reduceToInt, Int64.reduceToInt, tm_1, tl_1, fF] at c1 c2 c3 c4 c5 c6 c7 c8 c9 ⊢; omega)
                    obtain ⟨nx31, nx32⟩ := x_nI (x := x3) (n := 9) (by simp only [i3_lt, i3_le, i6_lt, i6_le, i3_eq, i3_l, Int32.reduceToInt, Int64.reduceToInt, tm_1, tl_1, fF] at c1 c2 c3 c4 c5 c6 c7 c8 c9 ⊢; omega) (by simp only [i3_lt, i3_le, i6_lt, i6_le, i3_eq, i3_l, Int32.reduceToInt, Int64.reduceToInt, tm_1, tl_1, fF] at c1 c2 c3 c4 c5 c6 c7 c8 c9 ⊢; omega)
                    have hf : x4 = -1 ∨ (0 ≤ x4.toInt ∧ x4.toInt < (nF S : Int)) := by
                      simp only [i3_lt, i3_le, i6_lt, i6_le, i3_eq, i3_l, Int32.reduceToInt, Int64.reduceToInt, tm_1, tl_1, fF] at c1 c2 c3 c4 c5 c6 c7 c8 c9 ⊢
                      omega
                    refine c_plays L C T (fun g I _ => ?_)
                    intro _
                    have Cg := C.qf L I.1
                    have hh := I.2.1.1 (8 + x1.toNatClampNeg) (10 * x2.toNatClampNeg + x3.toNatClampNeg) (by omega) (by omega)
                    rw [show X + 9 + (97 + 22 * (10 * x2.toNatClampNeg + x3.toNatClampNeg) + 2 * (8 + x1.toNatClampNeg)) = X + (122 + 22 * (10 * x2.toNatClampNeg + x3.toNatClampNeg) + 2 * x1.toNatClampNeg) by omega] at hh
                    refine ⟨by rw [nx11]; exact vp_in_nI (by omega) (by decide), by rw [nx21]; exact vp_in_nI (by omega) (by decide), by rw [nx31]; exact vp_in_nI (by omega) (by decide), fun q => ?_, fun q h18 e18 _ => ?_⟩
                    · have hf2 := hf.resolve_left q
                      have f20 := C.iF.2
                      have n4 : x4.toNatClampNeg < 20 := by
                        have := x_cl (x := x4) hf2.1
                        omega
                      refine ⟨vp_x hf2.1 (by show x4.toInt < (20 : Int); omega), fun h16 e16 _ => ?_⟩
                      have kk := Kg w_ _ (I.1.po L C (c := 0))
                      unfold rwV at kk
                      rw [if_neg q] at kk
                      rw [hh.1 _ n4, e16]; exact kk
                    · have kk := Kg w_ _ (I.1.po L C (c := 0))
                      unfold rwV at kk
                      rw [if_pos q] at kk
                      rw [hh.2, e18]; exact kk
          · skip
            refine ⟨fun c10 => ?_, fun c10 => ?_⟩
            · skip
              intro h11_9 eh11_9 Xh11_9
              have w_ : wy_port S x1 x2 x3 x4 x5 = (2 : Int32) := by
                unfold wy_port
                simp only [i3_lt, i3_le, i6_lt, i6_le, i3_eq, i3_l, Int32.reduceToInt, Int64.reduceToInt, tm_1, tl_1, fF] at c1 c2 c3 c4 c5 c10
                repeat' split
                all_goals first | rfl | (exfalso; omega)
              subst eh11_9
              exact Kf (by rw [w_]; decide) _ (by rw [w_]; exact cpo.st L C Xh11_9)
            · skip
              refine ⟨fun c11 => ?_, fun c11 => ?_⟩
              · skip
                intro h13_10 eh13_10 Xh13_10
                have w_ : wy_port S x1 x2 x3 x4 x5 = (2 : Int32) := by
                  unfold wy_port
                  simp only [i3_lt, i3_le, i6_lt, i6_le, i3_eq, i3_l, Int32.reduceToInt, Int64.reduceToInt, tm_1, tl_1, fF] at c1 c2 c3 c4 c5 c10 c11
                  repeat' split
                  all_goals first | rfl | (exfalso; omega)
                subst eh13_10
                exact Kf (by rw [w_]; decide) _ (by rw [w_]; exact cpo.st L C Xh13_10)
              · skip
                refine v_X0_port_35 (d := d + 51) L ?_
                refine ⟨fun c12 => ?_, fun c12 => ?_⟩
                · skip
                  intro h2_11 eh2_11 Xh2_11
                  have w_ : wy_port S x1 x2 x3 x4 x5 = (5 : Int32) := by
                    unfold wy_port
                    simp only [i3_lt, i3_le, i6_lt, i6_le, i3_eq, i3_l, Int32.reduceToInt, Int64.reduceToInt, tm_1, tl_1, fF] at c1 c2 c3 c4 c5 c10 c11 c12
                    repeat' split
                    all_goals first | rfl | (exfalso; omega)
                  subst eh2_11
                  exact Kf (by rw [w_]; decide) _ (by rw [w_]; exact cpo.st L C Xh2_11)
                · skip
                  refine ⟨fun c13 => ?_, fun c13 => ?_⟩
                  · skip
                    intro h4_12 eh4_12 Xh4_12
                    have w_ : wy_port S x1 x2 x3 x4 x5 = (5 : Int32) := by
                      unfold wy_port
                      simp only [i3_lt, i3_le, i6_lt, i6_le, i3_eq, i3_l, Int32.reduceToInt, Int64.reduceToInt, tm_1, tl_1, fF] at c1 c2 c3 c4 c5 c10 c11 c12 c13
                      repeat' split
                      all_goals first | rfl | (exfalso; omega)
                    subst eh4_12
                    exact Kf (by rw [w_]; decide) _ (by rw [w_]; exact cpo.st L C Xh4_12)
                  · skip
                    refine ⟨fun c14 => ?_, fun c14 => ?_⟩
                    · skip
                      intro h6_13 eh6_13 Xh6_13
                      have w_ : wy_port S x1 x2 x3 x4 x5 = (5 : Int32) := by
                        unfold wy_port
                        simp only [i3_lt, i3_le, i6_lt, i6_le, i3_eq, i3_l, Int32.reduceToInt, Int64.reduceToInt, tm_1, tl_1, fF] at c1 c2 c3 c4 c5 c10 c11 c12 c13 c14
                        repeat' split
                        all_goals first | rfl | (exfalso; omega)
                      subst eh6_13
                      exact Kf (by rw [w_]; decide) _ (by rw [w_]; exact cpo.st L C Xh6_13)
                    · skip
                      refine ⟨fun c15 => ?_, fun c15 => ?_⟩
                      · skip
                        intro h8_14 eh8_14 Xh8_14
                        have w_ : wy_port S x1 x2 x3 x4 x5 = (5 : Int32) := by
                          unfold wy_port
                          simp only [i3_lt, i3_le, i6_lt, i6_le, i3_eq, i3_l, Int32.reduceToInt, Int64.reduceToInt, tm_1, tl_1, fF] at c1 c2 c3 c4 c5 c10 c11 c12 c13 c14 c15
                          repeat' split
                          all_goals first | rfl | (exfalso; omega)
                        subst eh8_14
                        exact Kf (by rw [w_]; decide) _ (by rw [w_]; exact cpo.st L C Xh8_14)
                      · skip
                        have w_ : wy_port S x1 x2 x3 x4 x5 = (0 : Int32) := by
                          unfold wy_port
                          simp only [i3_lt, i3_le, i6_lt, i6_le, i3_eq, i3_l, Int32.reduceToInt, Int64.reduceToInt, tm_1, tl_1, fF] at c1 c2 c3 c4 c5 c10 c11 c12 c13 c14 c15
                          repeat' split
                          all_goals first | rfl | (exfalso; omega)
                        obtain ⟨nx11, nx12⟩ := x_nI (x := x1) (n := 1) (by simp only [i3_lt, i3_le, i6_lt, i6_le, i3_eq, i3_l, Int32.reduceToInt, Int64.reduceToInt, tm_1, tl_1, fF] at c1 c2 c3 c4 c5 c10 c11 c12 c13 c14 c15 ⊢; omega) (by simp only [i3_lt, i3_le, i6_lt, i6_le, i3_eq, i3_l, Int32.reduceToInt, Int64.reduceToInt, tm_1, tl_1, fF] at c1 c2 c3 c4 c5 c10 c11 c12 c13 c14 c15 ⊢; omega)
                        obtain ⟨nx21, nx22⟩ := x_nI (x := x2) (n := 5) (by simp only [i3_lt, i3_le, i6_lt, i6_le, i3_eq, i3_l, Int32.reduceToInt, Int64.reduceToInt, tm_1, tl_1, fF] at c1 c2 c3 c4 c5 c10 c11 c12 c13 c14 c15 ⊢; omega) (by simp only [i3_lt, i3_le, i6_lt, i6_le, i3_eq, i3_l, Int32.reduceToInt, Int64.reduceToInt, tm_1, tl_1, fF] at c1 c2 c3 c4 c5 c10 c11 c12 c13 c14 c15 ⊢; omega)
                        obtain ⟨nx31, nx32⟩ := x_nI (x := x3) (n := 9) (by simp only [i3_lt, i3_le, i6_lt, i6_le, i3_eq, i3_l, Int32.reduceToInt, Int64.reduceToInt, tm_1, tl_1, fF] at c1 c2 c3 c4 c5 c10 c11 c12 c13 c14 c15 ⊢; omega) (by simp only [i3_lt, i3_le, i6_lt, i6_le, i3_eq, i3_l, Int32.reduceToInt, Int64.reduceToInt, tm_1, tl_1, fF] at c1 c2 c3 c4 c5 c10 c11 c12 c13 c14 c15 ⊢; omega)
                        have hf : x4 = -1 ∨ (0 ≤ x4.toInt ∧ x4.toInt < (nF S : Int)) := by
                          simp only [i3_lt, i3_le, i6_lt, i6_le, i3_eq, i3_l, Int32.reduceToInt, Int64.reduceToInt, tm_1, tl_1, fF] at c1 c2 c3 c4 c5 c10 c11 c12 c13 c14 c15 ⊢
                          omega
                        refine c_plays L C T (fun g I _ => ?_)
                        intro _
                        have Cg := C.qf L I.1
                        have hh := I.2.1.1 (8 + x1.toNatClampNeg) (10 * x2.toNatClampNeg + x3.toNatClampNeg) (by omega) (by omega)
                        rw [show X + 9 + (97 + 22 * (10 * x2.toNatClampNeg + x3.toNatClampNeg) + 2 * (8 + x1.toNatClampNeg)) = X + (122 + 22 * (10 * x2.toNatClampNeg + x3.toNatClampNeg) + 2 * x1.toNatClampNeg) by omega] at hh
                        refine ⟨by rw [nx11]; exact vp_in_nI (by omega) (by decide), by rw [nx21]; exact vp_in_nI (by omega) (by decide), by rw [nx31]; exact vp_in_nI (by omega) (by decide), fun q => ?_, fun q h18 e18 _ => ?_⟩
                        · have hf2 := hf.resolve_left q
                          have f20 := C.iF.2
                          have n4 : x4.toNatClampNeg < 20 := by
                            have := x_cl (x := x4) hf2.1
                            omega
                          refine ⟨vp_x hf2.1 (by show x4.toInt < (20 : Int); omega), fun h16 e16 _ => ?_⟩
                          have kk := Kg w_ _ (I.1.po L C (c := 0))
                          unfold rwV at kk
                          rw [if_neg q] at kk
                          rw [hh.1 _ n4, e16]; exact kk
                        · have kk := Kg w_ _ (I.1.po L C (c := 0))
                          unfold rwV at kk
                          rw [if_pos q] at kk
                          rw [hh.2, e18]; exact kk
theorem m_port {G : ma_G} {d M : Nat} {h : ah_T} {S : MS} {tx : Nat → List Nat × List PD} {Q : Option ma_V → ah_T → Prop} {E : Nat → ah_T → Prop} {x1 x2 x3 x4 x5 : Int32} (L : LY8 h M) (eS : mv h M = S) (W : WF S) (B : WB S) (T : TXm S tx)  (Kf : wy_port S x1 x2 x3 x4 x5 ≠ 0 → ∀ h1, mpo M h h1 (uI S 0 0 (wy_port S x1 x2 x3 x4 x5)) → Q (some (iv (-1))) h1) (Kg : wy_port S x1 x2 x3 x4 x5 = 0 → ∀ h1, mpo M h h1 (uI S 0 0 0) → Q (some (iv (rwV (PLS S tx x5 (nV S) (8 + x1.toNatClampNeg) (10 * x2.toNatClampNeg + x3.toNatClampNeg)) x4))) h1) : MX G mi_X8_port (d + 8) 0 [some (rv M), some (iv x1), some (iv x2), some (iv x3), some (iv x4), some (iv x5), none, none] [] h Q E := by
  have qF := mk_F eS W
  have bF := mb_F W B
  have fF : (ah_I h M 5).toInt = (nF S : Int) := by rw [qF]; exact nI_x (by omega)
  have gF : (ah_I h M 5 - 1).toInt = (nF S : Int) - 1 := by rw [qF]; exact nI_m1 (by omega)
  refine v_X8_port (d := d + 5) L ?_
  intro h1_1 eh1_1 Xh1_1
  intro h2_2 eh2_2 Xh2_2
  refine ⟨fun c1 => ?_, fun c1 => ?_⟩
  · skip
    intro h4_3 eh4_3 Xh4_3
    have w_ : wy_port S x1 x2 x3 x4 x5 = (2 : Int32) := by
      unfold wy_port
      simp only [i3_lt, i3_le, i6_lt, i6_le, i3_eq, i3_l, Int32.reduceToInt, Int64.reduceToInt, tm_1, tl_1, fF, gF] at c1
      repeat' split
      all_goals first | rfl | (exfalso; omega)
    subst eh1_1
    subst eh2_2
    subst eh4_3
    exact Kf (by rw [w_]; decide) _ (by rw [w_]; exact mpo.st eS)
  · skip
    refine ⟨fun c2 => ?_, fun c2 => ?_⟩
    · skip
      intro h6_4 eh6_4 Xh6_4
      have w_ : wy_port S x1 x2 x3 x4 x5 = (2 : Int32) := by
        unfold wy_port
        simp only [i3_lt, i3_le, i6_lt, i6_le, i3_eq, i3_l, Int32.reduceToInt, Int64.reduceToInt, tm_1, tl_1, fF, gF] at c1 c2
        repeat' split
        all_goals first | rfl | (exfalso; omega)
      subst eh1_1
      subst eh2_2
      subst eh6_4
      exact Kf (by rw [w_]; decide) _ (by rw [w_]; exact mpo.st eS)
    · skip
      refine ⟨fun c3 => ?_, fun c3 => ?_⟩
      · skip
        intro h8_5 eh8_5 Xh8_5
        have w_ : wy_port S x1 x2 x3 x4 x5 = (2 : Int32) := by
          unfold wy_port
          simp only [i3_lt, i3_le, i6_lt, i6_le, i3_eq, i3_l, Int32.reduceToInt, Int64.reduceToInt, tm_1, tl_1, fF, gF] at c1 c2 c3
          repeat' split
          all_goals first | rfl | (exfalso; omega)
        subst eh1_1
        subst eh2_2
        subst eh8_5
        exact Kf (by rw [w_]; decide) _ (by rw [w_]; exact mpo.st eS)
      · skip
        refine ⟨fun c4 => ?_, fun c4 => ?_⟩
        · skip
          intro h10_6 eh10_6 Xh10_6
          have w_ : wy_port S x1 x2 x3 x4 x5 = (2 : Int32) := by
            unfold wy_port
            simp only [i3_lt, i3_le, i6_lt, i6_le, i3_eq, i3_l, Int32.reduceToInt, Int64.reduceToInt, tm_1, tl_1, fF, gF] at c1 c2 c3 c4
            repeat' split
            all_goals first | rfl | (exfalso; omega)
          subst eh1_1
          subst eh2_2
          subst eh10_6
          exact Kf (by rw [w_]; decide) _ (by rw [w_]; exact mpo.st eS)
        · skip
          refine ⟨fun c5 => ?_, fun c5 => ?_⟩
          · skip
            refine ⟨fun c6 => ?_, fun c6 => ?_⟩
            · skip
              intro h13_7 eh13_7 Xh13_7
              have w_ : wy_port S x1 x2 x3 x4 x5 = (5 : Int32) := by
                unfold wy_port
                simp only [i3_lt, i3_le, i6_lt, i6_le, i3_eq, i3_l, Int32.reduceToInt, Int64.reduceToInt, tm_1, tl_1, fF, gF] at c1 c2 c3 c4 c5 c6
                repeat' split
                all_goals first | rfl | (exfalso; omega)
              subst eh1_1
              subst eh2_2
              subst eh13_7
              exact Kf (by rw [w_]; decide) _ (by rw [w_]; exact mpo.st eS)
            · skip
              refine ⟨fun c7 => ?_, fun c7 => ?_⟩
              · skip
                intro h15_8 eh15_8 Xh15_8
                have w_ : wy_port S x1 x2 x3 x4 x5 = (5 : Int32) := by
                  unfold wy_port
                  simp only [i3_lt, i3_le, i6_lt, i6_le, i3_eq, i3_l, Int32.reduceToInt, Int64.reduceToInt, tm_1, tl_1, fF, gF] at c1 c2 c3 c4 c5 c6 c7
                  repeat' split
                  all_goals first | rfl | (exfalso; omega)
                subst eh1_1
                subst eh2_2
                subst eh15_8
                exact Kf (by rw [w_]; decide) _ (by rw [w_]; exact mpo.st eS)
              · skip
                refine ⟨fun c8 => ?_, fun c8 => ?_⟩
                · skip
                  intro h17_9 eh17_9 Xh17_9
                  have w_ : wy_port S x1 x2 x3 x4 x5 = (5 : Int32) := by
                    unfold wy_port
                    simp only [i3_lt, i3_le, i6_lt, i6_le, i3_eq, i3_l, Int32.reduceToInt, Int64.reduceToInt, tm_1, tl_1, fF, gF] at c1 c2 c3 c4 c5 c6 c7 c8
                    repeat' split
                    all_goals first | rfl | (exfalso; omega)
                  subst eh1_1
                  subst eh2_2
                  subst eh17_9
                  exact Kf (by rw [w_]; decide) _ (by rw [w_]; exact mpo.st eS)
                · skip
                  refine ⟨fun c9 => ?_, fun c9 => ?_⟩
                  · skip
                    intro h19_10 eh19_10 Xh19_10
                    have w_ : wy_port S x1 x2 x3 x4 x5 = (5 : Int32) := by
                      unfold wy_port
                      simp only [i3_lt, i3_le, i6_lt, i6_le, i3_eq, i3_l, Int32.reduceToInt, Int64.reduceToInt, tm_1, tl_1, fF, gF] at c1 c2 c3 c4 c5 c6 c7 c8 c9
                      repeat' split
                      all_goals first | rfl | (exfalso; omega)
                    subst eh1_1
                    subst eh2_2
                    subst eh19_10
                    exact Kf (by rw [w_]; decide) _ (by rw [w_]; exact mpo.st eS)
                  · skip
                    have w_ : wy_port S x1 x2 x3 x4 x5 = (0 : Int32) := by
                      unfold wy_port
                      simp only [i3_lt, i3_le, i6_lt, i6_le, i3_eq, i3_l, Int32.reduceToInt, Int64.reduceToInt, tm_1, tl_1, fF, gF] at c1 c2 c3 c4 c5 c6 c7 c8 c9
                      repeat' split
                      all_goals first | rfl | (exfalso; omega)
                    subst eh1_1
                    subst eh2_2
                    obtain ⟨nx11, nx12⟩ := x_nI (x := x1) (n := 1) (by simp only [i3_lt, i3_le, i6_lt, i6_le, i3_eq, i3_l, Int32.reduceToInt, Int64.reduceToInt, tm_1, tl_1, fF, gF] at c1 c2 c3 c4 c5 c6 c7 c8 c9 ⊢; omega) (by simp only [i3_lt, i3_le, i6_lt, i6_le, i3_eq, i3_l, Int32.reduceToInt, Int64.reduceToInt, tm_1, tl_1, fF, gF] at c1 c2 c3 c4 c5 c6 c7 c8 c9 ⊢; omega)
                    obtain ⟨nx21, nx22⟩ := x_nI (x := x2) (n := 5) (by simp only [i3_lt, i3_le, i6_lt, i6_le, i3_eq, i3_l, Int32.reduceToInt, Int64.reduceToInt, tm_1, tl_1, fF, gF] at c1 c2 c3 c4 c5 c6 c7 c8 c9 ⊢; omega) (by simp only [i3_lt, i3_le, i6_lt, i6_le, i3_eq, i3_l, Int32.reduceToInt, Int64.reduceToInt, tm_1, tl_1, fF, gF] at c1 c2 c3 c4 c5 c6 c7 c8 c9 ⊢; omega)
                    obtain ⟨nx31, nx32⟩ := x_nI (x := x3) (n := 9) (by simp only [i3_lt, i3_le, i6_lt, i6_le, i3_eq, i3_l, Int32.reduceToInt, Int64.reduceToInt, tm_1, tl_1, fF, gF] at c1 c2 c3 c4 c5 c6 c7 c8 c9 ⊢; omega) (by simp only [i3_lt, i3_le, i6_lt, i6_le, i3_eq, i3_l, Int32.reduceToInt, Int64.reduceToInt, tm_1, tl_1, fF, gF] at c1 c2 c3 c4 c5 c6 c7 c8 c9 ⊢; omega)
                    have hf : x4 = -1 ∨ (0 ≤ x4.toInt ∧ x4.toInt < 20) := by
                      simp only [i3_lt, i3_le, i6_lt, i6_le, i3_eq, i3_l, Int32.reduceToInt, Int64.reduceToInt, tm_1, tl_1, fF, gF] at c1 c2 c3 c4 c5 c6 c7 c8 c9 ⊢
                      omega
                    refine m_play (L.ext (Xh1_1.tr Xh2_2)) (kq.st eS) W B T (fun g z => ?_)
                    intro _
                    rw [nx11, nx21, nx31]
                    exact m_port75 (z.1.ly (L.ext (Xh1_1.tr Xh2_2))) z.2.1 (by omega) (by omega) (by omega) hf (Kg w_ _ (mpo.qy eS z.1 (by decide) (by decide) (by decide) (by decide)))
          · skip
            refine ⟨fun c10 => ?_, fun c10 => ?_⟩
            · skip
              intro h23_11 eh23_11 Xh23_11
              have w_ : wy_port S x1 x2 x3 x4 x5 = (2 : Int32) := by
                unfold wy_port
                simp only [i3_lt, i3_le, i6_lt, i6_le, i3_eq, i3_l, Int32.reduceToInt, Int64.reduceToInt, tm_1, tl_1, fF, gF] at c1 c2 c3 c4 c5 c10
                repeat' split
                all_goals first | rfl | (exfalso; omega)
              subst eh1_1
              subst eh2_2
              subst eh23_11
              exact Kf (by rw [w_]; decide) _ (by rw [w_]; exact mpo.st eS)
            · skip
              refine ⟨fun c11 => ?_, fun c11 => ?_⟩
              · skip
                intro h25_12 eh25_12 Xh25_12
                have w_ : wy_port S x1 x2 x3 x4 x5 = (2 : Int32) := by
                  unfold wy_port
                  simp only [i3_lt, i3_le, i6_lt, i6_le, i3_eq, i3_l, Int32.reduceToInt, Int64.reduceToInt, tm_1, tl_1, fF, gF] at c1 c2 c3 c4 c5 c10 c11
                  repeat' split
                  all_goals first | rfl | (exfalso; omega)
                subst eh1_1
                subst eh2_2
                subst eh25_12
                exact Kf (by rw [w_]; decide) _ (by rw [w_]; exact mpo.st eS)
              · skip
                refine ⟨fun c12 => ?_, fun c12 => ?_⟩
                · skip
                  intro h27_13 eh27_13 Xh27_13
                  have w_ : wy_port S x1 x2 x3 x4 x5 = (5 : Int32) := by
                    unfold wy_port
                    simp only [i3_lt, i3_le, i6_lt, i6_le, i3_eq, i3_l, Int32.reduceToInt, Int64.reduceToInt, tm_1, tl_1, fF, gF] at c1 c2 c3 c4 c5 c10 c11 c12
                    repeat' split
                    all_goals first | rfl | (exfalso; omega)
                  subst eh1_1
                  subst eh2_2
                  subst eh27_13
                  exact Kf (by rw [w_]; decide) _ (by rw [w_]; exact mpo.st eS)
                · skip
                  refine ⟨fun c13 => ?_, fun c13 => ?_⟩
                  · skip
                    intro h29_14 eh29_14 Xh29_14
                    have w_ : wy_port S x1 x2 x3 x4 x5 = (5 : Int32) := by
                      unfold wy_port
                      simp only [i3_lt, i3_le, i6_lt, i6_le, i3_eq, i3_l, Int32.reduceToInt, Int64.reduceToInt, tm_1, tl_1, fF, gF] at c1 c2 c3 c4 c5 c10 c11 c12 c13
                      repeat' split
                      all_goals first | rfl | (exfalso; omega)
                    subst eh1_1
                    subst eh2_2
                    subst eh29_14
                    exact Kf (by rw [w_]; decide) _ (by rw [w_]; exact mpo.st eS)
                  · skip
                    refine ⟨fun c14 => ?_, fun c14 => ?_⟩
                    · skip
                      intro h31_15 eh31_15 Xh31_15
                      have w_ : wy_port S x1 x2 x3 x4 x5 = (5 : Int32) := by
                        unfold wy_port
                        simp only [i3_lt, i3_le, i6_lt, i6_le, i3_eq, i3_l, Int32.reduceToInt, Int64.reduceToInt, tm_1, tl_1, fF, gF] at c1 c2 c3 c4 c5 c10 c11 c12 c13 c14
                        repeat' split
                        all_goals first | rfl | (exfalso; omega)
                      subst eh1_1
                      subst eh2_2
                      subst eh31_15
                      exact Kf (by rw [w_]; decide) _ (by rw [w_]; exact mpo.st eS)
                    · skip
                      refine ⟨fun c15 => ?_, fun c15 => ?_⟩
                      · skip
                        intro h33_16 eh33_16 Xh33_16
                        have w_ : wy_port S x1 x2 x3 x4 x5 = (5 : Int32) := by
                          unfold wy_port
                          simp only [i3_lt, i3_le, i6_lt, i6_le, i3_eq, i3_l, Int32.reduceToInt, Int64.reduceToInt, tm_1, tl_1, fF, gF] at c1 c2 c3 c4 c5 c10 c11 c12 c13 c14 c15
                          repeat' split
                          all_goals first | rfl | (exfalso; omega)
                        subst eh1_1
                        subst eh2_2
                        subst eh33_16
                        exact Kf (by rw [w_]; decide) _ (by rw [w_]; exact mpo.st eS)
                      · skip
                        have w_ : wy_port S x1 x2 x3 x4 x5 = (0 : Int32) := by
                          unfold wy_port
                          simp only [i3_lt, i3_le, i6_lt, i6_le, i3_eq, i3_l, Int32.reduceToInt, Int64.reduceToInt, tm_1, tl_1, fF, gF] at c1 c2 c3 c4 c5 c10 c11 c12 c13 c14 c15
                          repeat' split
                          all_goals first | rfl | (exfalso; omega)
                        subst eh1_1
                        subst eh2_2
                        obtain ⟨nx11, nx12⟩ := x_nI (x := x1) (n := 1) (by simp only [i3_lt, i3_le, i6_lt, i6_le, i3_eq, i3_l, Int32.reduceToInt, Int64.reduceToInt, tm_1, tl_1, fF, gF] at c1 c2 c3 c4 c5 c10 c11 c12 c13 c14 c15 ⊢; omega) (by simp only [i3_lt, i3_le, i6_lt, i6_le, i3_eq, i3_l, Int32.reduceToInt, Int64.reduceToInt, tm_1, tl_1, fF, gF] at c1 c2 c3 c4 c5 c10 c11 c12 c13 c14 c15 ⊢; omega)
                        obtain ⟨nx21, nx22⟩ := x_nI (x := x2) (n := 5) (by simp only [i3_lt, i3_le, i6_lt, i6_le, i3_eq, i3_l, Int32.reduceToInt, Int64.reduceToInt, tm_1, tl_1, fF, gF] at c1 c2 c3 c4 c5 c10 c11 c12 c13 c14 c15 ⊢; omega) (by simp only [i3_lt, i3_le, i6_lt, i6_le, i3_eq, i3_l, Int32.reduceToInt, Int64.reduceToInt, tm_1, tl_1, fF, gF] at c1 c2 c3 c4 c5 c10 c11 c12 c13 c14 c15 ⊢; omega)
                        obtain ⟨nx31, nx32⟩ := x_nI (x := x3) (n := 9) (by simp only [i3_lt, i3_le, i6_lt, i6_le, i3_eq, i3_l, Int32.reduceToInt, Int64.reduceToInt, tm_1, tl_1, fF, gF] at c1 c2 c3 c4 c5 c10 c11 c12 c13 c14 c15 ⊢; omega) (by simp only [i3_lt, i3_le, i6_lt, i6_le, i3_eq, i3_l, Int32.reduceToInt, Int64.reduceToInt, tm_1, tl_1, fF, gF] at c1 c2 c3 c4 c5 c10 c11 c12 c13 c14 c15 ⊢; omega)
                        have hf : x4 = -1 ∨ (0 ≤ x4.toInt ∧ x4.toInt < 20) := by
                          simp only [i3_lt, i3_le, i6_lt, i6_le, i3_eq, i3_l, Int32.reduceToInt, Int64.reduceToInt, tm_1, tl_1, fF, gF] at c1 c2 c3 c4 c5 c10 c11 c12 c13 c14 c15 ⊢
                          omega
                        refine m_play (L.ext (Xh1_1.tr Xh2_2)) (kq.st eS) W B T (fun g z => ?_)
                        intro _
                        rw [nx11, nx21, nx31]
                        exact m_port75 (z.1.ly (L.ext (Xh1_1.tr Xh2_2))) z.2.1 (by omega) (by omega) (by omega) hf (Kg w_ _ (mpo.qy eS z.1 (by decide) (by decide) (by decide) (by decide)))
def wy_sum (S : MS) (x1 x2 x3 : Int32) : Int32 := if x1.toInt = -1 ∨ (0 ≤ x1.toInt ∧ x1.toInt ≤ ((nF) S : Int) - 1) then (if ((0 ≤ x2.toInt ∧ x2.toInt ≤ 3) ∨ (x2.toInt = 4 ∧ x1.toInt = -1)) ∧ (0 ≤ x3.toInt ∧ x3.toInt ≤ 519) then 0 else 5) else 2
theorem c_sumQ {G : ma_G} {d X : Nat} {h : ah_T} {S : MS} {tx : Nat → List Nat × List PD} {Q : Option ma_V → ah_T → Prop} {E : Nat → ah_T → Prop} {x1 x2 x3 : Int32} (L : LY0 h X) (C : CI0 h X S) (T : CIk G h X S tx)  (Kf : wy_sum S x1 x2 x3 ≠ 0 → ∀ h1, cpo X h h1 (uI S 0 0 (wy_sum S x1 x2 x3)) → Q (some (iv (-1))) h1) (Kg : wy_sum S x1 x2 x3 = 0 → ∀ h1, cpo X h h1 (uI S 0 0 0) → Q (some (iv (smV (PLS S tx x3 (nV S)) x1 x2))) h1) : MX G mi_X0_sum (d + 53) 0 [some (rv X), some (iv x1), some (iv x2), some (iv x3), none, none, none] [] h Q E := by
  have bF := C.iF.2
  have fF : (ah_I h X 14).toInt = (nF S : Int) := by rw [C.iF.1]; exact nI_x (by omega)
  refine v_X0_sum (d := d + 52) L ?_
  refine ⟨fun c1 => ?_, fun c1 => ?_⟩
  · skip
    refine v_X0_sum_19 (d := d + 52) L ?_
    refine ⟨fun c2 => ?_, fun c2 => ?_⟩
    · skip
      intro h2_1 eh2_1 Xh2_1
      have w_ : wy_sum S x1 x2 x3 = (5 : Int32) := by
        unfold wy_sum
        simp only [i3_lt, i3_le, i6_lt, i6_le, i3_eq, i3_l, Int32.reduceToInt, Int64.reduceToInt, tm_1, tl_1, fF] at c1 c2
        repeat' split
        all_goals first | rfl | (exfalso; omega)
      subst eh2_1
      exact Kf (by rw [w_]; decide) _ (by rw [w_]; exact cpo.st L C Xh2_1)
    · skip
      refine ⟨fun c3 => ?_, fun c3 => ?_⟩
      · skip
        intro h4_2 eh4_2 Xh4_2
        have w_ : wy_sum S x1 x2 x3 = (5 : Int32) := by
          unfold wy_sum
          simp only [i3_lt, i3_le, i6_lt, i6_le, i3_eq, i3_l, Int32.reduceToInt, Int64.reduceToInt, tm_1, tl_1, fF] at c1 c2 c3
          repeat' split
          all_goals first | rfl | (exfalso; omega)
        subst eh4_2
        exact Kf (by rw [w_]; decide) _ (by rw [w_]; exact cpo.st L C Xh4_2)
      · skip
        refine ⟨fun c4 => ?_, fun c4 => ?_⟩
        · skip
          refine v_X0_sum_38 (d := d + 52) L ?_
          refine ⟨fun c5 => ?_, fun c5 => ?_⟩
          · skip
            intro h2_3 eh2_3 Xh2_3
            have w_ : wy_sum S x1 x2 x3 = (5 : Int32) := by
              unfold wy_sum
              simp only [i3_lt, i3_le, i6_lt, i6_le, i3_eq, i3_l, Int32.reduceToInt, Int64.reduceToInt, tm_1, tl_1, fF] at c1 c2 c3 c4 c5
              repeat' split
              all_goals first | rfl | (exfalso; omega)
            subst eh2_3
            exact Kf (by rw [w_]; decide) _ (by rw [w_]; exact cpo.st L C Xh2_3)
          · skip
            refine ⟨fun c6 => ?_, fun c6 => ?_⟩
            · skip
              intro h4_4 eh4_4 Xh4_4
              have w_ : wy_sum S x1 x2 x3 = (5 : Int32) := by
                unfold wy_sum
                simp only [i3_lt, i3_le, i6_lt, i6_le, i3_eq, i3_l, Int32.reduceToInt, Int64.reduceToInt, tm_1, tl_1, fF] at c1 c2 c3 c4 c5 c6
                repeat' split
                all_goals first | rfl | (exfalso; omega)
              subst eh4_4
              exact Kf (by rw [w_]; decide) _ (by rw [w_]; exact cpo.st L C Xh4_4)
            · skip
              have w_ : wy_sum S x1 x2 x3 = (0 : Int32) := by
                unfold wy_sum
                simp only [i3_lt, i3_le, i6_lt, i6_le, i3_eq, i3_l, Int32.reduceToInt, Int64.reduceToInt, tm_1, tl_1, fF] at c1 c2 c3 c4 c5 c6
                repeat' split
                all_goals first | rfl | (exfalso; omega)
              obtain ⟨nx21, nx22⟩ := x_nI (x := x2) (n := 4) (by simp only [i3_lt, i3_le, i6_lt, i6_le, i3_eq, i3_l, Int32.reduceToInt, Int64.reduceToInt, tm_1, tl_1, fF] at c1 c2 c3 c4 c5 c6 ⊢; omega) (by simp only [i3_lt, i3_le, i6_lt, i6_le, i3_eq, i3_l, Int32.reduceToInt, Int64.reduceToInt, tm_1, tl_1, fF] at c1 c2 c3 c4 c5 c6 ⊢; omega)
              have hf : x1 = -1 ∨ (0 ≤ x1.toInt ∧ x1.toInt < (nF S : Int)) := by
                simp only [i3_lt, i3_le, i6_lt, i6_le, i3_eq, i3_l, Int32.reduceToInt, Int64.reduceToInt, tm_1, tl_1, fF] at c1 c2 c3 c4 c5 c6 ⊢
                omega
              have f20 := C.iF.2
              refine c_plays L C T (fun g I _ => ?_)
              intro _
              have Cg := C.qf L I.1
              have Wz := (PLS_i (tx := tx) (kn := x3) C.2.2.2.2.2 ⟨C.iF.2, C.iE.2, C.iV.2⟩ (Nat.le_refl (nV S))).2.1
              have go : ∀ i, i < 4 → x2 = nI i → MX G mi_X0_sum (d + 52 + 1) 133 [some (rv X), some (iv x1), none, none, some (rv (X + 9 + (89 + i))), some (iv (0 : Int32)), some (iv (0 : Int32))] [] g Q E := fun i hi e => by
                have kk := Kg w_ _ (I.1.po L C (c := 0))
                unfold smV at kk
                rw [e, if_neg (by rw [show (4 : Int32) = nI 4 from rfl, nI_eq (by omega) (by decide)]; omega), nI_clamp (by omega)] at kk
                exact c_sum133 (I.1.ly L) Cg I.2.1 hi (fun f h1 h2 => Wz _ _ _ (by omega) h1 h2) hf (fun h2 e2 => by rw [e2]; exact kk)
              have two : ∀ j, j ≤ 4 → x2.toNatClampNeg = j → x2 = nI j := fun j _ e => by rw [nx21, e]
              refine ⟨fun q4 => ⟨fun q0 => ⟨fun q1 => ⟨fun q2 => ?_, fun q2 => go 2 (by omega) q2⟩, fun q1 => go 1 (by omega) q1⟩, fun q0 => go 0 (by omega) q0⟩, fun q4 h23 e23 _ => ?_⟩
              · refine go 3 (by omega) (two 3 (by omega) ?_)
                have r0 : x2.toNatClampNeg ≠ 0 := fun e => q0 (two 0 (by omega) e)
                have r1 : x2.toNatClampNeg ≠ 1 := fun e => q1 (two 1 (by omega) e)
                have r2 : x2.toNatClampNeg ≠ 2 := fun e => q2 (two 2 (by omega) e)
                have r4 : x2.toNatClampNeg ≠ 4 := fun e => q4 (two 4 (by omega) e)
                omega
              · have kk := Kg w_ _ (I.1.po L C (c := 0))
                unfold smV at kk
                rw [if_pos q4] at kk
                have jl : ah_J g (X + 9) 11 = lN (PLS S tx x3 (nV S) 15 0 0) := I.2.1.2.2.2.2
                rw [jl, lN_i, e23]; exact kk
        · skip
          refine ⟨fun c7 => ?_, fun c7 => ?_⟩
          · skip
            intro h7_5 eh7_5 Xh7_5
            have w_ : wy_sum S x1 x2 x3 = (5 : Int32) := by
              unfold wy_sum
              simp only [i3_lt, i3_le, i6_lt, i6_le, i3_eq, i3_l, Int32.reduceToInt, Int64.reduceToInt, tm_1, tl_1, fF] at c1 c2 c3 c4 c7
              repeat' split
              all_goals first | rfl | (exfalso; omega)
            subst eh7_5
            exact Kf (by rw [w_]; decide) _ (by rw [w_]; exact cpo.st L C Xh7_5)
          · skip
            refine v_X0_sum_38 (d := d + 52) L ?_
            refine ⟨fun c8 => ?_, fun c8 => ?_⟩
            · skip
              intro h2_6 eh2_6 Xh2_6
              have w_ : wy_sum S x1 x2 x3 = (5 : Int32) := by
                unfold wy_sum
                simp only [i3_lt, i3_le, i6_lt, i6_le, i3_eq, i3_l, Int32.reduceToInt, Int64.reduceToInt, tm_1, tl_1, fF] at c1 c2 c3 c4 c7 c8
                repeat' split
                all_goals first | rfl | (exfalso; omega)
              subst eh2_6
              exact Kf (by rw [w_]; decide) _ (by rw [w_]; exact cpo.st L C Xh2_6)
            · skip
              refine ⟨fun c9 => ?_, fun c9 => ?_⟩
              · skip
                intro h4_7 eh4_7 Xh4_7
                have w_ : wy_sum S x1 x2 x3 = (5 : Int32) := by
                  unfold wy_sum
                  simp only [i3_lt, i3_le, i6_lt, i6_le, i3_eq, i3_l, Int32.reduceToInt, Int64.reduceToInt, tm_1, tl_1, fF] at c1 c2 c3 c4 c7 c8 c9
                  repeat' split
                  all_goals first | rfl | (exfalso; omega)
                subst eh4_7
                exact Kf (by rw [w_]; decide) _ (by rw [w_]; exact cpo.st L C Xh4_7)
              · skip
                have w_ : wy_sum S x1 x2 x3 = (0 : Int32) := by
                  unfold wy_sum
                  simp only [i3_lt, i3_le, i6_lt, i6_le, i3_eq, i3_l, Int32.reduceToInt, Int64.reduceToInt, tm_1, tl_1, fF] at c1 c2 c3 c4 c7 c8 c9
                  repeat' split
                  all_goals first | rfl | (exfalso; omega)
                obtain ⟨nx21, nx22⟩ := x_nI (x := x2) (n := 4) (by simp only [i3_lt, i3_le, i6_lt, i6_le, i3_eq, i3_l, Int32.reduceToInt, Int64.reduceToInt, tm_1, tl_1, fF] at c1 c2 c3 c4 c7 c8 c9 ⊢; omega) (by simp only [i3_lt, i3_le, i6_lt, i6_le, i3_eq, i3_l, Int32.reduceToInt, Int64.reduceToInt, tm_1, tl_1, fF] at c1 c2 c3 c4 c7 c8 c9 ⊢; omega)
                have hf : x1 = -1 ∨ (0 ≤ x1.toInt ∧ x1.toInt < (nF S : Int)) := by
                  simp only [i3_lt, i3_le, i6_lt, i6_le, i3_eq, i3_l, Int32.reduceToInt, Int64.reduceToInt, tm_1, tl_1, fF] at c1 c2 c3 c4 c7 c8 c9 ⊢
                  omega
                have f20 := C.iF.2
                refine c_plays L C T (fun g I _ => ?_)
                intro _
                have Cg := C.qf L I.1
                have Wz := (PLS_i (tx := tx) (kn := x3) C.2.2.2.2.2 ⟨C.iF.2, C.iE.2, C.iV.2⟩ (Nat.le_refl (nV S))).2.1
                have go : ∀ i, i < 4 → x2 = nI i → MX G mi_X0_sum (d + 52 + 1) 133 [some (rv X), some (iv x1), none, none, some (rv (X + 9 + (89 + i))), some (iv (0 : Int32)), some (iv (0 : Int32))] [] g Q E := fun i hi e => by
                  have kk := Kg w_ _ (I.1.po L C (c := 0))
                  unfold smV at kk
                  rw [e, if_neg (by rw [show (4 : Int32) = nI 4 from rfl, nI_eq (by omega) (by decide)]; omega), nI_clamp (by omega)] at kk
                  exact c_sum133 (I.1.ly L) Cg I.2.1 hi (fun f h1 h2 => Wz _ _ _ (by omega) h1 h2) hf (fun h2 e2 => by rw [e2]; exact kk)
                have two : ∀ j, j ≤ 4 → x2.toNatClampNeg = j → x2 = nI j := fun j _ e => by rw [nx21, e]
                refine ⟨fun q4 => ⟨fun q0 => ⟨fun q1 => ⟨fun q2 => ?_, fun q2 => go 2 (by omega) q2⟩, fun q1 => go 1 (by omega) q1⟩, fun q0 => go 0 (by omega) q0⟩, fun q4 h23 e23 _ => ?_⟩
                · refine go 3 (by omega) (two 3 (by omega) ?_)
                  have r0 : x2.toNatClampNeg ≠ 0 := fun e => q0 (two 0 (by omega) e)
                  have r1 : x2.toNatClampNeg ≠ 1 := fun e => q1 (two 1 (by omega) e)
                  have r2 : x2.toNatClampNeg ≠ 2 := fun e => q2 (two 2 (by omega) e)
                  have r4 : x2.toNatClampNeg ≠ 4 := fun e => q4 (two 4 (by omega) e)
                  omega
                · have kk := Kg w_ _ (I.1.po L C (c := 0))
                  unfold smV at kk
                  rw [if_pos q4] at kk
                  have jl : ah_J g (X + 9) 11 = lN (PLS S tx x3 (nV S) 15 0 0) := I.2.1.2.2.2.2
                  rw [jl, lN_i, e23]; exact kk
  · skip
    refine ⟨fun c10 => ?_, fun c10 => ?_⟩
    · skip
      intro h3_8 eh3_8 Xh3_8
      have w_ : wy_sum S x1 x2 x3 = (2 : Int32) := by
        unfold wy_sum
        simp only [i3_lt, i3_le, i6_lt, i6_le, i3_eq, i3_l, Int32.reduceToInt, Int64.reduceToInt, tm_1, tl_1, fF] at c1 c10
        repeat' split
        all_goals first | rfl | (exfalso; omega)
      subst eh3_8
      exact Kf (by rw [w_]; decide) _ (by rw [w_]; exact cpo.st L C Xh3_8)
    · skip
      refine ⟨fun c11 => ?_, fun c11 => ?_⟩
      · skip
        intro h5_9 eh5_9 Xh5_9
        have w_ : wy_sum S x1 x2 x3 = (2 : Int32) := by
          unfold wy_sum
          simp only [i3_lt, i3_le, i6_lt, i6_le, i3_eq, i3_l, Int32.reduceToInt, Int64.reduceToInt, tm_1, tl_1, fF] at c1 c10 c11
          repeat' split
          all_goals first | rfl | (exfalso; omega)
        subst eh5_9
        exact Kf (by rw [w_]; decide) _ (by rw [w_]; exact cpo.st L C Xh5_9)
      · skip
        refine v_X0_sum_19 (d := d + 52) L ?_
        refine ⟨fun c12 => ?_, fun c12 => ?_⟩
        · skip
          intro h2_10 eh2_10 Xh2_10
          have w_ : wy_sum S x1 x2 x3 = (5 : Int32) := by
            unfold wy_sum
            simp only [i3_lt, i3_le, i6_lt, i6_le, i3_eq, i3_l, Int32.reduceToInt, Int64.reduceToInt, tm_1, tl_1, fF] at c1 c10 c11 c12
            repeat' split
            all_goals first | rfl | (exfalso; omega)
          subst eh2_10
          exact Kf (by rw [w_]; decide) _ (by rw [w_]; exact cpo.st L C Xh2_10)
        · skip
          refine ⟨fun c13 => ?_, fun c13 => ?_⟩
          · skip
            intro h4_11 eh4_11 Xh4_11
            have w_ : wy_sum S x1 x2 x3 = (5 : Int32) := by
              unfold wy_sum
              simp only [i3_lt, i3_le, i6_lt, i6_le, i3_eq, i3_l, Int32.reduceToInt, Int64.reduceToInt, tm_1, tl_1, fF] at c1 c10 c11 c12 c13
              repeat' split
              all_goals first | rfl | (exfalso; omega)
            subst eh4_11
            exact Kf (by rw [w_]; decide) _ (by rw [w_]; exact cpo.st L C Xh4_11)
          · skip
            refine ⟨fun c14 => ?_, fun c14 => ?_⟩
            · skip
              refine v_X0_sum_38 (d := d + 52) L ?_
              refine ⟨fun c15 => ?_, fun c15 => ?_⟩
              · skip
                intro h2_12 eh2_12 Xh2_12
                have w_ : wy_sum S x1 x2 x3 = (5 : Int32) := by
                  unfold wy_sum
                  simp only [i3_lt, i3_le, i6_lt, i6_le, i3_eq, i3_l, Int32.reduceToInt, Int64.reduceToInt, tm_1, tl_1, fF] at c1 c10 c11 c12 c13 c14 c15
                  repeat' split
                  all_goals first | rfl | (exfalso; omega)
                subst eh2_12
                exact Kf (by rw [w_]; decide) _ (by rw [w_]; exact cpo.st L C Xh2_12)
              · skip
                refine ⟨fun c16 => ?_, fun c16 => ?_⟩
                · skip
                  intro h4_13 eh4_13 Xh4_13
                  have w_ : wy_sum S x1 x2 x3 = (5 : Int32) := by
                    unfold wy_sum
                    simp only [i3_lt, i3_le, i6_lt, i6_le, i3_eq, i3_l, Int32.reduceToInt, Int64.reduceToInt, tm_1, tl_1, fF] at c1 c10 c11 c12 c13 c14 c15 c16
                    repeat' split
                    all_goals first | rfl | (exfalso; omega)
                  subst eh4_13
                  exact Kf (by rw [w_]; decide) _ (by rw [w_]; exact cpo.st L C Xh4_13)
                · skip
                  have w_ : wy_sum S x1 x2 x3 = (0 : Int32) := by
                    unfold wy_sum
                    simp only [i3_lt, i3_le, i6_lt, i6_le, i3_eq, i3_l, Int32.reduceToInt, Int64.reduceToInt, tm_1, tl_1, fF] at c1 c10 c11 c12 c13 c14 c15 c16
                    repeat' split
                    all_goals first | rfl | (exfalso; omega)
                  obtain ⟨nx21, nx22⟩ := x_nI (x := x2) (n := 4) (by simp only [i3_lt, i3_le, i6_lt, i6_le, i3_eq, i3_l, Int32.reduceToInt, Int64.reduceToInt, tm_1, tl_1, fF] at c1 c10 c11 c12 c13 c14 c15 c16 ⊢; omega) (by simp only [i3_lt, i3_le, i6_lt, i6_le, i3_eq, i3_l, Int32.reduceToInt, Int64.reduceToInt, tm_1, tl_1, fF] at c1 c10 c11 c12 c13 c14 c15 c16 ⊢; omega)
                  have hf : x1 = -1 ∨ (0 ≤ x1.toInt ∧ x1.toInt < (nF S : Int)) := by
                    simp only [i3_lt, i3_le, i6_lt, i6_le, i3_eq, i3_l, Int32.reduceToInt, Int64.reduceToInt, tm_1, tl_1, fF] at c1 c10 c11 c12 c13 c14 c15 c16 ⊢
                    omega
                  have f20 := C.iF.2
                  refine c_plays L C T (fun g I _ => ?_)
                  intro _
                  have Cg := C.qf L I.1
                  have Wz := (PLS_i (tx := tx) (kn := x3) C.2.2.2.2.2 ⟨C.iF.2, C.iE.2, C.iV.2⟩ (Nat.le_refl (nV S))).2.1
                  have go : ∀ i, i < 4 → x2 = nI i → MX G mi_X0_sum (d + 52 + 1) 133 [some (rv X), some (iv x1), none, none, some (rv (X + 9 + (89 + i))), some (iv (0 : Int32)), some (iv (0 : Int32))] [] g Q E := fun i hi e => by
                    have kk := Kg w_ _ (I.1.po L C (c := 0))
                    unfold smV at kk
                    rw [e, if_neg (by rw [show (4 : Int32) = nI 4 from rfl, nI_eq (by omega) (by decide)]; omega), nI_clamp (by omega)] at kk
                    exact c_sum133 (I.1.ly L) Cg I.2.1 hi (fun f h1 h2 => Wz _ _ _ (by omega) h1 h2) hf (fun h2 e2 => by rw [e2]; exact kk)
                  have two : ∀ j, j ≤ 4 → x2.toNatClampNeg = j → x2 = nI j := fun j _ e => by rw [nx21, e]
                  refine ⟨fun q4 => ⟨fun q0 => ⟨fun q1 => ⟨fun q2 => ?_, fun q2 => go 2 (by omega) q2⟩, fun q1 => go 1 (by omega) q1⟩, fun q0 => go 0 (by omega) q0⟩, fun q4 h23 e23 _ => ?_⟩
                  · refine go 3 (by omega) (two 3 (by omega) ?_)
                    have r0 : x2.toNatClampNeg ≠ 0 := fun e => q0 (two 0 (by omega) e)
                    have r1 : x2.toNatClampNeg ≠ 1 := fun e => q1 (two 1 (by omega) e)
                    have r2 : x2.toNatClampNeg ≠ 2 := fun e => q2 (two 2 (by omega) e)
                    have r4 : x2.toNatClampNeg ≠ 4 := fun e => q4 (two 4 (by omega) e)
                    omega
                  · have kk := Kg w_ _ (I.1.po L C (c := 0))
                    unfold smV at kk
                    rw [if_pos q4] at kk
                    have jl : ah_J g (X + 9) 11 = lN (PLS S tx x3 (nV S) 15 0 0) := I.2.1.2.2.2.2
                    rw [jl, lN_i, e23]; exact kk
            · skip
              refine ⟨fun c17 => ?_, fun c17 => ?_⟩
              · skip
                intro h7_14 eh7_14 Xh7_14
                have w_ : wy_sum S x1 x2 x3 = (5 : Int32) := by
                  unfold wy_sum
                  simp only [i3_lt, i3_le, i6_lt, i6_le, i3_eq, i3_l, Int32.reduceToInt, Int64.reduceToInt, tm_1, tl_1, fF] at c1 c10 c11 c12 c13 c14 c17
                  repeat' split
                  all_goals first | rfl | (exfalso; omega)
                subst eh7_14
                exact Kf (by rw [w_]; decide) _ (by rw [w_]; exact cpo.st L C Xh7_14)
              · skip
                refine v_X0_sum_38 (d := d + 52) L ?_
                refine ⟨fun c18 => ?_, fun c18 => ?_⟩
                · skip
                  intro h2_15 eh2_15 Xh2_15
                  have w_ : wy_sum S x1 x2 x3 = (5 : Int32) := by
                    unfold wy_sum
                    simp only [i3_lt, i3_le, i6_lt, i6_le, i3_eq, i3_l, Int32.reduceToInt, Int64.reduceToInt, tm_1, tl_1, fF] at c1 c10 c11 c12 c13 c14 c17 c18
                    repeat' split
                    all_goals first | rfl | (exfalso; omega)
                  subst eh2_15
                  exact Kf (by rw [w_]; decide) _ (by rw [w_]; exact cpo.st L C Xh2_15)
                · skip
                  refine ⟨fun c19 => ?_, fun c19 => ?_⟩
                  · skip
                    intro h4_16 eh4_16 Xh4_16
                    have w_ : wy_sum S x1 x2 x3 = (5 : Int32) := by
                      unfold wy_sum
                      simp only [i3_lt, i3_le, i6_lt, i6_le, i3_eq, i3_l, Int32.reduceToInt, Int64.reduceToInt, tm_1, tl_1, fF] at c1 c10 c11 c12 c13 c14 c17 c18 c19
                      repeat' split
                      all_goals first | rfl | (exfalso; omega)
                    subst eh4_16
                    exact Kf (by rw [w_]; decide) _ (by rw [w_]; exact cpo.st L C Xh4_16)
                  · skip
                    have w_ : wy_sum S x1 x2 x3 = (0 : Int32) := by
                      unfold wy_sum
                      simp only [i3_lt, i3_le, i6_lt, i6_le, i3_eq, i3_l, Int32.reduceToInt, Int64.reduceToInt, tm_1, tl_1, fF] at c1 c10 c11 c12 c13 c14 c17 c18 c19
                      repeat' split
                      all_goals first | rfl | (exfalso; omega)
                    obtain ⟨nx21, nx22⟩ := x_nI (x := x2) (n := 4) (by simp only [i3_lt, i3_le, i6_lt, i6_le, i3_eq, i3_l, Int32.reduceToInt, Int64.reduceToInt, tm_1, tl_1, fF] at c1 c10 c11 c12 c13 c14 c17 c18 c19 ⊢; omega) (by simp only [i3_lt, i3_le, i6_lt, i6_le, i3_eq, i3_l, Int32.reduceToInt, Int64.reduceToInt, tm_1, tl_1, fF] at c1 c10 c11 c12 c13 c14 c17 c18 c19 ⊢; omega)
                    have hf : x1 = -1 ∨ (0 ≤ x1.toInt ∧ x1.toInt < (nF S : Int)) := by
                      simp only [i3_lt, i3_le, i6_lt, i6_le, i3_eq, i3_l, Int32.reduceToInt, Int64.reduceToInt, tm_1, tl_1, fF] at c1 c10 c11 c12 c13 c14 c17 c18 c19 ⊢
                      omega
                    have f20 := C.iF.2
                    refine c_plays L C T (fun g I _ => ?_)
                    intro _
                    have Cg := C.qf L I.1
                    have Wz := (PLS_i (tx := tx) (kn := x3) C.2.2.2.2.2 ⟨C.iF.2, C.iE.2, C.iV.2⟩ (Nat.le_refl (nV S))).2.1
                    have go : ∀ i, i < 4 → x2 = nI i → MX G mi_X0_sum (d + 52 + 1) 133 [some (rv X), some (iv x1), none, none, some (rv (X + 9 + (89 + i))), some (iv (0 : Int32)), some (iv (0 : Int32))] [] g Q E := fun i hi e => by
                      have kk := Kg w_ _ (I.1.po L C (c := 0))
                      unfold smV at kk
                      rw [e, if_neg (by rw [show (4 : Int32) = nI 4 from rfl, nI_eq (by omega) (by decide)]; omega), nI_clamp (by omega)] at kk
                      exact c_sum133 (I.1.ly L) Cg I.2.1 hi (fun f h1 h2 => Wz _ _ _ (by omega) h1 h2) hf (fun h2 e2 => by rw [e2]; exact kk)
                    have two : ∀ j, j ≤ 4 → x2.toNatClampNeg = j → x2 = nI j := fun j _ e => by rw [nx21, e]
                    refine ⟨fun q4 => ⟨fun q0 => ⟨fun q1 => ⟨fun q2 => ?_, fun q2 => go 2 (by omega) q2⟩, fun q1 => go 1 (by omega) q1⟩, fun q0 => go 0 (by omega) q0⟩, fun q4 h23 e23 _ => ?_⟩
                    · refine go 3 (by omega) (two 3 (by omega) ?_)
                      have r0 : x2.toNatClampNeg ≠ 0 := fun e => q0 (two 0 (by omega) e)
                      have r1 : x2.toNatClampNeg ≠ 1 := fun e => q1 (two 1 (by omega) e)
                      have r2 : x2.toNatClampNeg ≠ 2 := fun e => q2 (two 2 (by omega) e)
                      have r4 : x2.toNatClampNeg ≠ 4 := fun e => q4 (two 4 (by omega) e)
                      omega
                    · have kk := Kg w_ _ (I.1.po L C (c := 0))
                      unfold smV at kk
                      rw [if_pos q4] at kk
                      have jl : ah_J g (X + 9) 11 = lN (PLS S tx x3 (nV S) 15 0 0) := I.2.1.2.2.2.2
                      rw [jl, lN_i, e23]; exact kk
theorem m_sumQ {G : ma_G} {d M : Nat} {h : ah_T} {S : MS} {tx : Nat → List Nat × List PD} {Q : Option ma_V → ah_T → Prop} {E : Nat → ah_T → Prop} {x1 x2 x3 : Int32} (L : LY8 h M) (eS : mv h M = S) (W : WF S) (B : WB S) (T : TXm S tx)  (Kf : wy_sum S x1 x2 x3 ≠ 0 → ∀ h1, mpo M h h1 (uI S 0 0 (wy_sum S x1 x2 x3)) → Q (some (iv (-1))) h1) (Kg : wy_sum S x1 x2 x3 = 0 → ∀ h1, mpo M h h1 (uI S 0 0 0) → Q (some (iv (smV (PLS S tx x3 (nV S)) x1 x2))) h1) : MX G mi_X8_sum (d + 8) 0 [some (rv M), some (iv x1), some (iv x2), some (iv x3), none, none] [] h Q E := by
  have qF := mk_F eS W
  have bF := mb_F W B
  have fF : (ah_I h M 5).toInt = (nF S : Int) := by rw [qF]; exact nI_x (by omega)
  have gF : (ah_I h M 5 - 1).toInt = (nF S : Int) - 1 := by rw [qF]; exact nI_m1 (by omega)
  refine v_X8_sum (d := d + 5) L ?_
  intro h1_1 eh1_1 Xh1_1
  intro h2_2 eh2_2 Xh2_2
  refine ⟨fun c1 => ?_, fun c1 => ?_⟩
  · skip
    refine v_X8_sum_41 (d := d + 5) (L.ext (Xh1_1.tr Xh2_2)) ?_
    refine ⟨fun c2 => ?_, fun c2 => ?_⟩
    · skip
      intro h2_3 eh2_3 Xh2_3
      have w_ : wy_sum S x1 x2 x3 = (5 : Int32) := by
        unfold wy_sum
        simp only [i3_lt, i3_le, i6_lt, i6_le, i3_eq, i3_l, Int32.reduceToInt, Int64.reduceToInt, tm_1, tl_1, fF, gF] at c1 c2
        repeat' split
        all_goals first | rfl | (exfalso; omega)
      subst eh1_1
      subst eh2_2
      subst eh2_3
      exact Kf (by rw [w_]; decide) _ (by rw [w_]; exact mpo.st eS)
    · skip
      refine ⟨fun c3 => ?_, fun c3 => ?_⟩
      · skip
        intro h4_4 eh4_4 Xh4_4
        have w_ : wy_sum S x1 x2 x3 = (5 : Int32) := by
          unfold wy_sum
          simp only [i3_lt, i3_le, i6_lt, i6_le, i3_eq, i3_l, Int32.reduceToInt, Int64.reduceToInt, tm_1, tl_1, fF, gF] at c1 c2 c3
          repeat' split
          all_goals first | rfl | (exfalso; omega)
        subst eh1_1
        subst eh2_2
        subst eh4_4
        exact Kf (by rw [w_]; decide) _ (by rw [w_]; exact mpo.st eS)
      · skip
        refine ⟨fun c4 => ?_, fun c4 => ?_⟩
        · skip
          intro h6_5 eh6_5 Xh6_5
          have w_ : wy_sum S x1 x2 x3 = (5 : Int32) := by
            unfold wy_sum
            simp only [i3_lt, i3_le, i6_lt, i6_le, i3_eq, i3_l, Int32.reduceToInt, Int64.reduceToInt, tm_1, tl_1, fF, gF] at c1 c2 c3 c4
            repeat' split
            all_goals first | rfl | (exfalso; omega)
          subst eh1_1
          subst eh2_2
          subst eh6_5
          exact Kf (by rw [w_]; decide) _ (by rw [w_]; exact mpo.st eS)
        · skip
          refine ⟨fun c5 => ?_, fun c5 => ?_⟩
          · skip
            intro h8_6 eh8_6 Xh8_6
            have w_ : wy_sum S x1 x2 x3 = (5 : Int32) := by
              unfold wy_sum
              simp only [i3_lt, i3_le, i6_lt, i6_le, i3_eq, i3_l, Int32.reduceToInt, Int64.reduceToInt, tm_1, tl_1, fF, gF] at c1 c2 c3 c4 c5
              repeat' split
              all_goals first | rfl | (exfalso; omega)
            subst eh1_1
            subst eh2_2
            subst eh8_6
            exact Kf (by rw [w_]; decide) _ (by rw [w_]; exact mpo.st eS)
          · skip
            have w_ : wy_sum S x1 x2 x3 = (0 : Int32) := by
              unfold wy_sum
              simp only [i3_lt, i3_le, i6_lt, i6_le, i3_eq, i3_l, Int32.reduceToInt, Int64.reduceToInt, tm_1, tl_1, fF, gF] at c1 c2 c3 c4 c5
              repeat' split
              all_goals first | rfl | (exfalso; omega)
            subst eh1_1
            subst eh2_2
            obtain ⟨nx21, nx22⟩ := x_nI (x := x2) (n := 4) (by simp only [i3_lt, i3_le, i6_lt, i6_le, i3_eq, i3_l, Int32.reduceToInt, Int64.reduceToInt, tm_1, tl_1, fF, gF] at c1 c2 c3 c4 c5 ⊢; omega) (by simp only [i3_lt, i3_le, i6_lt, i6_le, i3_eq, i3_l, Int32.reduceToInt, Int64.reduceToInt, tm_1, tl_1, fF, gF] at c1 c2 c3 c4 c5 ⊢; omega)
            have hf : x1 = -1 ∨ (0 ≤ x1.toInt ∧ x1.toInt < 20) := by
              simp only [i3_lt, i3_le, i6_lt, i6_le, i3_eq, i3_l, Int32.reduceToInt, Int64.reduceToInt, tm_1, tl_1, fF, gF] at c1 c2 c3 c4 c5 ⊢
              omega
            refine m_play (L.ext (Xh1_1.tr Xh2_2)) (kq.st eS) W B T (fun g z => ?_)
            intro _
            have kk := Kg w_ _ (mpo.qy eS z.1 (by decide) (by decide) (by decide) (by decide))
            unfold smV at kk
            refine ⟨fun q4 => ?_, fun q4 => ?_⟩
            · rw [if_neg q4] at kk
              have r4 : x2.toNatClampNeg ≠ 4 := fun e => q4 (by rw [nx21, e]; rfl)
              rw [nx21]
              exact m_sum81 (z.1.ly (L.ext (Xh1_1.tr Xh2_2))) z.2.1 (by omega) hf kk
            · rw [if_pos q4] at kk
              rw [z.2.1.2.2.2]; exact kk
  · skip
    refine ⟨fun c6 => ?_, fun c6 => ?_⟩
    · skip
      intro h5_7 eh5_7 Xh5_7
      have w_ : wy_sum S x1 x2 x3 = (2 : Int32) := by
        unfold wy_sum
        simp only [i3_lt, i3_le, i6_lt, i6_le, i3_eq, i3_l, Int32.reduceToInt, Int64.reduceToInt, tm_1, tl_1, fF, gF] at c1 c6
        repeat' split
        all_goals first | rfl | (exfalso; omega)
      subst eh1_1
      subst eh2_2
      subst eh5_7
      exact Kf (by rw [w_]; decide) _ (by rw [w_]; exact mpo.st eS)
    · skip
      refine ⟨fun c7 => ?_, fun c7 => ?_⟩
      · skip
        intro h7_8 eh7_8 Xh7_8
        have w_ : wy_sum S x1 x2 x3 = (2 : Int32) := by
          unfold wy_sum
          simp only [i3_lt, i3_le, i6_lt, i6_le, i3_eq, i3_l, Int32.reduceToInt, Int64.reduceToInt, tm_1, tl_1, fF, gF] at c1 c6 c7
          repeat' split
          all_goals first | rfl | (exfalso; omega)
        subst eh1_1
        subst eh2_2
        subst eh7_8
        exact Kf (by rw [w_]; decide) _ (by rw [w_]; exact mpo.st eS)
      · skip
        refine v_X8_sum_41 (d := d + 5) (L.ext (Xh1_1.tr Xh2_2)) ?_
        refine ⟨fun c8 => ?_, fun c8 => ?_⟩
        · skip
          intro h2_9 eh2_9 Xh2_9
          have w_ : wy_sum S x1 x2 x3 = (5 : Int32) := by
            unfold wy_sum
            simp only [i3_lt, i3_le, i6_lt, i6_le, i3_eq, i3_l, Int32.reduceToInt, Int64.reduceToInt, tm_1, tl_1, fF, gF] at c1 c6 c7 c8
            repeat' split
            all_goals first | rfl | (exfalso; omega)
          subst eh1_1
          subst eh2_2
          subst eh2_9
          exact Kf (by rw [w_]; decide) _ (by rw [w_]; exact mpo.st eS)
        · skip
          refine ⟨fun c9 => ?_, fun c9 => ?_⟩
          · skip
            intro h4_10 eh4_10 Xh4_10
            have w_ : wy_sum S x1 x2 x3 = (5 : Int32) := by
              unfold wy_sum
              simp only [i3_lt, i3_le, i6_lt, i6_le, i3_eq, i3_l, Int32.reduceToInt, Int64.reduceToInt, tm_1, tl_1, fF, gF] at c1 c6 c7 c8 c9
              repeat' split
              all_goals first | rfl | (exfalso; omega)
            subst eh1_1
            subst eh2_2
            subst eh4_10
            exact Kf (by rw [w_]; decide) _ (by rw [w_]; exact mpo.st eS)
          · skip
            refine ⟨fun c10 => ?_, fun c10 => ?_⟩
            · skip
              intro h6_11 eh6_11 Xh6_11
              have w_ : wy_sum S x1 x2 x3 = (5 : Int32) := by
                unfold wy_sum
                simp only [i3_lt, i3_le, i6_lt, i6_le, i3_eq, i3_l, Int32.reduceToInt, Int64.reduceToInt, tm_1, tl_1, fF, gF] at c1 c6 c7 c8 c9 c10
                repeat' split
                all_goals first | rfl | (exfalso; omega)
              subst eh1_1
              subst eh2_2
              subst eh6_11
              exact Kf (by rw [w_]; decide) _ (by rw [w_]; exact mpo.st eS)
            · skip
              refine ⟨fun c11 => ?_, fun c11 => ?_⟩
              · skip
                intro h8_12 eh8_12 Xh8_12
                have w_ : wy_sum S x1 x2 x3 = (5 : Int32) := by
                  unfold wy_sum
                  simp only [i3_lt, i3_le, i6_lt, i6_le, i3_eq, i3_l, Int32.reduceToInt, Int64.reduceToInt, tm_1, tl_1, fF, gF] at c1 c6 c7 c8 c9 c10 c11
                  repeat' split
                  all_goals first | rfl | (exfalso; omega)
                subst eh1_1
                subst eh2_2
                subst eh8_12
                exact Kf (by rw [w_]; decide) _ (by rw [w_]; exact mpo.st eS)
              · skip
                have w_ : wy_sum S x1 x2 x3 = (0 : Int32) := by
                  unfold wy_sum
                  simp only [i3_lt, i3_le, i6_lt, i6_le, i3_eq, i3_l, Int32.reduceToInt, Int64.reduceToInt, tm_1, tl_1, fF, gF] at c1 c6 c7 c8 c9 c10 c11
                  repeat' split
                  all_goals first | rfl | (exfalso; omega)
                subst eh1_1
                subst eh2_2
                obtain ⟨nx21, nx22⟩ := x_nI (x := x2) (n := 4) (by simp only [i3_lt, i3_le, i6_lt, i6_le, i3_eq, i3_l, Int32.reduceToInt, Int64.reduceToInt, tm_1, tl_1, fF, gF] at c1 c6 c7 c8 c9 c10 c11 ⊢; omega) (by simp only [i3_lt, i3_le, i6_lt, i6_le, i3_eq, i3_l, Int32.reduceToInt, Int64.reduceToInt, tm_1, tl_1, fF, gF] at c1 c6 c7 c8 c9 c10 c11 ⊢; omega)
                have hf : x1 = -1 ∨ (0 ≤ x1.toInt ∧ x1.toInt < 20) := by
                  simp only [i3_lt, i3_le, i6_lt, i6_le, i3_eq, i3_l, Int32.reduceToInt, Int64.reduceToInt, tm_1, tl_1, fF, gF] at c1 c6 c7 c8 c9 c10 c11 ⊢
                  omega
                refine m_play (L.ext (Xh1_1.tr Xh2_2)) (kq.st eS) W B T (fun g z => ?_)
                intro _
                have kk := Kg w_ _ (mpo.qy eS z.1 (by decide) (by decide) (by decide) (by decide))
                unfold smV at kk
                refine ⟨fun q4 => ?_, fun q4 => ?_⟩
                · rw [if_neg q4] at kk
                  have r4 : x2.toNatClampNeg ≠ 4 := fun e => q4 (by rw [nx21, e]; rfl)
                  rw [nx21]
                  exact m_sum81 (z.1.ly (L.ext (Xh1_1.tr Xh2_2))) z.2.1 (by omega) hf kk
                · rw [if_pos q4] at kk
                  rw [z.2.1.2.2.2]; exact kk

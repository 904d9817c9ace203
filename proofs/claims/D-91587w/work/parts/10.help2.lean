/-! ===== helpers of the printed walks ===== -/
/-- an array of kind t lies at a, and i is a place of it -/
def aok (h : ah_T) (t a : Nat) (i : Int32) : Prop := ah_kd h a = t ∧ vp_in i (ah_ln h a)
theorem ma_kde {f g : Nat → Nat} (e : f = g) {a n : Nat} (k : g a = n) : f a = n := by rw [e]; exact k
theorem ma_aok {h h' : ah_T} (e1 : ah_kd h' = ah_kd h) (e2 : ah_ln h' = ah_ln h) {t a : Nat} {i : Int32} (k : aok h t a i) : aok h' t a i := ⟨by rw [e1]; exact k.1, by rw [e2]; exact k.2⟩
theorem ma_aokx {h h' : ah_T} (x : ah_ext h h') {t a : Nat} {i : Int32} (k : aok h (t + 1) a i) : aok h' (t + 1) a i := ⟨x.kd k.1, by rw [x.ln k.1]; exact k.2⟩
theorem ma_ne {h : ah_T} {a b n m : Nat} (ka : ah_kd h a = n) (kb : ah_kd h b = m) (hnm : n ≠ m) : a ≠ b := fun e => hnm (by rw [← ka, ← kb, e])
theorem ah_skIA {h h' : ah_T} {a b k j : Nat} {v : Int32} (e : h' = ah_wI h b j v) (hne : a ≠ b) : ah_I h' a k = ah_I h a k := by rw [e]; exact if_neg (fun q => hne q.1)
theorem ah_skIK {h h' : ah_T} {a b k j : Nat} {v : Int32} (e : h' = ah_wI h b j v) (hne : k ≠ j) : ah_I h' a k = ah_I h a k := by rw [e]; exact if_neg (fun q => hne q.2)
theorem ah_hitI {h h' : ah_T} {a k : Nat} {v : Int32} (e : h' = ah_wI h a k v) : ah_I h' a k = v := by rw [e]; exact if_pos ⟨rfl, rfl⟩
theorem ah_skJA {h h' : ah_T} {a b k j : Nat} {v : Int64} (e : h' = ah_wJ h b j v) (hne : a ≠ b) : ah_J h' a k = ah_J h a k := by rw [e]; exact if_neg (fun q => hne q.1)
theorem ah_skJK {h h' : ah_T} {a b k j : Nat} {v : Int64} (e : h' = ah_wJ h b j v) (hne : k ≠ j) : ah_J h' a k = ah_J h a k := by rw [e]; exact if_neg (fun q => hne q.2)
theorem ah_hitJ {h h' : ah_T} {a k : Nat} {v : Int64} (e : h' = ah_wJ h a k v) : ah_J h' a k = v := by rw [e]; exact if_pos ⟨rfl, rfl⟩
theorem ah_skRA {h h' : ah_T} {a b k j : Nat} {v : Nat} (e : h' = ah_wR h b j v) (hne : a ≠ b) : ah_R h' a k = ah_R h a k := by rw [e]; exact if_neg (fun q => hne q.1)
theorem ah_skRK {h h' : ah_T} {a b k j : Nat} {v : Nat} (e : h' = ah_wR h b j v) (hne : k ≠ j) : ah_R h' a k = ah_R h a k := by rw [e]; exact if_neg (fun q => hne q.2)
theorem ah_hitR {h h' : ah_T} {a k : Nat} {v : Nat} (e : h' = ah_wR h a k v) : ah_R h' a k = v := by rw [e]; exact if_pos ⟨rfl, rfl⟩
theorem ah_IJ {h h' : ah_T} {a k b j : Nat} {v : Int64} (e : h' = ah_wJ h b j v) : ah_I h' a k = ah_I h a k := by rw [e]; rfl
theorem ah_IR {h h' : ah_T} {a k b j : Nat} {v : Nat} (e : h' = ah_wR h b j v) : ah_I h' a k = ah_I h a k := by rw [e]; rfl
theorem ah_JI {h h' : ah_T} {a k b j : Nat} {v : Int32} (e : h' = ah_wI h b j v) : ah_J h' a k = ah_J h a k := by rw [e]; rfl
theorem ah_JR {h h' : ah_T} {a k b j : Nat} {v : Nat} (e : h' = ah_wR h b j v) : ah_J h' a k = ah_J h a k := by rw [e]; rfl
theorem ah_RI {h h' : ah_T} {a k b j : Nat} {v : Int32} (e : h' = ah_wI h b j v) : ah_R h' a k = ah_R h a k := by rw [e]; rfl
theorem ah_RJ {h h' : ah_T} {a k b j : Nat} {v : Int64} (e : h' = ah_wJ h b j v) : ah_R h' a k = ah_R h a k := by rw [e]; rfl
section
variable {G : ma_G} {y : ma_M} {d pc : Nat} {al : List (Option ma_V)} {st : List ma_V} {h : ah_T} {Q : Option ma_V → ah_T → Prop} {E : Nat → ah_T → Prop}
theorem mx_ti {x z : Int32} (e : x = z) (K : MX G y d pc al (iv z :: st) h Q E) : MX G y d pc al (iv x :: st) h Q E := by rw [e]; exact K
theorem mx_tj {x z : Int64} (e : x = z) (K : MX G y d pc al (jv z :: st) h Q E) : MX G y d pc al (jv x :: st) h Q E := by rw [e]; exact K
theorem mx_tr {x z : Nat} (e : x = z) (K : MX G y d pc al (rv z :: st) h Q E) : MX G y d pc al (rv x :: st) h Q E := by rw [e]; exact K
theorem my_iald {a n : Nat} {i : Int32} (hd : decode y.2.1 pc = .ok (.iaload, 1)) (hn : i.toNatClampNeg = n) (k : aok h 40 a i) (K : MX G y d (pc + 1) al (iv (ah_I h a n) :: st) h Q E) : MX G y d pc al (iv i :: rv a :: st) h Q E := by subst hn; exact mx_iald hd k.1 k.2 K
theorem my_xald {a n : Nat} {i : Int32} (hd : decode y.2.1 pc = .ok (.iaload, 1)) (hn : i.toNatClampNeg = n) (k : aok h 39 a i) (K : MX G y d (pc + 1) al (iv (ah_I h a n) :: st) h Q E) : MX G y d pc al (iv i :: rv a :: st) h Q E := by subst hn; exact mx_xald hd k.1 k.2 K
theorem my_lald {a n : Nat} {i : Int32} (hd : decode y.2.1 pc = .ok (.laload, 1)) (hn : i.toNatClampNeg = n) (k : aok h 41 a i) (K : MX G y d (pc + 1) al (jv (ah_J h a n) :: st) h Q E) : MX G y d pc al (iv i :: rv a :: st) h Q E := by subst hn; exact mx_lald hd k.1 k.2 K
theorem my_bald {a n : Nat} {i : Int32} (hd : decode y.2.1 pc = .ok (.baload, 1)) (hn : i.toNatClampNeg = n) (k : aok h 42 a i) (K : MX G y d (pc + 1) al (iv (ah_I h a n) :: st) h Q E) : MX G y d pc al (iv i :: rv a :: st) h Q E := by subst hn; exact mx_bald hd k.1 k.2 K
theorem my_zald {a n : Nat} {i : Int32} (hd : decode y.2.1 pc = .ok (.baload, 1)) (hn : i.toNatClampNeg = n) (k : aok h 44 a i) (K : MX G y d (pc + 1) al (iv (ah_I h a n) :: st) h Q E) : MX G y d pc al (iv i :: rv a :: st) h Q E := by subst hn; exact mx_zald hd k.1 k.2 K
theorem my_sald {a n : Nat} {i : Int32} (hd : decode y.2.1 pc = .ok (.saload, 1)) (hn : i.toNatClampNeg = n) (k : aok h 43 a i) (K : MX G y d (pc + 1) al (iv (ah_I h a n) :: st) h Q E) : MX G y d pc al (iv i :: rv a :: st) h Q E := by subst hn; exact mx_sald hd k.1 k.2 K
theorem my_aald (t : Nat) {a n : Nat} {i : Int32} (hd : decode y.2.1 pc = .ok (.aaload, 1)) (ht : 5 ≤ t ∧ t < 16) (hn : i.toNatClampNeg = n) (k : aok h (40 + t) a i) (K : MX G y d (pc + 1) al (rv (ah_R h a n) :: st) h Q E) : MX G y d pc al (iv i :: rv a :: st) h Q E := by subst hn; exact mx_aald t hd ht k.1 k.2 K
theorem my_iast {a n : Nat} {i x : Int32} (hd : decode y.2.1 pc = .ok (.iastore, 1)) (hn : i.toNatClampNeg = n) (k : aok h 40 a i) (K : MX G y d (pc + 1) al st (ah_wI h a n x) Q E) : MX G y d pc al (iv x :: iv i :: rv a :: st) h Q E := by subst hn; exact mx_iast hd k.1 k.2 K
theorem my_last {a n : Nat} {i : Int32} {x : Int64} (hd : decode y.2.1 pc = .ok (.lastore, 1)) (hn : i.toNatClampNeg = n) (k : aok h 41 a i) (K : MX G y d (pc + 1) al st (ah_wJ h a n x) Q E) : MX G y d pc al (jv x :: iv i :: rv a :: st) h Q E := by subst hn; exact mx_last hd k.1 k.2 K
theorem my_bast {a n : Nat} {i x : Int32} (hd : decode y.2.1 pc = .ok (.bastore, 1)) (hn : i.toNatClampNeg = n) (k : aok h 42 a i) (K : MX G y d (pc + 1) al st (ah_wI h a n (vp_nar .byte x)) Q E) : MX G y d pc al (iv x :: iv i :: rv a :: st) h Q E := by subst hn; exact mx_bast hd k.1 k.2 K
theorem my_zast {a n : Nat} {i x : Int32} (hd : decode y.2.1 pc = .ok (.bastore, 1)) (hn : i.toNatClampNeg = n) (k : aok h 44 a i) (K : MX G y d (pc + 1) al st (ah_wI h a n (vp_nar .boolean x)) Q E) : MX G y d pc al (iv x :: iv i :: rv a :: st) h Q E := by subst hn; exact mx_zast hd k.1 k.2 K
theorem my_sast {a n : Nat} {i x : Int32} (hd : decode y.2.1 pc = .ok (.sastore, 1)) (hn : i.toNatClampNeg = n) (k : aok h 43 a i) (K : MX G y d (pc + 1) al st (ah_wI h a n (vp_nar .short x)) Q E) : MX G y d pc al (iv x :: iv i :: rv a :: st) h Q E := by subst hn; exact mx_sast hd k.1 k.2 K
/-! switches -/
theorem mx_tab {dflt lo hi : Int} {offs : Array Int} {len tgt : Nat} {x : Int32} (hd : decode y.2.1 pc = .ok (.tableswitch dflt lo hi offs, len)) (ht : (pc : Int) + dflt = (tgt : Int))
    (kd : (x.toInt < lo ∨ hi < x.toInt) → MX G y d tgt al st h Q E) (ki : ∀ (k : Nat) (off : Int) (tg : Nat), offs[k]? = some off → (pc : Int) + off = (tg : Int) → x.toInt = lo + k → MX G y d tg al st h Q E)
    (hall : ∀ (k : Nat), lo + k ≤ hi → ∃ (off : Int) (tg : Nat), offs[k]? = some off ∧ (pc : Int) + off = (tg : Int)) : MX G y d pc al (iv x :: st) h Q E := by
  intro p e R s m args below meth c ok cx H locs cells slots ls nw hl
  by_cases h1 : x.toInt < lo
  · exact lv_tableOut cx.1 cx.2.1 hd (Or.inl h1) ht (kd (Or.inl h1) p e R s m args below meth c ok cx H locs cells slots ls nw hl)
  · by_cases h2 : hi < x.toInt
    · exact lv_tableOut cx.1 cx.2.1 hd (Or.inr h2) ht (kd (Or.inr h2) p e R s m args below meth c ok cx H locs cells slots ls nw hl)
    · obtain ⟨off, tg, h3, h4⟩ := hall (x.toInt - lo).toNat (by omega)
      exact lv_tableIn cx.1 cx.2.1 hd h1 h2 h3 h4 (ki _ off tg h3 h4 (by omega) p e R s m args below meth c ok cx H locs cells slots ls nw hl)
theorem mx_look {dflt : Int} {ps : Array (Int × Int)} {len : Nat} {x : Int32} (hd : decode y.2.1 pc = .ok (.lookupswitch dflt ps, len)) (hp : (ps.toList.zip (ps.toList.drop 1)).all (fun (a, next) => a.1 < next.1) = true)
    (K : ∃ (off : Int) (tg : Nat), Op.lookupswitch.offset ps.toList dflt x.toInt = off ∧ (pc : Int) + off = (tg : Int) ∧ MX G y d tg al st h Q E) : MX G y d pc al (iv x :: st) h Q E := by
  intro p e R s m args below meth c ok cx H locs cells slots ls nw hl
  obtain ⟨off, tg, h1, h2, K⟩ := K
  exact lv_lookup cx.1 cx.2.1 hd hp h1 h2 (K p e R s m args below meth c ok cx H locs cells slots ls nw hl)
end

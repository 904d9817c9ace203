/-! ===== switches by table, fields of several classes ===== -/
theorem tab_ne {x v : Int32} {n : Int} (c : ¬ x = v) (hv : v.toInt = n) : x.toInt ≠ n := fun q => c (Int32.toInt_inj.mp (q.trans hv.symm))
section
variable {G : ma_G} {y : ma_M} {d pc : Nat} {al : List (Option ma_V)} {st : List ma_V} {h : ah_T} {Q : Option ma_V → ah_T → Prop} {E : Nat → ah_T → Prop}
theorem mx_tabI (k : Nat) {dflt lo hi : Int} {offs : Array Int} {len tg : Nat} {off : Int} {x v : Int32} (hd : decode y.2.1 pc = .ok (.tableswitch dflt lo hi offs, len)) (h3 : offs[k]? = some off) (h4 : (pc : Int) + off = (tg : Int)) (hv : v.toInt = lo + k) (hk : lo + (k : Int) ≤ hi) (hx : x = v) (K : MX G y d tg al st h Q E) : MX G y d pc al (iv x :: st) h Q E := by
  intro p e R s m args below meth c ok cx H locs cells slots ls nw hl
  have hxi : x.toInt = lo + k := by rw [hx]; exact hv
  have h3' : offs[(x.toInt - lo).toNat]? = some off := by rw [show (x.toInt - lo).toNat = k by omega]; exact h3
  exact lv_tableIn cx.1 cx.2.1 hd (by omega) (by omega) h3' h4 (K p e R s m args below meth c ok cx H locs cells slots ls nw hl)
theorem mx_tabO {dflt lo hi : Int} {offs : Array Int} {len tgt : Nat} {x : Int32} (hd : decode y.2.1 pc = .ok (.tableswitch dflt lo hi offs, len)) (ht : (pc : Int) + dflt = (tgt : Int)) (hx : ∀ k : Nat, lo + (k : Int) ≤ hi → x.toInt ≠ lo + k) (K : MX G y d tgt al st h Q E) : MX G y d pc al (iv x :: st) h Q E := by
  intro p e R s m args below meth c ok cx H locs cells slots ls nw hl
  have ho : x.toInt < lo ∨ hi < x.toInt := by
    by_cases h1 : x.toInt < lo
    · exact Or.inl h1
    · by_cases h2 : hi < x.toInt
      · exact Or.inr h2
      · exact absurd (show x.toInt = lo + ((x.toInt - lo).toNat : Int) by omega) (hx (x.toInt - lo).toNat (by omega))
  exact lv_tableOut cx.1 cx.2.1 hd ho ht (K p e R s m args below meth c ok cx H locs cells slots ls nw hl)
end
/-! a return into the caller's walk -/
section
variable {G : ma_G} {y y1 : ma_M} {d pc d1 pc1 : Nat} {al al1 : List (Option ma_V)} {st st1 : List ma_V} {h h0 : ah_T} {Q1 : Option ma_V → ah_T → Prop} {E E1 : Nat → ah_T → Prop}
theorem mx_iretK {x : Int32} (hr : y.2.2.2.1 = some .int) (hd : decode y.2.1 pc = .ok (.ireturn, 1)) (K : MX G y1 d1 pc1 al1 (iv x :: st1) h Q1 E1) : MX G y d pc al [iv x] h (fun v h' => ah_ext h0 h' → MX G y1 d1 pc1 al1 (v.toList ++ st1) h' Q1 E1) E := mx_iret hr hd (fun _ => K)
theorem mx_zretK {x : Int32} (hr : y.2.2.2.1 = some .boolean) (hd : decode y.2.1 pc = .ok (.ireturn, 1)) (hx : x = 0 ∨ x = 1) (K : MX G y1 d1 pc1 al1 (iv x :: st1) h Q1 E1) : MX G y d pc al [iv x] h (fun v h' => ah_ext h0 h' → MX G y1 d1 pc1 al1 (v.toList ++ st1) h' Q1 E1) E := mx_zret hr hd hx (fun _ => K)
theorem mx_lretK {x : Int64} (hr : y.2.2.2.1 = some .long) (hd : decode y.2.1 pc = .ok (.lreturn, 1)) (K : MX G y1 d1 pc1 al1 (jv x :: st1) h Q1 E1) : MX G y d pc al [jv x] h (fun v h' => ah_ext h0 h' → MX G y1 d1 pc1 al1 (v.toList ++ st1) h' Q1 E1) E := mx_lret hr hd (fun _ => K)
theorem mx_aretK {a : Nat} {rt : FieldType} (hr : y.2.2.2.1 = some rt) (hrt : (∃ n, rt = .object n) ∨ ∃ t, rt = .array t) (hd : decode y.2.1 pc = .ok (.areturn, 1)) (K : MX G y1 d1 pc1 al1 (rv a :: st1) h Q1 E1) : MX G y d pc al [rv a] h (fun v h' => ah_ext h0 h' → MX G y1 d1 pc1 al1 (v.toList ++ st1) h' Q1 E1) E := mx_aret hr hrt hd (fun _ => K)
theorem mx_vretK (hr : y.2.2.2.1 = none) (hd : decode y.2.1 pc = .ok (.return_, 1)) (K : MX G y1 d1 pc1 al1 st1 h Q1 E1) : MX G y d pc al [] h (fun v h' => ah_ext h0 h' → MX G y1 d1 pc1 al1 (v.toList ++ st1) h' Q1 E1) E := mx_vret hr hd (fun _ => K)
end

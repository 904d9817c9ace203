/-! ===== names for heaps, answers of calls ===== -/
section
variable {G : ma_G} {y y' : ma_M} {d pc pc' : Nat} {al al' : List (Option ma_V)} {st : List ma_V} {h : ah_T} {Q : Option ma_V → ah_T → Prop} {E E0 : Nat → ah_T → Prop}
theorem mx_nmI {a k : Nat} {v : Int32} (K : ∀ h' : ah_T, h' = ah_wI h a k v → ah_ext h h' → ah_kd h' = ah_kd h → ah_ln h' = ah_ln h → MX G y d pc al st h' Q E) : MX G y d pc al st (ah_wI h a k v) Q E := K _ rfl ah_ext.wI rfl rfl
theorem mx_nmJ {a k : Nat} {v : Int64} (K : ∀ h' : ah_T, h' = ah_wJ h a k v → ah_ext h h' → ah_kd h' = ah_kd h → ah_ln h' = ah_ln h → MX G y d pc al st h' Q E) : MX G y d pc al st (ah_wJ h a k v) Q E := K _ rfl ah_ext.wJ rfl rfl
theorem mx_nmR {a k : Nat} {v : Nat} (x : ah_ext h (ah_wR h a k v)) (K : ∀ h' : ah_T, h' = ah_wR h a k v → ah_ext h h' → ah_kd h' = ah_kd h → ah_ln h' = ah_ln h → MX G y d pc al st h' Q E) : MX G y d pc al st (ah_wR h a k v) Q E := K _ rfl x rfl rfl
theorem mx_nmN {kd len cost : Nat} (x : ah_ext h (ah_new h kd len cost)) (lv : ah_liv h) (K : ∀ h' : ah_T, h' = ah_new h kd len cost → ah_ext h h' → ah_liv h → MX G y d pc al st h' Q E) : MX G y d pc al st (ah_new h kd len cost) Q E := K _ rfl x lv
theorem ma_ki {q : Int32 → ah_T → Prop} (H : MX G y' d 0 al' [] h (Qi q) E0) (k : ∀ r h', ah_ext h h' → q r h' → MX G y (d + 1) pc' al (iv r :: st) h' Q E) (ke : ∀ x h', ah_ext h h' → E0 x h' → MT G y (d + 1) pc al x h' Q E) : MX G y' d 0 al' [] h (fun v h' => ah_ext h h' → MX G y (d + 1) pc' al (v.toList ++ st) h' Q E) (fun x h' => ah_ext h h' → MT G y (d + 1) pc al x h' Q E) :=
  MX.mono H (fun v h' hv hx => match v, hv with
    | some (.inl r), hv => k r h' hx hv) (fun x h' he hx => ke x h' hx he)
theorem ma_kl {q : Int64 → ah_T → Prop} (H : MX G y' d 0 al' [] h (Ql q) E0) (k : ∀ r h', ah_ext h h' → q r h' → MX G y (d + 1) pc' al (jv r :: st) h' Q E) (ke : ∀ x h', ah_ext h h' → E0 x h' → MT G y (d + 1) pc al x h' Q E) : MX G y' d 0 al' [] h (fun v h' => ah_ext h h' → MX G y (d + 1) pc' al (v.toList ++ st) h' Q E) (fun x h' => ah_ext h h' → MT G y (d + 1) pc al x h' Q E) :=
  MX.mono H (fun v h' hv hx => match v, hv with
    | some (.inr (.inl r)), hv => k r h' hx hv) (fun x h' he hx => ke x h' hx he)
theorem ma_kr {q : Nat → ah_T → Prop} (H : MX G y' d 0 al' [] h (Qr q) E0) (k : ∀ r h', ah_ext h h' → q r h' → MX G y (d + 1) pc' al (rv r :: st) h' Q E) (ke : ∀ x h', ah_ext h h' → E0 x h' → MT G y (d + 1) pc al x h' Q E) : MX G y' d 0 al' [] h (fun v h' => ah_ext h h' → MX G y (d + 1) pc' al (v.toList ++ st) h' Q E) (fun x h' => ah_ext h h' → MT G y (d + 1) pc al x h' Q E) :=
  MX.mono H (fun v h' hv hx => match v, hv with
    | some (.inr (.inr r)), hv => k r h' hx hv) (fun x h' he hx => ke x h' hx he)
theorem ma_kv {q : ah_T → Prop} (H : MX G y' d 0 al' [] h (Qv q) E0) (k : ∀ h', ah_ext h h' → q h' → MX G y (d + 1) pc' al st h' Q E) (ke : ∀ x h', ah_ext h h' → E0 x h' → MT G y (d + 1) pc al x h' Q E) : MX G y' d 0 al' [] h (fun v h' => ah_ext h h' → MX G y (d + 1) pc' al (v.toList ++ st) h' Q E) (fun x h' => ah_ext h h' → MT G y (d + 1) pc al x h' Q E) :=
  MX.mono H (fun v h' hv hx => match v, hv with
    | none, hv => k h' hx hv) (fun x h' he hx => ke x h' hx he)
end
/-! ===== reading behind writing ===== -/
theorem ah_I_wI {h : ah_T} {a k b j : Nat} {v : Int32} : ah_I (ah_wI h a k v) b j = if b = a ∧ j = k then v else ah_I h b j := rfl
theorem ah_J_wJ {h : ah_T} {a k b j : Nat} {v : Int64} : ah_J (ah_wJ h a k v) b j = if b = a ∧ j = k then v else ah_J h b j := rfl
theorem ah_R_wR {h : ah_T} {a k b j : Nat} {v : Nat} : ah_R (ah_wR h a k v) b j = if b = a ∧ j = k then v else ah_R h b j := rfl
theorem ah_I_wJ {h : ah_T} {a k b j : Nat} {v : Int64} : ah_I (ah_wJ h a k v) b j = ah_I h b j := rfl
theorem ah_I_wR {h : ah_T} {a k b j : Nat} {v : Nat} : ah_I (ah_wR h a k v) b j = ah_I h b j := rfl
theorem ah_J_wI {h : ah_T} {a k b j : Nat} {v : Int32} : ah_J (ah_wI h a k v) b j = ah_J h b j := rfl
theorem ah_J_wR {h : ah_T} {a k b j : Nat} {v : Nat} : ah_J (ah_wR h a k v) b j = ah_J h b j := rfl
theorem ah_R_wI {h : ah_T} {a k b j : Nat} {v : Int32} : ah_R (ah_wI h a k v) b j = ah_R h b j := rfl
theorem ah_R_wJ {h : ah_T} {a k b j : Nat} {v : Int64} : ah_R (ah_wJ h a k v) b j = ah_R h b j := rfl
theorem ah_kd_wI {h : ah_T} {a k : Nat} {v : Int32} : ah_kd (ah_wI h a k v) = ah_kd h := rfl
theorem ah_kd_wJ {h : ah_T} {a k : Nat} {v : Int64} : ah_kd (ah_wJ h a k v) = ah_kd h := rfl
theorem ah_kd_wR {h : ah_T} {a k : Nat} {v : Nat} : ah_kd (ah_wR h a k v) = ah_kd h := rfl
theorem ah_ln_wI {h : ah_T} {a k : Nat} {v : Int32} : ah_ln (ah_wI h a k v) = ah_ln h := rfl
theorem ah_ln_wJ {h : ah_T} {a k : Nat} {v : Int64} : ah_ln (ah_wJ h a k v) = ah_ln h := rfl
theorem ah_ln_wR {h : ah_T} {a k : Nat} {v : Nat} : ah_ln (ah_wR h a k v) = ah_ln h := rfl
theorem ah_1_wI {h : ah_T} {a k : Nat} {v : Int32} : (ah_wI h a k v).1 = h.1 := rfl
theorem ah_1_wJ {h : ah_T} {a k : Nat} {v : Int64} : (ah_wJ h a k v).1 = h.1 := rfl
theorem ah_1_wR {h : ah_T} {a k : Nat} {v : Nat} : (ah_wR h a k v).1 = h.1 := rfl
theorem ah_kd_new {h : ah_T} {kd len cost b : Nat} : ah_kd (ah_new h kd len cost) b = if b = ah_sz h then kd else ah_kd h b := rfl
theorem ah_ln_new {h : ah_T} {kd len cost b : Nat} : ah_ln (ah_new h kd len cost) b = if b = ah_sz h then len else ah_ln h b := rfl
theorem ah_I_new {h : ah_T} {kd len cost b j : Nat} : ah_I (ah_new h kd len cost) b j = if b = ah_sz h then 0 else ah_I h b j := rfl
theorem ah_J_new {h : ah_T} {kd len cost b j : Nat} : ah_J (ah_new h kd len cost) b j = if b = ah_sz h then 0 else ah_J h b j := rfl
theorem ah_R_new {h : ah_T} {kd len cost b j : Nat} : ah_R (ah_new h kd len cost) b j = if b = ah_sz h then 0 else ah_R h b j := rfl
theorem ah_sz_new {h : ah_T} {kd len cost : Nat} : ah_sz (ah_new h kd len cost) = ah_sz h + 1 := rfl
theorem ah_rc_new {h : ah_T} {kd len cost : Nat} : ah_rc (ah_new h kd len cost) = ah_rc h - 1 := rfl
theorem ah_rs_new {h : ah_T} {kd len cost : Nat} : ah_rs (ah_new h kd len cost) = ah_rs h - cost := rfl

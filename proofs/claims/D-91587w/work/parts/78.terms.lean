/-! ===== acts: what the class's terms tell ===== -/
def avs (h : ah_T) (A : Nat) : Nat → Int64 := fun i => ah_J h (A + 1) i
def ads (h : ah_T) (A : Nat) : Nat → Option Int64 := fun i => if ah_I h (A + 3) i = 0 then some (ah_J h (A + 2) i) else none
/-- the one that is asked, and what it throws -/
def askd (h : ah_T) (A W : Nat) : Prop := LY6 h A ∧ ah_R h A 3 = W ∧ ah_kd h W = 5
/-- cells lo .. hi are as they were, but the references xs and how T is joined -/
def tk (h : ah_T) (a : Nat) : Prop := 16 ≤ ah_kd h a ∧ ah_kd h a ≤ 21
theorem tk_k {h : ah_T} {a k : Nat} (e : ah_kd h a = k) (q : 16 ≤ k ∧ k ≤ 21) : tk h a := by unfold tk; omega
theorem ks_tk {h : ah_T} {a : Nat} (x : ma_ks h a [16, 17, 18, 19]) : tk h a := by
  obtain ⟨ci, c1, c2⟩ := x
  simp only [List.mem_cons, List.not_mem_nil, or_false] at c1
  unfold tk; omega
def agr (lo hi : Nat) (xs : List (Nat × Nat)) (T : Nat) (h h' : ah_T) : Prop := ∀ a, lo ≤ a → a < hi → tk h a → ah_kd h' a = ah_kd h a ∧ (∀ k, (a, k) ∉ xs → ah_R h' a k = ah_R h a k) ∧ (∀ k, (a ≠ T ∨ k ≠ 1) → ah_I h' a k = ah_I h a k) ∧ ∀ k, ah_J h' a k = ah_J h a k
/-- the term T tells D -/
def TV (G : ma_G) (A W lo hi : Nat) (h : ah_T) (T dp : Nat) (D : PD) : Prop := lo ≤ T ∧ T < hi ∧ ma_ks h T [16, 17, 18, 19] ∧ ∀ (h' : ah_T) (d : Nat) (Q : Option ma_V → ah_T → Prop) (E : Nat → ah_T → Prop), agr lo hi [(T, 0)] T h h' → askd h' A W → (∀ v, D (avs h' A) (ads h' A) = some v → Q (some (jv v)) h') → (D (avs h' A) (ads h' A) = none → E W h') → MX G (vm_value (ah_kd h T)) (d + dp) 0 (al_ent (vm_value (ah_kd h T)).2.2.1 [rv T, rv A]) [] h' Q E
/-- the compare C tells B -/
def CV (G : ma_G) (A W lo hi : Nat) (h : ah_T) (C dp : Nat) (B : PB) : Prop := lo ≤ C ∧ C < hi ∧ ah_kd h C = 21 ∧ ∀ (h' : ah_T) (d : Nat) (Q : Option ma_V → ah_T → Prop) (E : Nat → ah_T → Prop), agr lo hi [(C, 4)] 0 h h' → askd h' A W → Q (some (iv (if B (avs h' A) (ads h' A) = true then 1 else 0))) h' → MX G mi_X23_holds (d + dp) 0 [some (rv C), some (rv A), none, none, none, none, none] [] h' Q E
section
variable {G : ma_G} {A W lo hi lo' hi' d dp T : Nat} {h h' h2 : ah_T} {xs ys : List (Nat × Nat)} {D D1 D2 : PD} {Q : Option ma_V → ah_T → Prop} {E : Nat → ah_T → Prop}
theorem agr.rf : agr lo hi xs T h h := fun _ _ _ _ => ⟨rfl, fun _ _ => rfl, fun _ _ => rfl, fun _ => rfl⟩
theorem agr.tr (x : agr lo hi xs T h h') (z : agr lo hi xs T h' h2) : agr lo hi xs T h h2 := fun a h1 h2 h3 => by
  obtain ⟨x1, x2, x3, x4⟩ := x a h1 h2 h3
  obtain ⟨z1, z2, z3, z4⟩ := z a h1 h2 (by unfold tk; rw [x1]; exact h3)
  exact ⟨z1.trans x1, fun k hk => (z2 k hk).trans (x2 k hk), fun k hk => (z3 k hk).trans (x3 k hk), fun k => (z4 k).trans (x4 k)⟩
/-- a part of it -/
theorem agr.sub {T' : Nat} (x : agr lo hi xs T h h') (h1 : lo ≤ lo') (h2 : hi' ≤ hi) (hx : ∀ a k, lo' ≤ a → a < hi' → (a, k) ∈ xs → (a, k) ∈ ys) (hT : lo' ≤ T → T < hi' → T = T') : agr lo' hi' ys T' h h' := fun a a1 a2 a3 => by
  obtain ⟨x1, x2, x3, x4⟩ := x a (by omega) (by omega) a3
  refine ⟨x1, fun k hk => x2 k (fun z => hk (hx a k a1 a2 z)), fun k hk => x3 k ?_, x4⟩
  rcases hk with z | z
  · by_cases e : a = T
    · exact absurd (e.trans (hT (by omega) (by omega))) z
    · exact Or.inl e
  · exact Or.inr z
theorem TV.ag (x : TV G A W lo hi h T dp D) (z : agr lo hi [(T, 0)] T h h') : TV G A W lo hi h' T dp D := by
  obtain ⟨x1, x2, x3, x4⟩ := x
  have k := (z T x1 x2 (ks_tk x3)).1
  refine ⟨x1, x2, ?_, fun g d Q E ag as K1 K2 => ?_⟩
  · obtain ⟨ci, c1, c2⟩ := x3
    exact ⟨ci, c1, by rw [k]; exact c2⟩
  · rw [k]; exact x4 g d Q E (z.tr ag) as K1 K2
theorem TV.mn {dp' : Nat} (x : TV G A W lo hi h T dp D) (hd : dp ≤ dp') : TV G A W lo hi h T dp' D := ⟨x.1, x.2.1, x.2.2.1, fun g d Q E ag as K1 K2 => by
  have := x.2.2.2 g (d + (dp' - dp)) Q E ag as K1 K2
  rwa [show d + (dp' - dp) + dp = d + dp' by omega] at this⟩
theorem CV.ag {C : Nat} {B : PB} (x : CV G A W lo hi h C dp B) (z : agr lo hi [(C, 4)] 0 h h') : CV G A W lo hi h' C dp B := by
  obtain ⟨x1, x2, x3, x4⟩ := x
  exact ⟨x1, x2, (z C x1 x2 (tk_k x3 (by decide))).1.trans x3, fun g d Q E ag as K => x4 g d Q E (z.tr ag) as K⟩
/-- a larger range -/
theorem TV.rg (x : TV G A W lo' hi' h T dp D) (h1 : lo ≤ lo') (h2 : hi' ≤ hi) : TV G A W lo hi h T dp D := ⟨by have := x.1; omega, by have := x.2.1; omega, x.2.2.1, fun g d Q E ag as K1 K2 => x.2.2.2 g d Q E (ag.sub h1 h2 (fun _ _ _ _ z => z) (fun _ _ => rfl)) as K1 K2⟩
/-- asks a term that the range holds, inside a larger one -/
theorem TV.ask {p : Nat} (x : TV G A W lo' hi' h p dp D) (ag : agr lo hi xs T h h') (h1 : lo ≤ lo') (h2 : hi' ≤ hi) (hx : ∀ a k, lo' ≤ a → a < hi' → (a, k) ∈ xs → (a, k) = (p, 0)) (hT : lo' ≤ T → T < hi' → T = p) (as : askd h' A W) (K1 : ∀ v, D (avs h' A) (ads h' A) = some v → Q (some (jv v)) h') (K2 : D (avs h' A) (ads h' A) = none → E W h') :
    ma_ks h' p [16, 17, 18, 19] ∧ MX G (vm_value (ah_kd h' p)) (d + dp) 0 (al_ent (vm_value (ah_kd h' p)).2.2.1 [rv p, rv A]) [] h' Q E := by
  have k := (ag p (by have := x.1; omega) (by have := x.2.1; omega) (ks_tk x.2.2.1)).1
  constructor
  · obtain ⟨ci, c1, c2⟩ := x.2.2.1
    exact ⟨ci, c1, by rw [k]; exact c2⟩
  · rw [k]
    exact x.2.2.2 h' d Q E (ag.sub h1 h2 (fun a k a1 a2 z => by rw [hx a k a1 a2 z]; exact List.mem_singleton.2 rfl) hT) as K1 K2
theorem TV.num {v : Int64} (h1 : lo ≤ T) (h2 : T < hi) (k : ah_kd h T = 19) (e : ah_I h T 2 = 0) (j : ah_J h T 3 = v) : TV G A W lo hi h T 0 (fun _ _ => some v) := by
  refine ⟨h1, h2, ⟨18, by decide, k⟩, fun g d Q E ag as K1 K2 => ?_⟩
  obtain ⟨a1, a2, a3, a4⟩ := ag T h1 h2 (tk_k k (by decide))
  rw [k]
  show MX G mi_X21_value d 0 [some (rv T), some (rv A)] [] g Q E
  refine v_X21_value as.1 ⟨a1.trans k, ?_⟩
  rw [a3 2 (Or.inr (by decide)), e, a4 3, j]
  exact ⟨fun z => absurd rfl z, fun _ => K1 v rfl⟩
theorem TV.var {i : Nat} (hi' : i < 11) (h1 : lo ≤ T) (h2 : T < hi) (k : ah_kd h T = 19) (e : ah_I h T 2 = 1) (j : ah_J h T 3 = lN i) : TV G A W lo hi h T 0 (fun vs _ => some (vs i)) := by
  refine ⟨h1, h2, ⟨18, by decide, k⟩, fun g d Q E ag as K1 K2 => ?_⟩
  obtain ⟨a1, a2, a3, a4⟩ := ag T h1 h2 (tk_k k (by decide))
  rw [k]
  show MX G mi_X21_value d 0 [some (rv T), some (rv A)] [] g Q E
  refine v_X21_value as.1 ⟨a1.trans k, ?_⟩
  rw [a3 2 (Or.inr (by decide)), e, a4 3, j, lN_i, nI_clamp (by omega)]
  exact ⟨fun _ => ⟨fun z => absurd rfl z, fun _ => ⟨vp_in_nI hi' (by decide), K1 _ rfl⟩⟩, fun z => absurd z (by decide)⟩
theorem TV.def_ {i : Nat} (hi' : i < 10) (h1 : lo ≤ T) (h2 : T < hi) (k : ah_kd h T = 19) (e : ah_I h T 2 = 2) (j : ah_J h T 3 = lN i) : TV G A W lo hi h T 0 (fun _ ds => ds i) := by
  refine ⟨h1, h2, ⟨18, by decide, k⟩, fun g d Q E ag as K1 K2 => ?_⟩
  obtain ⟨a1, a2, a3, a4⟩ := ag T h1 h2 (tk_k k (by decide))
  rw [k]
  show MX G mi_X21_value d 0 [some (rv T), some (rv A)] [] g Q E
  refine v_X21_value as.1 ⟨a1.trans k, ?_⟩
  rw [a3 2 (Or.inr (by decide)), e, a4 3, j, lN_i, nI_clamp (by omega)]
  have un : ads g A i = if ah_I g (A + 3) i = 0 then some (ah_J g (A + 2) i) else none := rfl
  refine ⟨fun _ => ⟨fun _ => ⟨vp_in_nI hi' (by decide), fun z => K1 _ ?_, fun z => ?_⟩, fun z => absurd z (by decide)⟩, fun z => absurd z (by decide)⟩
  · show ads g A i = _
    rw [un, if_pos z]
  · rw [as.2.1]
    refine ⟨as.2.2, K2 ?_⟩
    show ads g A i = _
    rw [un, if_neg z]
/-- least, most -/
theorem TV.pick {k : Bool} {a b la ha lb hb : Nat} (h1 : lo ≤ T) (h2 : T < hi) (kd : ah_kd h T = 18) (e2 : ah_I h T 2 = if k = true then 1 else 0) (e3 : ah_R h T 3 = a) (e4 : ah_R h T 4 = b) (ta : TV G A W la ha h a dp D1) (tb : TV G A W lb hb h b dp D2) (a1 : lo ≤ la) (a2 : ha ≤ hi) (a3 : ¬ (la ≤ T ∧ T < ha)) (b1 : lo ≤ lb) (b2 : hb ≤ hi) (b3 : ¬ (lb ≤ T ∧ T < hb)) : TV G A W lo hi h T (dp + 1) (fun v d => dpk k (D1 v d) (D2 v d)) := by
  refine ⟨h1, h2, ⟨17, by decide, kd⟩, fun g d Q E ag as K1 K2 => ?_⟩
  obtain ⟨g1, g2, g3, g4⟩ := ag T h1 h2 (tk_k kd (by decide))
  rw [kd]
  show MX G mi_X20_value (d + dp + 1) 0 [some (rv T), some (rv A), none, none, none, none] [] g Q E
  refine v_X20_value as.1 ⟨g1.trans kd, ?_⟩
  rw [g2 3 (by simp), e3]
  have x1 : ∀ x y, la ≤ x → x < ha → (x, y) ∈ [(T, 0)] → (x, y) = (a, 0) := fun x y p1 p2 m => by
    have := List.mem_singleton.1 m
    injection this with q1 q2
    omega
  have x2 : ∀ x y, lb ≤ x → x < hb → (x, y) ∈ [(T, 0)] → (x, y) = (b, 0) := fun x y p1 p2 m => by
    have := List.mem_singleton.1 m
    injection this with q1 q2
    omega
  refine ta.ask ag a1 a2 x1 (fun p1 p2 => absurd ⟨p1, p2⟩ a3) as (fun va ea => ?_) (fun ea => K2 (by simp only [ea]; rfl))
  intro _
  rw [g2 4 (by simp), e4]
  refine tb.ask ag b1 b2 x2 (fun p1 p2 => absurd ⟨p1, p2⟩ b3) as (fun vb eb => ?_) (fun eb => K2 (by simp only [ea, eb]; rfl))
  intro _
  rw [g3 2 (Or.inr (by decide)), e2]
  cases k with
  | true => exact ⟨fun z => absurd z (by decide), fun _ => K1 _ (by simp only [ea, eb]; rfl)⟩
  | false => exact ⟨fun _ => K1 _ (by simp only [ea, eb]; rfl), fun z => absurd rfl z⟩
/-- the parts of the chain c, up to l, tell D -/
def CP (G : ma_G) (A W lo hi : Nat) (h : ah_T) (c l dp : Nat) (D : PD) : Prop := (lo ≤ c ∧ c < hi ∧ ah_kd h c = 17 ∧ ah_R h c 2 ≠ 0 ∧ ah_R h c 3 = l) ∧ (lo ≤ l ∧ l < hi ∧ l ≠ c ∧ ma_ks h l [16, 17, 18, 19]) ∧ ∀ (h' : ah_T) (d : Nat) (Q : Option ma_V → ah_T → Prop) (E : Nat → ah_T → Prop), agr lo hi [(c, 0), (c, 3), (l, 0)] c h h' → askd h' A W → (∀ v, D (avs h' A) (ads h' A) = some v → MX G mi_X19_value (d + dp + 1) 8 [none, some (rv A), some (jv v), none, some (rv (ah_R h' l 0)), none, none] [] h' Q E) → (D (avs h' A) (ads h' A) = none → E W h') → MX G mi_X19_value (d + dp + 1) 8 [none, some (rv A), some (jv 0), none, some (rv (ah_R h' c 2)), none, none] [] h' Q E
/-- one part more -/
theorem cp_step {p o : Nat} {v : Int64} {c : Nat} (ho : o = 43 ∨ o = 45 ∨ o = 42 ∨ o = 47 ∨ o = 37) (tp : TV G A W lo' hi' h p dp D2) (h1 : lo ≤ lo') (h2 : hi' ≤ hi) (hc : ¬ (lo' ≤ c ∧ c < hi')) (he : ah_I h p 1 = nI o) (hp : p ≠ 0) (ag : agr lo hi [(c, 0), (c, 3), (p, 0)] c h h') (as : askd h' A W)
    (K1 : ∀ w, dop o (some v) (D2 (avs h' A) (ads h' A)) = some w → MX G mi_X19_value (d + dp + 1) 8 [none, some (rv A), some (jv w), none, some (rv (ah_R h' p 0)), none, none] [] h' Q E) (K2 : dop o (some v) (D2 (avs h' A) (ads h' A)) = none → E W h') :
    MX G mi_X19_value (d + dp + 1) 8 [none, some (rv A), some (jv v), none, some (rv p), none, none] [] h' Q E := by
  refine v_X19_value_8 (d := d + dp) as.1 ⟨fun z => absurd z hp, fun _ => ?_⟩
  have x1 : ∀ x y, lo' ≤ x → x < hi' → (x, y) ∈ [(c, 0), (c, 3), (p, 0)] → (x, y) = (p, 0) := fun x y p1 p2 m => by
    simp only [List.mem_cons, List.not_mem_nil, or_false] at m
    rcases m with m | m | m
    · injection m with q1 q2; omega
    · injection m with q1 q2; omega
    · exact m
  have t1 := tp.1
  have t2 := tp.2.1
  have ih : ah_I h' p 1 = nI o := by rw [(ag p (by omega) (by omega) (ks_tk tp.2.2.1)).2.2.1 1 (Or.inl (fun e => hc ⟨by omega, by omega⟩))]; exact he
  refine tp.ask ag h1 h2 x1 (fun p1 p2 => absurd ⟨p1, p2⟩ hc) as (fun w ew => ?_) (fun ew => K2 (by rw [ew]; rfl))
  intro _
  rw [ew] at K1 K2
  rw [ih, show (42 : Int32) = nI 42 from rfl, show (43 : Int32) = nI 43 from rfl, show (44 : Int32) = nI 44 from rfl, show (45 : Int32) = nI 45 from rfl, show (47 : Int32) = nI 47 from rfl, nI_eq (by omega) (by omega), nI_eq (by omega) (by omega), nI_eq (by omega) (by omega), nI_eq (by omega) (by omega), nI_eq (by omega) (by omega), as.2.1]
  rcases ho with q | q | q | q | q
  · subst q
    exact ⟨fun z => by omega, fun _ => ⟨fun _ => K1 _ rfl, fun z => absurd rfl z⟩⟩
  · subst q
    exact ⟨fun z => by omega, fun _ => ⟨fun z => by omega, fun _ => ⟨fun z => by omega, fun _ => ⟨fun _ => K1 _ rfl, fun z => absurd rfl z⟩⟩⟩⟩
  · subst q
    exact ⟨fun _ => K1 _ rfl, fun z => absurd rfl z⟩
  · subst q
    refine ⟨fun z => by omega, fun _ => ⟨fun z => by omega, fun _ => ⟨fun z => by omega, fun _ => ⟨fun z => by omega, fun _ => ⟨fun z => ⟨fun y => absurd rfl y, fun _ => ⟨z, K1 _ ?_⟩⟩, fun z => ⟨as.2.2, K2 ?_⟩⟩⟩⟩⟩⟩
    · show (if w = 0 then none else some (v / w)) = _
      rw [if_neg z]
    · show (if w = 0 then none else some (v / w)) = _
      rw [if_pos z]
  · subst q
    refine ⟨fun z => by omega, fun _ => ⟨fun z => by omega, fun _ => ⟨fun z => by omega, fun _ => ⟨fun z => by omega, fun _ => ⟨fun z => ⟨fun _ => ⟨z, K1 _ ?_⟩, fun y => by omega⟩, fun z => ⟨as.2.2, K2 ?_⟩⟩⟩⟩⟩⟩
    · show (if w = 0 then none else some (v - v / w * w)) = _
      rw [if_neg z]
    · show (if w = 0 then none else some (v - v / w * w)) = _
      rw [if_pos z]
theorem dop_0 (o : Option Int64) : dop 43 (some 0) o = o := by
  cases o with
  | none => rfl
  | some v => show some (0 + v) = some v; rw [Int64.zero_add]
theorem CP.mk {c p : Nat} (h1 : lo ≤ c) (h2 : c < hi) (kc : ah_kd h c = 17) (ec : ah_R h c 2 = p) (el : ah_R h c 3 = p) (hp : p ≠ 0) (tp : TV G A W lo' hi' h p dp D) (hl : lo ≤ lo') (hh : hi' ≤ hi) (hc : ¬ (lo' ≤ c ∧ c < hi')) (he : ah_I h p 1 = 43) : CP G A W lo hi h c p dp D := by
  have t1 := tp.1
  have t2 := tp.2.1
  have pc : p ≠ c := fun e => hc ⟨by omega, by omega⟩
  refine ⟨⟨h1, h2, kc, by rw [ec]; exact hp, el⟩, ⟨by omega, by omega, pc, tp.2.2.1⟩, fun g d Q E ag as K1 K2 => ?_⟩
  have e2 : ah_R g c 2 = p := by
    rw [(ag c h1 h2 (tk_k kc (by decide))).2.1 2 (by simp [pc.symm])]; exact ec
  rw [e2]
  refine cp_step (Or.inl rfl) tp hl hh hc he hp ag as (fun w ew => K1 w ?_) (fun ew => K2 ?_)
  · rw [dop_0] at ew; exact ew
  · rw [dop_0] at ew; exact ew
theorem CP.add {c l p o hi1 : Nat} (ho : o = 43 ∨ o = 45 ∨ o = 42 ∨ o = 47 ∨ o = 37) (x : CP G A W lo hi1 h c l dp D1) (hh1 : hi1 ≤ hi) (tp : TV G A W lo' hi' h2 p dp D2) (hl : hi1 ≤ lo') (hh : hi' ≤ hi) (he : ah_I h2 p 1 = nI o) (hp : p ≠ 0)
    (ag : agr lo hi1 [(c, 0), (c, 3), (l, 0)] c h h2) (e1 : ah_R h2 l 0 = p) (e2 : ah_R h2 c 3 = p) : CP G A W lo hi h2 c p dp (fun v d => dop o (D1 v d) (D2 v d)) := by
  obtain ⟨⟨x1, x2, x3, x4, x5⟩, ⟨x6, x7, x8, x9⟩, x10⟩ := x
  have t1 := tp.1
  have t2 := tp.2.1
  obtain ⟨c1, c2, c3, c4⟩ := ag c x1 x2 (tk_k x3 (by decide))
  have r2 : ah_R h2 c 2 = ah_R h c 2 := c2 2 (by simp [x8.symm])
  refine ⟨⟨x1, by omega, c1.trans x3, by rw [r2]; exact x4, e2⟩, ⟨by omega, by omega, by omega, tp.2.2.1⟩, fun g d Q E ag2 as K1 K2 => ?_⟩
  have agO : agr lo hi1 [(c, 0), (c, 3), (l, 0)] c h g := by
    refine ag.tr (ag2.sub (Nat.le_refl _) hh1 (fun a k a1 a2 m => ?_) (fun _ _ => rfl))
    simp only [List.mem_cons, List.not_mem_nil, or_false] at m ⊢
    rcases m with m | m | m
    · exact Or.inl m
    · exact Or.inr (Or.inl m)
    · injection m with q1 q2; omega
  have el : ah_R g l 0 = p := by
    rw [(ag2 l x6 (by omega) (by unfold tk; rw [(ag l x6 x7 (ks_tk x9)).1]; exact ks_tk x9)).2.1 0 (by
      simp only [List.mem_cons, List.not_mem_nil, or_false]
      rintro (m | m | m)
      · injection m with q1 q2; exact x8 q1
      · injection m with q1 q2; exact x8 q1
      · injection m with q1 q2; omega)]
    exact e1
  refine x10 g d Q E agO as (fun v ev => ?_) (fun ev => K2 (by simp only [ev]; rfl))
  rw [el]
  refine cp_step ho tp (by omega) hh (by omega) he hp ag2 as (fun w ew => K1 w ?_) (fun ew => K2 ?_)
  · simp only [ev]; exact ew
  · simp only [ev]; exact ew
theorem CP.tv {c l : Nat} (x : CP G A W lo hi h c l dp D) (e : ah_R h l 0 = 0) : TV G A W lo hi h c (dp + 1) D := by
  obtain ⟨⟨x1, x2, x3, x4, x5⟩, ⟨x6, x7, x8, x9⟩, x10⟩ := x
  refine ⟨x1, x2, ⟨16, by decide, x3⟩, fun g d Q E ag as K1 K2 => ?_⟩
  rw [x3]
  show MX G mi_X19_value (d + dp + 1) 0 [some (rv c), some (rv A), none, none, none, none, none] [] g Q E
  refine v_X19_value (d := d + dp) as.1 ⟨(ag c x1 x2 (tk_k x3 (by decide))).1.trans x3, ?_⟩
  have el : ah_R g l 0 = 0 := by
    rw [(ag l x6 x7 (ks_tk x9)).2.1 0 (by
      rw [List.mem_singleton]
      intro m
      injection m with q1 q2
      exact x8 q1)]
    exact e
  refine x10 g d Q E (ag.sub (Nat.le_refl _) (Nat.le_refl _) (fun a k _ _ m => by rw [List.mem_singleton] at m; rw [m]; simp) (fun _ _ => rfl)) as (fun v ev => ?_) K2
  rw [el]
  exact v_X19_value_8 (d := d + dp) as.1 ⟨fun _ => K1 v ev, fun z => absurd rfl z⟩
/-- a compare -/
theorem CV.mk {C a b la ha lb hb o : Nat} {k : Bool} (ho : o = 60 ∨ o = 62 ∨ o = 61) (h1 : lo ≤ C) (h2 : C < hi) (kd : ah_kd h C = 21) (e0 : ah_I h C 0 = if k = true then 1 else 0) (e1 : ah_R h C 1 = a) (e2 : ah_R h C 2 = b) (e3 : ah_I h C 3 = nI o) (hC : C ≠ 0) (ta : TV G A W la ha h a dp D1) (tb : TV G A W lb hb h b dp D2) (a1 : lo ≤ la) (a2 : ha ≤ hi) (a3 : ¬ (la ≤ C ∧ C < ha)) (b1 : lo ≤ lb) (b2 : hb ≤ hi) (b3 : ¬ (lb ≤ C ∧ C < hb)) (l0 : 0 < lo) : CV G A W lo hi h C (dp + 1) (fun v d => dho k o (D1 v d) (D2 v d)) := by
  refine ⟨h1, h2, kd, fun g d Q E ag as K => ?_⟩
  obtain ⟨g1, g2, g3, g4⟩ := ag C h1 h2 (tk_k kd (by decide))
  have x1 : ∀ x y, la ≤ x → x < ha → (x, y) ∈ [(C, 4)] → (x, y) = (a, 0) := fun x y p1 p2 m => by
    have := List.mem_singleton.1 m
    injection this with q1 q2
    omega
  have x2 : ∀ x y, lb ≤ x → x < hb → (x, y) ∈ [(C, 4)] → (x, y) = (b, 0) := fun x y p1 p2 m => by
    have := List.mem_singleton.1 m
    injection this with q1 q2
    omega
  have no : (D1 (avs g A) (ads g A) = none ∨ D2 (avs g A) (ads g A) = none) → Q (some (iv 0)) g := fun z => by
    have : dho k o (D1 (avs g A) (ads g A)) (D2 (avs g A) (ads g A)) = false := by
      rcases z with z | z
      · rw [z]; rfl
      · rw [z]; cases D1 (avs g A) (ads g A) <;> rfl
    simp only [this] at K
    exact K
  refine v_X23_holds (d := d + dp) as.1 ⟨g1.trans kd, ?_⟩
  rw [g2 1 (by simp), e1]
  refine ta.ask ag a1 a2 x1 (fun p1 p2 => by omega) as (fun va ea => ?_) (fun ea => ?_)
  rotate_left
  · intro _
    exact ⟨as.2.2, v_X23_holds_22 (no (Or.inl ea))⟩
  intro _
  rw [g2 2 (by simp), e2]
  refine tb.ask ag b1 b2 x2 (fun p1 p2 => by omega) as (fun vb eb => ?_) (fun eb => ?_)
  rotate_left
  · intro _
    exact ⟨as.2.2, v_X23_holds_22 (no (Or.inr eb))⟩
  intro _
  have un : dho k o (D1 (avs g A) (ads g A)) (D2 (avs g A) (ads g A)) = (k != dcm o va vb) := by rw [ea, eb]; rfl
  simp only [un] at K
  rw [g3 0 (Or.inr (by decide)), e0, g3 3 (Or.inr (by decide)), e3, show (60 : Int32) = nI 60 from rfl, show (62 : Int32) = nI 62 from rfl, nI_eq (by omega) (by omega), nI_eq (by omega) (by omega)]
  have fin : ∀ r : Bool, dcm o va vb = r → ((r = false → ((if k = true then (1 : Int32) else 0) = 0 → Q (some (iv 0)) g) ∧ (¬ (if k = true then (1 : Int32) else 0) = 0 → Q (some (iv 1)) g)) ∧ (r = true → ((if k = true then (1 : Int32) else 0) = 1 → Q (some (iv 0)) g) ∧ (¬ (if k = true then (1 : Int32) else 0) = 1 → Q (some (iv 1)) g))) := fun r hr => by
    rw [hr] at K
    cases r <;> cases k <;> simp at K ⊢ <;> exact K
  rcases ho with q | q | q
  · subst q
    refine ⟨fun z => absurd rfl z, fun _ => ⟨fun z => (fin false ?_).1 rfl, fun z => (fin true ?_).2 rfl⟩⟩
    · show decide (va < vb) = false
      rw [i6_le] at z
      exact decide_eq_false (by rw [i6_lt]; omega)
    · show decide (va < vb) = true
      rw [i6_le] at z
      exact decide_eq_true (by rw [i6_lt]; omega)
  · subst q
    refine ⟨fun _ => ⟨fun z => absurd rfl z, fun _ => ⟨fun z => (fin false ?_).1 rfl, fun z => (fin true ?_).2 rfl⟩⟩, fun z => by omega⟩
    · show decide (vb < va) = false
      rw [i6_le] at z
      exact decide_eq_false (by rw [i6_lt]; omega)
    · show decide (vb < va) = true
      rw [i6_le] at z
      exact decide_eq_true (by rw [i6_lt]; omega)
  · subst q
    refine ⟨fun _ => ⟨fun _ => ⟨fun z => (fin false ?_).1 rfl, fun z => (fin true ?_).2 rfl⟩, fun z => by omega⟩, fun z => by omega⟩
    · show decide (va = vb) = false
      exact decide_eq_false z
    · show decide (va = vb) = true
      exact decide_eq_true z
/-- the compares of the If f, up to l: they tell B; o: 1 if any will do -/
def CI (G : ma_G) (A W lo hi : Nat) (h : ah_T) (f l dp : Nat) (o : Bool) (B : PB) : Prop := (lo ≤ f ∧ f < hi ∧ ah_kd h f = 20 ∧ ah_R h f 2 ≠ 0 ∧ ah_R h f 3 = l) ∧ (lo ≤ l ∧ l < hi ∧ l ≠ f ∧ ah_kd h l = 21) ∧ ∀ (h' : ah_T) (d : Nat) (Q : Option ma_V → ah_T → Prop) (E : Nat → ah_T → Prop), (∀ a, lo ≤ a → a < hi → tk h a → ah_kd h' a = ah_kd h a ∧ (∀ k, (a, k) ∉ [(f, 0), (f, 3), (f, 5), (f, 6), (l, 4)] → ah_R h' a k = ah_R h a k) ∧ (∀ k, a ≠ f → ah_I h' a k = ah_I h a k) ∧ ∀ k, ah_J h' a k = ah_J h a k) → ah_I h' f 4 = (if o = true then 1 else 0) → askd h' A W → (B (avs h' A) (ads h' A) = o → Q (some (rv (if o = true then ah_R h' f 5 else ah_R h' f 6))) h') → (B (avs h' A) (ads h' A) = !o → MX G mi_X22_taken (d + dp + 1) 5 [some (rv f), some (rv A), some (rv (ah_R h' l 4))] [] h' Q E) → MX G mi_X22_taken (d + dp + 1) 5 [some (rv f), some (rv A), some (rv (ah_R h' f 2))] [] h' Q E
theorem ci_step {f c : Nat} {o : Bool} {B2 : PB} (tc : CV G A W lo' hi' h c dp B2) (hc : c ≠ 0) (kf : ah_kd h' f = 20) (e4 : ah_I h' f 4 = if o = true then 1 else 0) (ag : agr lo' hi' [(c, 4)] 0 h h') (as : askd h' A W)
    (K1 : B2 (avs h' A) (ads h' A) = o → Q (some (rv (if o = true then ah_R h' f 5 else ah_R h' f 6))) h') (K2 : B2 (avs h' A) (ads h' A) = !o → MX G mi_X22_taken (d + dp + 1) 5 [some (rv f), some (rv A), some (rv (ah_R h' c 4))] [] h' Q E) :
    MX G mi_X22_taken (d + dp + 1) 5 [some (rv f), some (rv A), some (rv c)] [] h' Q E := by
  refine v_X22_taken_5 (d := d + dp) as.1 ⟨fun z => absurd z hc, fun _ => ⟨(ag c tc.1 tc.2.1 (tk_k tc.2.2.1 (by decide))).1.trans tc.2.2.1, ?_⟩⟩
  refine tc.2.2.2 h' d _ _ ag as ?_
  intro _
  refine ⟨kf, ?_⟩
  rw [e4]
  revert K1 K2
  cases o <;> cases B2 (avs h' A) (ads h' A) <;> intro K1 K2
  · exact ⟨fun z => absurd rfl z, fun _ => ⟨fun _ => K1 rfl, fun z => absurd rfl z⟩⟩
  · exact ⟨fun _ => K2 rfl, fun z => absurd z (by decide)⟩
  · exact ⟨fun _ => K2 rfl, fun z => absurd z (by decide)⟩
  · exact ⟨fun z => absurd rfl z, fun _ => ⟨fun z => absurd z (by decide), fun _ => K1 rfl⟩⟩
theorem CI.mk {f c : Nat} {B : PB} (h1 : lo ≤ f) (h2 : f < hi) (kf : ah_kd h f = 20) (ef : ah_R h f 2 = c) (el : ah_R h f 3 = c) (hc : c ≠ 0) (tc : CV G A W lo' hi' h c dp B) (hl : lo ≤ lo') (hh : hi' ≤ hi) (hf : ¬ (lo' ≤ f ∧ f < hi')) (o : Bool) : CI G A W lo hi h f c dp o B := by
  have t1 := tc.1
  have t2 := tc.2.1
  have cf : c ≠ f := fun e => hf ⟨by omega, by omega⟩
  refine ⟨⟨h1, h2, kf, by rw [ef]; exact hc, el⟩, ⟨by omega, by omega, cf, tc.2.2.1⟩, fun g d Q E ag e4 as K1 K2 => ?_⟩
  have e2 : ah_R g f 2 = c := by
    rw [(ag f h1 h2 (tk_k kf (by decide))).2.1 2 (by simp [cf.symm])]; exact ef
  rw [e2]
  refine ci_step tc hc ((ag f h1 h2 (tk_k kf (by decide))).1.trans kf) e4 (fun a a1 a2 a3 => ?_) as K1 K2
  obtain ⟨g1, g2, g3, g4⟩ := ag a (by omega) (by omega) a3
  have af : a ≠ f := fun e => hf ⟨by omega, by omega⟩
  refine ⟨g1, fun k hk => g2 k ?_, fun k _ => g3 k af, g4⟩
  simp only [List.mem_cons, List.not_mem_nil, or_false] at hk ⊢
  rintro (m | m | m | m | m)
  · injection m with q1 q2; exact af q1
  · injection m with q1 q2; exact af q1
  · injection m with q1 q2; exact af q1
  · injection m with q1 q2; exact af q1
  · exact hk m
theorem CI.add {f l c hi1 : Nat} {o : Bool} {B1 B2 : PB} (x : CI G A W lo hi1 h f l dp o B1) (hh1 : hi1 ≤ hi) (tc : CV G A W lo' hi' h2 c dp B2) (hl : hi1 ≤ lo') (hh : hi' ≤ hi) (hc : c ≠ 0)
    (ag : ∀ a, lo ≤ a → a < hi1 → ah_kd h2 a = ah_kd h a ∧ (∀ k, (a, k) ∉ [(f, 0), (f, 3), (f, 5), (f, 6), (l, 4)] → ah_R h2 a k = ah_R h a k) ∧ (∀ k, a ≠ f → ah_I h2 a k = ah_I h a k) ∧ ∀ k, ah_J h2 a k = ah_J h a k) (e1 : ah_R h2 l 4 = c) (e2 : ah_R h2 f 3 = c) : CI G A W lo hi h2 f c dp o (fun v d => if o = true then B1 v d || B2 v d else B1 v d && B2 v d) := by
  obtain ⟨⟨x1, x2, x3, x4, x5⟩, ⟨x6, x7, x8, x9⟩, x10⟩ := x
  have t1 := tc.1
  have t2 := tc.2.1
  obtain ⟨c1, c2, c3, c4⟩ := ag f x1 x2
  have r2 : ah_R h2 f 2 = ah_R h f 2 := c2 2 (by simp [x8.symm])
  refine ⟨⟨x1, by omega, c1.trans x3, by rw [r2]; exact x4, e2⟩, ⟨by omega, by omega, by omega, tc.2.2.1⟩, fun g d Q E ag2 e4 as K1 K2 => ?_⟩
  have el : ah_R g l 4 = c := by
    rw [(ag2 l x6 (by omega) (tk_k ((ag l x6 x7).1.trans x9) (by decide))).2.1 4 (by
      simp only [List.mem_cons, List.not_mem_nil, or_false]
      rintro (m | m | m | m | m)
      · injection m with q1 q2; exact x8 q1
      · injection m with q1 q2; exact x8 q1
      · injection m with q1 q2; exact x8 q1
      · injection m with q1 q2; exact x8 q1
      · injection m with q1 q2; omega)]
    exact e1
  refine x10 g d Q E (fun a a1 a2 a3 => ?_) e4 as (fun eb => K1 ?_) (fun eb => ?_)
  · obtain ⟨g1, g2, g3, g4⟩ := ag2 a a1 (by omega) (by unfold tk; rw [(ag a a1 a2).1]; exact a3)
    obtain ⟨u1, u2, u3, u4⟩ := ag a a1 a2
    refine ⟨g1.trans u1, fun k hk => (g2 k ?_).trans (u2 k hk), fun k hk => (g3 k hk).trans (u3 k hk), fun k => (g4 k).trans (u4 k)⟩
    simp only [List.mem_cons, List.not_mem_nil, or_false] at hk ⊢
    rintro (m | m | m | m | m)
    · exact hk (Or.inl m)
    · exact hk (Or.inr (Or.inl m))
    · exact hk (Or.inr (Or.inr (Or.inl m)))
    · exact hk (Or.inr (Or.inr (Or.inr (Or.inl m))))
    · injection m with q1 q2; omega
  · simp only [eb]
    cases o <;> simp
  · rw [el]
    refine ci_step tc hc ((ag2 f x1 (by omega) (tk_k (c1.trans x3) (by decide))).1.trans (c1.trans x3)) e4 (fun a a1 a2 a3 => ?_) as (fun e => K1 ?_) (fun e => K2 ?_)
    · obtain ⟨g1, g2, g3, g4⟩ := ag2 a (by omega) (by omega) a3
      have af : a ≠ f := by omega
      refine ⟨g1, fun k hk => g2 k ?_, fun k _ => g3 k af, g4⟩
      simp only [List.mem_cons, List.not_mem_nil, or_false] at hk ⊢
      rintro (m | m | m | m | m)
      · injection m with q1 q2; exact af q1
      · injection m with q1 q2; exact af q1
      · injection m with q1 q2; exact af q1
      · injection m with q1 q2; exact af q1
      · exact hk m
    · simp only [eb, e]
      cases o <;> rfl
    · simp only [eb, e]
      cases o <;> rfl
theorem CI.tv {f l a b la ha lb hb hi1 : Nat} {o : Bool} {B : PB} (x : CI G A W lo hi1 h f l dp o B) (h2 : hi1 ≤ hi) (e : ah_R h l 4 = 0) (e4 : ah_I h f 4 = if o = true then 1 else 0) (e5 : ah_R h f 5 = a) (e6 : ah_R h f 6 = b) (ta : TV G A W la ha h a (dp + 1) D1) (tb : TV G A W lb hb h b (dp + 1) D2) (a1 : lo ≤ la) (a2 : ha ≤ hi) (a3 : ¬ (la ≤ f ∧ f < ha)) (b1 : lo ≤ lb) (b2 : hb ≤ hi) (b3 : ¬ (lb ≤ f ∧ f < hb)) : TV G A W lo hi h f (dp + 2) (fun v d => if B v d = true then D1 v d else D2 v d) := by
  obtain ⟨⟨x1, x2, x3, x4, x5⟩, ⟨x6, x7, x8, x9⟩, x10⟩ := x
  refine ⟨x1, by omega, ⟨19, by decide, x3⟩, fun g d Q E ag as K1 K2 => ?_⟩
  obtain ⟨g1, g2, g3, g4⟩ := ag f x1 (by omega) (tk_k x3 (by decide))
  rw [x3]
  show MX G mi_X22_value (d + dp + 1 + 1) 0 [some (rv f), some (rv A)] [] g Q E
  have y1 : ∀ x y, la ≤ x → x < ha → (x, y) ∈ [(f, 0)] → (x, y) = (a, 0) := fun x y p1 p2 m => by
    have := List.mem_singleton.1 m
    injection this with q1 q2
    omega
  have y2 : ∀ x y, lb ≤ x → x < hb → (x, y) ∈ [(f, 0)] → (x, y) = (b, 0) := fun x y p1 p2 m => by
    have := List.mem_singleton.1 m
    injection this with q1 q2
    omega
  have r5 : ah_R g f 5 = a := by rw [g2 5 (by simp)]; exact e5
  have r6 : ah_R g f 6 = b := by rw [g2 6 (by simp)]; exact e6
  have rl : ah_R g l 4 = 0 := by
    rw [(ag l x6 (by omega) (tk_k x9 (by decide))).2.1 4 (by
      rw [List.mem_singleton]
      intro m
      injection m with q1 q2
      exact x8 q1)]
    exact e
  have ge4 : ah_I g f 4 = if o = true then 1 else 0 := by rw [g3 4 (Or.inr (by decide))]; exact e4
  have then_ : B (avs g A) (ads g A) = true → ma_ks g a [16, 17, 18, 19] ∧ MX G (vm_value (ah_kd g a)) (d + dp + 1) 0 (al_ent (vm_value (ah_kd g a)).2.2.1 [rv a, rv A]) [] g (Ql fun r7 h6 => ah_ext g h6 → Q (some (jv r7)) h6) E := fun eb => by
    refine ta.ask ag a1 a2 y1 (fun p1 p2 => absurd ⟨p1, p2⟩ a3) as (fun v ev => ?_) (fun ev => K2 ?_)
    · intro _
      refine K1 v ?_
      simp only [eb, if_true]
      exact ev
    · simp only [eb, if_true]
      exact ev
  have else_ : B (avs g A) (ads g A) = false → ma_ks g b [16, 17, 18, 19] ∧ MX G (vm_value (ah_kd g b)) (d + dp + 1) 0 (al_ent (vm_value (ah_kd g b)).2.2.1 [rv b, rv A]) [] g (Ql fun r7 h6 => ah_ext g h6 → Q (some (jv r7)) h6) E := fun eb => by
    refine tb.ask ag b1 b2 y2 (fun p1 p2 => absurd ⟨p1, p2⟩ b3) as (fun v ev => ?_) (fun ev => K2 ?_)
    · intro _
      refine K1 v ?_
      simp only [eb]
      exact ev
    · simp only [eb]
      exact ev
  refine v_X22_value (d := d + dp + 1) as.1 ⟨g1.trans x3, ?_⟩
  refine v_X22_taken (d := d + dp) as.1 ⟨g1.trans x3, ?_⟩
  refine x10 g d _ _ (fun a' p1 p2 p3 => ?_) ge4 as (fun eb => ?_) (fun eb => ?_)
  · obtain ⟨u1, u2, u3, u4⟩ := ag a' p1 (by omega) p3
    refine ⟨u1, fun k hk => u2 k (fun m => hk ?_), fun k hk => u3 k (Or.inl hk), u4⟩
    rw [List.mem_singleton] at m
    rw [m]; simp
  · intro _
    cases o with
    | true => rw [if_pos rfl, r5]; exact then_ eb
    | false => rw [if_neg (by decide), r6]; exact else_ eb
  · rw [rl]
    refine v_X22_taken_5 (d := d + dp) as.1 ⟨fun _ => ⟨g1.trans x3, ?_⟩, fun z => absurd rfl z⟩
    rw [ge4, r5, r6]
    cases o with
    | true =>
      refine ⟨fun z => absurd z (by decide), fun _ => ?_⟩
      intro _
      exact else_ eb
    | false =>
      refine ⟨fun _ => ?_, fun z => absurd rfl z⟩
      intro _
      exact then_ eb
end

/-! the class: local types as objects, with the set of their places; Choice.add, Choice.of -/
def lQ (g : Nat → Nat × List Value) (P : Nat → Prop) : Tr → (Nat → Prop) × (Value → Prop)
  | .leaf k => (fun a => P a ∧ g a = if k = 0 then (8, []) else (9, [iv ((k : Int) - 1)]), fun v => v = .null)
  | .branch k l r => (fun a => P a ∧ if k < 3 then ∃ b, g a = (10, [iv k, .ref b]) ∧ (lQ g P l).1 b else ∃ v z, g a = (11, [iv (if k < 7 then 1 else 0), iv ((k - 3) % 4 : Nat), v, z]) ∧ (lQ g P l).2 v,
    fun v => ∃ b c w, v = .ref b ∧ P b ∧ g b = (12, [iv (k / 3 : Nat), iv (k % 3 : Nat), .ref c, w]) ∧ (lQ g P l).1 c ∧ (lQ g P r).2 w)
theorem lQ_lf (g : Nat → Nat × List Value) (P : Nat → Prop) (k a : Nat) : (lQ g P (.leaf k)).1 a = (P a ∧ g a = if k = 0 then (8, []) else (9, [iv ((k : Int) - 1)])) := rfl
theorem lQ_br (g : Nat → Nat × List Value) (P : Nat → Prop) (k : Nat) (l r : Tr) (a : Nat) : (lQ g P (.branch k l r)).1 a = (P a ∧ if k < 3 then ∃ b, g a = (10, [iv k, .ref b]) ∧ (lQ g P l).1 b else ∃ v z, g a = (11, [iv (if k < 7 then 1 else 0), iv ((k - 3) % 4 : Nat), v, z]) ∧ (lQ g P l).2 v) := rfl
theorem lQ_brB (g : Nat → Nat × List Value) (P : Nat → Prop) (k : Nat) (l r : Tr) (v : Value) : (lQ g P (.branch k l r)).2 v = ∃ b c w, v = .ref b ∧ P b ∧ g b = (12, [iv (k / 3 : Nat), iv (k % 3 : Nat), .ref c, w]) ∧ (lQ g P l).1 c ∧ (lQ g P r).2 w := rfl
theorem lQ_fr {g g' : Nat → Nat × List Value} {P P' : Nat → Prop} (h : ∀ a, P a → P' a ∧ g' a = g a) (τ : Tr) : (∀ a, (lQ g P τ).1 a → (lQ g' P' τ).1 a) ∧ ∀ v, (lQ g P τ).2 v → (lQ g' P' τ).2 v := by
  induction τ with
  | leaf k =>
    refine ⟨fun a ha => ?_, fun v hv => hv⟩
    rw [lQ_lf] at ha ⊢
    obtain ⟨h1, h2⟩ := h a ha.1
    exact ⟨h1, by rw [h2]; exact ha.2⟩
  | branch k l r ihl ihr =>
    refine ⟨fun a ha => ?_, fun v hv => ?_⟩
    · rw [lQ_br] at ha ⊢
      obtain ⟨h1, h2⟩ := h a ha.1
      refine ⟨h1, ?_⟩
      rw [h2]
      by_cases h3 : k < 3
      · rw [if_pos h3] at ha ⊢
        obtain ⟨-, b, e1, e2⟩ := ha
        exact ⟨b, e1, ihl.1 b e2⟩
      · rw [if_neg h3] at ha ⊢
        obtain ⟨-, b, z, e1, e2⟩ := ha
        exact ⟨b, z, e1, ihl.2 b e2⟩
    · rw [lQ_brB] at hv ⊢
      obtain ⟨b, c, w, e1, e2, e3, e4, e5⟩ := hv
      obtain ⟨h1, h2⟩ := h b e2
      exact ⟨b, c, w, e1, h1, by rw [h2]; exact e3, ihl.1 c e4, ihr.2 w e5⟩
theorem lQ_in {g : Nat → Nat × List Value} {P : Nat → Prop} (τ : Tr) {a : Nat} (h : (lQ g P τ).1 a) : P a := by
  cases τ with
  | leaf k => exact h.1
  | branch k l r => exact h.1
theorem lR_lQ {g : Nat → Nat × List Value} {lo t : Nat} (τ : Tr) : (∀ a, (lR g lo t τ).1 a → (lQ g (fun x => lo ≤ x ∧ x < t) τ).1 a) ∧ ∀ v, (lR g lo t τ).2 v → (lQ g (fun x => lo ≤ x ∧ x < t) τ).2 v := by
  induction τ with
  | leaf k => exact ⟨fun a h => h, fun v h => h⟩
  | branch k l r ihl ihr =>
    refine ⟨fun a ha => ?_, fun v hv => ?_⟩
    · rw [lR_br] at ha
      rw [lQ_br]
      refine ⟨ha.1, ?_⟩
      by_cases h3 : k < 3
      · rw [if_pos h3] at ha ⊢
        obtain ⟨-, b, e1, e2⟩ := ha
        exact ⟨b, e1, ihl.1 b e2⟩
      · rw [if_neg h3] at ha ⊢
        obtain ⟨-, b, z, e1, e2⟩ := ha
        exact ⟨b, z, e1, ihl.2 b e2⟩
    · rw [lR_brB] at hv
      rw [lQ_brB]
      obtain ⟨b, c, w, e1, e2, e3, e4, e5⟩ := hv
      exact ⟨b, c, w, e1, e2, e3, ihl.1 c e4, ihr.2 w e5⟩
/-- a list's pointer is null or not -/
theorem lQ_v {g : Nat → Nat × List Value} {P : Nat → Prop} (l : Tr) {v : Value} (h : (lQ g P l).2 v) : v = .null ∨ ∃ b, v = .ref b := by
  cases l with
  | leaf k => exact Or.inl h
  | branch k l r => obtain ⟨b, -, -, e, -⟩ := h; exact Or.inr ⟨b, e⟩
section XA81
variable {K : xk} {M : xm} {d : Nat} {Q : Outcome → xh → Prop} {A : Nat → Int → Int} {R : Nat → Int → Value} {g : Nat → Nat × List Value} {t u : Nat}
section
variable {pc : Nat} {L : List (Option Value)} {st : List Value} {mE mV mL mM : xm} {x : MethodName} {τ : Tr}
theorem r_callL1 (j : Nat) {idx b : Nat} {P : Nat → Prop} {v1 : Value} (hd : M.t[j]? = some (pc, .invokevirtual idx, 3)) (hk : lk4 M.y.cls idx 8 x mE mV mL mM 1) (hb : K.n + 62 ≤ b) (hR : (lQ g P τ).1 b) (hsum : (st.map fun v => v.category).sum ≤ 8) (hm : mx K (sel4 τ mE mV mL mM) d [.ref b, v1] (hp K.n A R g t u) (cpost K M (d + 1) Q pc L st)) : wx K M (d + 1) Q pc L (v1 :: .ref b :: st) (hp K.n A R g t u) := by
  cases τ with
  | leaf k =>
    rw [lQ_lf] at hR
    unfold sel4 at hm
    by_cases e : k = 0
    · rw [if_pos e] at hR; dsimp only at hm; rw [if_pos e] at hm; exact r_callu1 j hd hk.1 (hpg hb hR.2) hsum hm
    · rw [if_neg e] at hR; dsimp only at hm; rw [if_neg e] at hm; exact r_callu1 j hd hk.2.1 (hpg hb hR.2) hsum hm
  | branch k l r =>
    rw [lQ_br] at hR
    unfold sel4 at hm
    by_cases e : k < 3
    · rw [if_pos e] at hR; dsimp only at hm; rw [if_pos e] at hm
      obtain ⟨-, b', h1, -⟩ := hR
      exact r_callu1 j hd hk.2.2.1 (hpg hb h1) hsum hm
    · rw [if_neg e] at hR; dsimp only at hm; rw [if_neg e] at hm
      obtain ⟨-, b', z, h1, -⟩ := hR
      exact r_callu1 j hd hk.2.2.2 (hpg hb h1) hsum hm
theorem r_callL2 (j : Nat) {idx b : Nat} {P : Nat → Prop} {v1 v2 : Value} (hd : M.t[j]? = some (pc, .invokevirtual idx, 3)) (hk : lk4 M.y.cls idx 8 x mE mV mL mM 2) (hb : K.n + 62 ≤ b) (hR : (lQ g P τ).1 b) (hsum : (st.map fun v => v.category).sum ≤ 8) (hm : mx K (sel4 τ mE mV mL mM) d [.ref b, v1, v2] (hp K.n A R g t u) (cpost K M (d + 1) Q pc L st)) : wx K M (d + 1) Q pc L (v2 :: v1 :: .ref b :: st) (hp K.n A R g t u) := by
  cases τ with
  | leaf k =>
    rw [lQ_lf] at hR
    unfold sel4 at hm
    by_cases e : k = 0
    · rw [if_pos e] at hR; dsimp only at hm; rw [if_pos e] at hm; exact r_callu2 j hd hk.1 (hpg hb hR.2) hsum hm
    · rw [if_neg e] at hR; dsimp only at hm; rw [if_neg e] at hm; exact r_callu2 j hd hk.2.1 (hpg hb hR.2) hsum hm
  | branch k l r =>
    rw [lQ_br] at hR
    unfold sel4 at hm
    by_cases e : k < 3
    · rw [if_pos e] at hR; dsimp only at hm; rw [if_pos e] at hm
      obtain ⟨-, b', h1, -⟩ := hR
      exact r_callu2 j hd hk.2.2.1 (hpg hb h1) hsum hm
    · rw [if_neg e] at hR; dsimp only at hm; rw [if_neg e] at hm
      obtain ⟨-, b', z, h1, -⟩ := hR
      exact r_callu2 j hd hk.2.2.2 (hpg hb h1) hsum hm
end
/-- the branches of a choice under way; the last of them -/
def sg (g : Nat → Nat × List Value) (PP : Nat → Prop) (S : List Nat) : Tr → Value → Nat → Prop
  | .leaf _, _, _ => False
  | .branch k τ q, v, hb => ∃ b c w, v = .ref b ∧ b ∈ S ∧ g b = (12, [iv (k / 3 : Nat), iv (k % 3 : Nat), .ref c, w]) ∧ (lQ g PP τ).1 c ∧ ((w = .null ∧ q = .leaf 0 ∧ b = hb) ∨ (b ≠ hb ∧ sg g PP S q w hb))
def bL (g : Nat → Nat × List Value) (PP : Nat → Prop) (S : List Nat) (ac : Nat) (s p : Value) (pre : Tr) : Prop := (pre = .leaf 0 ∧ g ac = (11, [s, p, .null, .null])) ∨ ∃ fv hb, g ac = (11, [s, p, fv, .ref hb]) ∧ hb ∈ S ∧ hb ≠ ac ∧ sg g PP S pre fv hb ∧ ∃ x y z, g hb = (12, [x, y, z, .null])
theorem sg_fr {g g' : Nat → Nat × List Value} {PP : Nat → Prop} {S S' : List Nat} (hP : ∀ x, PP x → g' x = g x) (hS : ∀ x, x ∈ S → x ∈ S') : ∀ (pre : Tr) (v : Value) (hb : Nat), (∀ x, x ∈ S → g' x = g x) → sg g PP S pre v hb → sg g' PP S' pre v hb
  | .leaf _, _, _, _, h => h
  | .branch k τ q, v, hb, hs, h => by
    obtain ⟨b, c, w, e1, e2, e3, e4, e5⟩ := h
    refine ⟨b, c, w, e1, hS b e2, by rw [hs b e2]; exact e3, (lQ_fr (fun x hx => ⟨hx, hP x hx⟩) τ).1 c e4, ?_⟩
    rcases e5 with e5 | ⟨e5, e6⟩
    · exact Or.inl e5
    · exact Or.inr ⟨e5, sg_fr hP hS q w hb hs e6⟩
/-- one more -/
theorem sg_add {g g' : Nat → Nat × List Value} {PP : Nat → Prop} {S : List Nat} {nb c : Nat} {kk : Nat} {τ : Tr} (hP : ∀ x, PP x → g' x = g x) (hn : nb ∉ S) (hg : g' nb = (12, [iv (kk / 3 : Nat), iv (kk % 3 : Nat), .ref c, .null])) (hτ : (lQ g' PP τ).1 c) : ∀ (pre : Tr) (v : Value) (hb : Nat), (∀ x, x ∈ S → x ≠ hb → g' x = g x) → (∀ x y z w, g hb = (12, [x, y, z, w]) → g' hb = (12, [x, y, z, .ref nb])) → sg g PP S pre v hb → sg g' PP (nb :: S) (apL pre (.branch kk τ (.leaf 0))) v nb
  | .leaf _, _, _, _, _, h => absurd h id
  | .branch k σ q, v, hb, hs, hh, h => by
    obtain ⟨b, c', w, e1, e2, e3, e4, e5⟩ := h
    have hbn : b ≠ nb := fun h => hn (h ▸ e2)
    rcases e5 with ⟨w0, q0, b0⟩ | ⟨e5, e6⟩
    · subst q0
      subst b0
      refine ⟨b, c', .ref nb, e1, List.mem_cons_of_mem _ e2, hh _ _ _ _ e3, (lQ_fr (fun x hx => ⟨hx, hP x hx⟩) σ).1 c' e4, Or.inr ⟨hbn, nb, c, .null, rfl, List.mem_cons_self .., hg, hτ, Or.inl ⟨rfl, rfl, rfl⟩⟩⟩
    · exact ⟨b, c', w, e1, List.mem_cons_of_mem _ e2, by rw [hs b e2 e5]; exact e3, (lQ_fr (fun x hx => ⟨hx, hP x hx⟩) σ).1 c' e4, Or.inr ⟨hbn, sg_add hP hn hg hτ q w hb hs hh e6⟩⟩
theorem sg_lQ {g : Nat → Nat × List Value} {PP P' : Nat → Prop} {S : List Nat} (hP : ∀ x, PP x → P' x) (hS : ∀ x, x ∈ S → P' x) : ∀ (pre : Tr) (v : Value) (hb : Nat), sg g PP S pre v hb → (lQ g P' pre).2 v
  | .leaf _, _, _, h => absurd h id
  | .branch k τ q, v, hb, h => by
    obtain ⟨b, c, w, e1, e2, e3, e4, e5⟩ := h
    rw [lQ_brB]
    refine ⟨b, c, w, e1, hS b e2, e3, (lQ_fr (fun x hx => ⟨hP x hx, rfl⟩) τ).1 c e4, ?_⟩
    rcases e5 with ⟨w0, q0, -⟩ | ⟨-, e6⟩
    · subst q0; exact w0
    · exact sg_lQ hP hS q w hb e6
theorem bL_lQ {PP P' : Nat → Prop} {S : List Nat} {ac : Nat} {s p : Value} {pre : Tr} (hP : ∀ x, PP x → P' x) (hS : ∀ x, x ∈ S → P' x) (h : bL g PP S ac s p pre) : ∃ v z, g ac = (11, [s, p, v, z]) ∧ (lQ g P' pre).2 v := by
  rcases h with ⟨h1, h2⟩ | ⟨fv, hb, h1, -, -, h2, -⟩
  · subst h1; exact ⟨_, _, h2, rfl⟩
  · exact ⟨_, _, h1, sg_lQ hP hS pre fv hb h2⟩
theorem c_Choice_addB {PP : Nat → Prop} {S : List Nat} {ac c : Nat} {s p : Value} {pre τ : Tr} {kk : Nat} (hb : bud K t u 1) (hac : ac ∈ S) (hS : ∀ x, x ∈ S → K.n + 62 ≤ x ∧ x < t) (hPP : ∀ x, PP x → x < t ∧ x ∉ S) (h : bL g PP S ac s p pre) (hτ : (lQ g PP τ).1 c)
    (hq : ∀ g', (∀ x, x < t → x ∉ S → g' x = g x) → bL g' PP (t :: S) ac s p (apL pre (.branch kk τ (.leaf 0))) → Q (.returned none) (hp K.n A R g' (t + 1) (u + 4))) : mx K M_Choice_add (d + 2) [.ref ac, iv (kk / 3 : Nat), iv (kk % 3 : Nat), .ref c] (hp K.n A R g t u) Q := by
  have hacs := hS ac hac
  have htS : t ∉ S := fun h => by have := hS t h; omega
  rcases h with ⟨h1, h2⟩ | ⟨fv, hb', h1, h2, h3, h4, x, y, z, h5⟩
  · subst h1
    refine c_Choice_addN hb hacs.1 hacs.2 h2 (hq _ (fun x hx1 hx2 => ?_) ?_)
    · rw [gu_n _ _ (show x ≠ ac from fun h => hx2 (h ▸ hac)), gu_n _ _ (show x ≠ t by omega)]
    · have gt : gu (gu g t (12, [iv (kk / 3 : Nat), iv (kk % 3 : Nat), .ref c, .null])) ac (11, [s, p, .ref t, .ref t]) t = (12, [iv (kk / 3 : Nat), iv (kk % 3 : Nat), .ref c, .null]) := by rw [gu_n _ _ (by omega), gu_s]
      refine Or.inr ⟨.ref t, t, gu_s _ _ _, List.mem_cons_self .., Nat.ne_of_gt hacs.2, ?_, _, _, _, gt⟩
      refine ⟨t, c, .null, rfl, List.mem_cons_self .., gt, (lQ_fr (fun x hx => ⟨hx, ?_⟩) τ).1 c hτ, Or.inl ⟨rfl, rfl, rfl⟩⟩
      obtain ⟨a1, a2⟩ := hPP x hx
      rw [gu_n _ _ (show x ≠ ac from fun h => a2 (h ▸ hac)), gu_n _ _ (show x ≠ t by omega)]
  · have hbs := hS hb' h2
    refine c_Choice_addR hb hacs.1 hacs.2 h1 hbs.1 hbs.2 h3 h5 (hq _ (fun x hx1 hx2 => ?_) ?_)
    · rw [gu_n _ _ (show x ≠ ac from fun h => hx2 (h ▸ hac)), gu_n _ _ (show x ≠ hb' from fun h => hx2 (h ▸ h2)), gu_n _ _ (show x ≠ t by omega)]
    · generalize hg' : gu (gu (gu g t (12, [iv (kk / 3 : Nat), iv (kk % 3 : Nat), .ref c, .null])) hb' (12, [x, y, z, .ref t])) ac (11, [s, p, fv, .ref t]) = g'
      have ga : g' ac = (11, [s, p, fv, .ref t]) := by rw [← hg']; exact gu_s _ _ _
      have gt : g' t = (12, [iv (kk / 3 : Nat), iv (kk % 3 : Nat), .ref c, .null]) := by rw [← hg', gu_n _ _ (by omega), gu_n _ _ (by omega), gu_s]
      have gh : g' hb' = (12, [x, y, z, .ref t]) := by rw [← hg', gu_n _ _ h3, gu_s]
      have go : ∀ w, w ≠ ac → w ≠ hb' → w ≠ t → g' w = g w := fun w a b e => by rw [← hg', gu_n _ _ a, gu_n _ _ b, gu_n _ _ e]
      have gP : ∀ w, PP w → g' w = g w := fun w hw => by
        obtain ⟨a1, a2⟩ := hPP w hw
        exact go w (fun h => a2 (h ▸ hac)) (fun h => a2 (h ▸ h2)) (by omega)
      have hτ' : (lQ g' PP τ).1 c := (lQ_fr (fun x hx => ⟨hx, gP x hx⟩) τ).1 c hτ
      refine Or.inr ⟨fv, t, ga, List.mem_cons_self .., Nat.ne_of_gt hacs.2, ?_, _, _, _, gt⟩
      -- ac holds no branch
      have key : ∀ (pre : Tr) (v : Value), sg g PP S pre v hb' → sg g PP (S.filter (fun w => decide (w ≠ ac))) pre v hb' := by
        intro pre
        induction pre with
        | leaf k => intro v h; exact h
        | branch k σ q _ ihq =>
          intro v h
          obtain ⟨b, c', w, e1, e2, e3, e4, e5⟩ := h
          have hba : b ≠ ac := fun h => by rw [h, h1] at e3; cases e3
          refine ⟨b, c', w, e1, List.mem_filter.mpr ⟨e2, by rw [decide_eq_true_eq]; exact hba⟩, e3, e4, ?_⟩
          rcases e5 with e5 | ⟨e5, e6⟩
          · exact Or.inl e5
          · exact Or.inr ⟨e5, ihq w e6⟩
      have h6 := sg_add gP (fun h => htS (List.mem_filter.mp h).1) gt hτ' pre fv hb' (fun w hw hne => by
        obtain ⟨w1, w2⟩ := List.mem_filter.mp hw
        rw [decide_eq_true_eq] at w2
        exact go w w2 hne (fun h => htS (h ▸ w1))) (fun x' y' z' w' hh => by rw [h5] at hh; cases hh; exact gh) (key pre fv h4)
      exact sg_fr (fun _ _ => rfl) (fun w hw => by
        rcases List.mem_cons.mp hw with h | h
        · rw [h]; exact List.mem_cons_self ..
        · exact List.mem_cons_of_mem _ (List.mem_filter.mp h).1) _ _ _ (fun _ _ => rfl) h6
/-- the branch with a label -/
theorem c_Choice_of {P : Nat → Prop} {l : Tr} {a lab : Nat} {s p v z : Value} (hP : ∀ x, P x → K.n + 62 ≤ x) (ha : K.n + 62 ≤ a) (hl : lab < 6) (hw : (wfP l).2) (hg : g a = (11, [s, p, v, z])) (hR : (lQ g P l).2 v)
    (hn : fdL l lab = none → Q (.returned (some .null)) (hp K.n A R g t u))
    (hs : ∀ k' τ' b c w, fdL l lab = some (k', τ') → g b = (12, [iv (k' / 3 : Nat), iv (k' % 3 : Nat), .ref c, w]) → (lQ g P τ').1 c → P b → Q (.returned (some (.ref b))) (hp K.n A R g t u)) : mx K M_Choice_of d [.ref a, iv lab] (hp K.n A R g t u) Q := by
  have loop : ∀ (l : Tr) (v : Value), (wfP l).2 → (lQ g P l).2 v → (fdL l lab = none → Q (.returned (some .null)) (hp K.n A R g t u)) → (∀ k' τ' b c w, fdL l lab = some (k', τ') → g b = (12, [iv (k' / 3 : Nat), iv (k' % 3 : Nat), .ref c, w]) → (lQ g P τ').1 c → P b → Q (.returned (some (.ref b))) (hp K.n A R g t u)) → wx K M_Choice_of d Q 5 [some (.ref a), some (iv lab), some v] [] (hp K.n A R g t u) := by
    intro l
    induction l with
    | leaf k =>
      intro v hw hR hn hs
      replace hR : v = .null := hR
      subst hR
      have fin := hn rfl
      first | refine r_aload_n 3 rfl rfl ?_ | refine r_aload_nN 3 rfl rfl ?_
      refine r_ifnullN (t := 25) 4 rfl (by decide) ?_
      first | refine r_aload_n 13 rfl rfl ?_ | refine r_aload_nN 13 rfl rfl ?_
      refine r_aret 14 rfl rfl (by first | exact Or.inl rfl | exact Or.inr ⟨_, rfl⟩) ?_
      exact fin
    | branch k τ q _ ihq =>
      intro v hw hR hn hs
      rw [wfB_br] at hw
      rw [lQ_brB] at hR
      obtain ⟨b, c, w, e1, e2, e3, e4, e5⟩ := hR
      subst e1
      have hb0 := hP b e2
      rw [fdL_br] at hn hs
      by_cases e : k / 3 = lab
      · rw [if_pos e] at hs
        have fin := hs k τ b c w rfl e3 e4 e2
        first | refine r_aload_n 3 rfl rfl ?_ | refine r_aload_nN 3 rfl rfl ?_
        refine r_ifnull 4 rfl ?_
        first | refine r_aload_n 5 rfl rfl ?_ | refine r_aload_nN 5 rfl rfl ?_
        refine r_getg 6 rfl f_Choice_32 (by omega) e3 rfl ?_
        refine r_iload_n 7 rfl rfl ?_
        refine r_icmp_eq (t := 25) 8 rfl (by decide) (by first | exact hA _ _ | exact ⟨by decide, by decide⟩ | assumption | exact ⟨by omega, by omega⟩) (by first | exact hA _ _ | exact ⟨by decide, by decide⟩ | assumption | exact ⟨by omega, by omega⟩) (fun c_14 => ?_) (fun c_14 => by omega)
        first | refine r_aload_n 13 rfl rfl ?_ | refine r_aload_nN 13 rfl rfl ?_
        refine r_aret 14 rfl rfl (by first | exact Or.inl rfl | exact Or.inr ⟨_, rfl⟩) ?_
        exact fin
      · rw [if_neg e] at hn hs
        have nx := ihq w hw.2.2.2 e5 hn hs
        rcases lQ_v q e5 with f | ⟨b', f⟩
        · subst f
          first | refine r_aload_n 3 rfl rfl ?_ | refine r_aload_nN 3 rfl rfl ?_
          refine r_ifnull 4 rfl ?_
          first | refine r_aload_n 5 rfl rfl ?_ | refine r_aload_nN 5 rfl rfl ?_
          refine r_getg 6 rfl f_Choice_32 (by omega) e3 rfl ?_
          refine r_iload_n 7 rfl rfl ?_
          refine r_icmp_eq (t := 25) 8 rfl (by decide) (by first | exact hA _ _ | exact ⟨by decide, by decide⟩ | assumption | exact ⟨by omega, by omega⟩) (by first | exact hA _ _ | exact ⟨by decide, by decide⟩ | assumption | exact ⟨by omega, by omega⟩) (fun c_14 => by omega) (fun c_14 => ?_)
          first | refine r_aload_n 9 rfl rfl ?_ | refine r_aload_nN 9 rfl rfl ?_
          refine r_getg 10 rfl f_Choice_29 (by omega) e3 rfl ?_
          first | refine r_astore_n 11 rfl (Nat.le_of_ble_eq_true rfl) ?_ | refine r_astore_nN 11 rfl (Nat.le_of_ble_eq_true rfl) ?_
          refine r_goto (t := 5) 12 rfl (by decide) ?_
          exact nx
        · subst f
          first | refine r_aload_n 3 rfl rfl ?_ | refine r_aload_nN 3 rfl rfl ?_
          refine r_ifnull 4 rfl ?_
          first | refine r_aload_n 5 rfl rfl ?_ | refine r_aload_nN 5 rfl rfl ?_
          refine r_getg 6 rfl f_Choice_32 (by omega) e3 rfl ?_
          refine r_iload_n 7 rfl rfl ?_
          refine r_icmp_eq (t := 25) 8 rfl (by decide) (by first | exact hA _ _ | exact ⟨by decide, by decide⟩ | assumption | exact ⟨by omega, by omega⟩) (by first | exact hA _ _ | exact ⟨by decide, by decide⟩ | assumption | exact ⟨by omega, by omega⟩) (fun c_14 => by omega) (fun c_14 => ?_)
          first | refine r_aload_n 9 rfl rfl ?_ | refine r_aload_nN 9 rfl rfl ?_
          refine r_getg 10 rfl f_Choice_29 (by omega) e3 rfl ?_
          first | refine r_astore_n 11 rfl (Nat.le_of_ble_eq_true rfl) ?_ | refine r_astore_nN 11 rfl (Nat.le_of_ble_eq_true rfl) ?_
          refine r_goto (t := 5) 12 rfl (by decide) ?_
          exact nx
  have nx := loop l v hw hR hn hs
  refine mx_in ok_Choice_of rfl (Nat.le_of_ble_eq_true rfl) ?_
  rcases lQ_v l hR with f | ⟨b', f⟩
  · subst f
    refine r_aload_n 0 rfl rfl ?_
    refine r_getg 1 rfl f_Choice_26 (by omega) hg rfl ?_
    first | refine r_astore_n 2 rfl (Nat.le_of_ble_eq_true rfl) ?_ | refine r_astore_nN 2 rfl (Nat.le_of_ble_eq_true rfl) ?_
    exact nx
  · subst f
    refine r_aload_n 0 rfl rfl ?_
    refine r_getg 1 rfl f_Choice_26 (by omega) hg rfl ?_
    first | refine r_astore_n 2 rfl (Nat.le_of_ble_eq_true rfl) ?_ | refine r_astore_nN 2 rfl (Nat.le_of_ble_eq_true rfl) ?_
    exact nx
end XA81


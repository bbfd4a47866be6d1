/-! PURE: machines of local types; guarded types -/
/-- what a type begins with: 0 an end, v + 1 a variable, 100 a message -/
def hdv : Tr → Nat
  | .leaf k => k
  | .branch k l _ => if k < 3 then hdv l else 100
theorem hdv_br (k : Nat) (l q : Tr) : hdv (.branch k l q) = if k < 3 then hdv l else 100 := rfl
def ub (bs : Nat → Bool) (v : Nat) : Nat → Bool := fun w => decide (w = v) || bs w
/-- closed (but for bs) and guarded -/
def gdd : Tr → ((Nat → Bool) → Prop) × ((Nat → Bool) → Prop)
  | .leaf k => (fun bs => k ≠ 0 → bs (k - 1) = true, fun _ => True)
  | .branch k l q => (fun bs => if k < 3 then hdv l ≠ k + 1 ∧ (gdd l).1 (ub bs k) else (gdd l).2 bs, fun bs => (gdd l).1 bs ∧ (gdd q).2 bs)
theorem gdd_lf (k : Nat) (bs : Nat → Bool) : (gdd (.leaf k)).1 bs = (k ≠ 0 → bs (k - 1) = true) := rfl
theorem gdd_br (k : Nat) (l q : Tr) (bs : Nat → Bool) : (gdd (.branch k l q)).1 bs = (if k < 3 then hdv l ≠ k + 1 ∧ (gdd l).1 (ub bs k) else (gdd l).2 bs) := rfl
theorem gdd_brB (k : Nat) (l q : Tr) (bs : Nat → Bool) : (gdd (.branch k l q)).2 bs = ((gdd l).1 bs ∧ (gdd q).2 bs) := rfl
theorem fd_gd : ∀ (l : Tr) (x k' : Nat) (τ' : Tr) (bs : Nat → Bool), (gdd l).2 bs → fdL l x = some (k', τ') → (gdd τ').1 bs
  | .leaf k, x, k', τ', bs, _, h => by cases h
  | .branch k τ r, x, k', τ', bs, hw, h => by
    rw [gdd_brB] at hw
    rw [fdL_br] at h
    split at h
    · cases h; exact hw.1
    · exact fd_gd r x k' τ' bs hw.2 h
theorem apL_gd : ∀ (a b : Tr) (bs : Nat → Bool), (gdd a).2 bs → (gdd b).2 bs → (gdd (apL a b)).2 bs
  | .leaf _, b, _, _, hb => hb
  | .branch k τ r, b, bs, ha, hb => by
    rw [gdd_brB] at ha
    rw [apL_br, gdd_brB]
    exact ⟨ha.1, apL_gd r b bs ha.2 hb⟩
theorem flt_gd (a : Tr) : ∀ (l : Tr) (bs : Nat → Bool), (gdd l).2 bs → (gdd (flt a l)).2 bs
  | .leaf k, _, _ => trivial
  | .branch k l r, bs, hw => by
    rw [gdd_brB] at hw
    rw [flt_br]
    split
    · exact flt_gd a r bs hw.2
    · rw [gdd_brB]; exact ⟨hw.1, flt_gd a r bs hw.2⟩
/-- merging keeps that -/
theorem mg_gd (a : Tr) : (∀ b γ bs, (gdd a).1 bs → (gdd b).1 bs → (mg a).1 b = some γ → (gdd γ).1 bs ∧ hdv γ = hdv a ∧ hdv γ = hdv b) ∧ (∀ s l' x bs, (gdd a).2 bs → (gdd l').2 bs → (mg a).2 s l' = some x → (gdd x).2 bs) := by
  induction a with
  | leaf k =>
    refine ⟨fun b γ bs ha hb h => ?_, fun s l' x bs ha hb h => ?_⟩
    · rw [mg_lf] at h
      cases b with
      | leaf k' =>
        dsimp only at h
        split at h
        · rename_i e; cases h; exact ⟨ha, rfl, e⟩
        · cases h
      | branch k' l r => cases h
    · rw [mg_lfB] at h; cases h; trivial
  | branch k l r ihl ihr =>
    refine ⟨fun b γ bs ha hb h => ?_, fun s l' x bs ha hb h => ?_⟩
    · cases b with
      | leaf k' => cases h
      | branch k' l' r' =>
        rw [mg_br] at h
        rw [gdd_br] at ha hb
        split at h
        · cases h
        rename_i hk
        have hk : k = k' := Decidable.byContradiction hk
        subst hk
        by_cases h3 : k < 3
        · rw [if_pos h3] at h ha hb
          cases hm : (mg l).1 l' with
          | none => rw [hm] at h; cases h
          | some m =>
            rw [hm] at h
            cases h
            obtain ⟨i1, i2, i3⟩ := ihl.1 l' m _ ha.2 hb.2 hm
            rw [gdd_br, hdv_br, hdv_br, hdv_br, if_pos h3, if_pos h3, if_pos h3, if_pos h3]
            exact ⟨⟨by rw [i2]; exact ha.1, i1⟩, i2, i3⟩
        · rw [if_neg h3] at h ha hb
          split at h
          · cases h
          cases hm : (mg l).2 (decide (k < 7)) l' with
          | none => rw [hm] at h; cases h
          | some x =>
            rw [hm] at h
            cases h
            rw [gdd_br, hdv_br, hdv_br, hdv_br, if_neg h3, if_neg h3, if_neg h3, if_neg h3]
            exact ⟨apL_gd _ _ _ (ihl.2 _ l' x bs ha hb hm) (flt_gd l l' bs hb), rfl, rfl⟩
    · rw [gdd_brB] at ha
      rw [mg_brB] at h
      cases hf : fdL l' (k / 3) with
      | none =>
        rw [hf] at h
        dsimp only at h
        split at h
        · cases h
        cases hm : (mg r).2 s l' with
        | none => rw [hm] at h; cases h
        | some z =>
          rw [hm] at h
          cases h
          rw [gdd_brB]
          exact ⟨ha.1, ihr.2 s l' z bs ha.2 hb hm⟩
      | some p =>
        obtain ⟨k', τ'⟩ := p
        rw [hf] at h
        dsimp only at h
        split at h
        · cases h
        split at h
        · cases h
        rename_i m hm1
        cases hm : (mg r).2 s l' with
        | none => rw [hm] at h; cases h
        | some z =>
          rw [hm] at h
          cases h
          rw [gdd_brB]
          exact ⟨(ihl.1 τ' m bs ha.1 (fd_gd l' _ k' τ' bs hb hf) hm1).1, ihr.2 s l' z bs ha.2 hb hm⟩
/-- what a part begins with tells what it is a part of -/
def hdH (nm : Bool) (ls : Nat → Bool) (σ : Tr) : Prop := (hdv σ = 0 → nm = false ∧ ∀ v, v < 3 → ls v = false) ∧ ∀ v, hdv σ = v + 1 → v < 3 → nm = false ∧ ∀ w, w < 3 → ls w = decide (w = v)
theorem hdv_rg (τ : Tr) (h : (wfP τ).1) : hdv τ ≤ 3 ∨ hdv τ = 100 := by
  induction τ with
  | leaf k => rw [wfT_leaf] at h; exact Or.inl h
  | branch k l q ihl _ =>
    rw [hdv_br]
    rw [wfT_br] at h
    by_cases h3 : k < 3
    · rw [if_pos h3] at h ⊢; exact ihl h
    · rw [if_neg h3]; exact Or.inr rfl
theorem pt_gd (r : Int) (τ : Tr) : (∀ bs σ, (wfP τ).1 → (∀ v, v < 3 → (lsP τ).1 v = true → bs v = true) → (pt r τ).1 = some σ → (gdd σ).1 bs ∧ hdH (nmP r τ).1 (lsP τ).1 σ) ∧
    ((∀ bs x, (wfP τ).2 → (∀ v, v < 3 → (lsP τ).2 v = true → bs v = true) → (pt r τ).2.1 = some x → (gdd x).2 bs) ∧
     (∀ bs a σ nm ls, (wfP τ).2 → (∀ v, v < 3 → (lsP τ).2 v = true → bs v = true) → (wfP a).1 → (gdd a).1 bs → hdH nm ls a → (pt r τ).2.2.1 a = some σ → (gdd σ).1 bs ∧ hdH (nm || (nmP r τ).2) (fun v => ls v || (lsP τ).2 v) σ) ∧
     (∀ bs σ, (wfP τ).2 → (∀ v, v < 3 → (lsP τ).2 v = true → bs v = true) → (pt r τ).2.2.2 = some σ → (gdd σ).1 bs ∧ hdH (nmP r τ).2 (lsP τ).2 σ)) := by
  induction τ with
  | leaf k =>
    refine ⟨fun bs σ hw hc h => ?_, fun bs x hw hc h => ?_, fun bs a σ nm ls hw hc ha hg hh h => ?_, fun bs σ hw hc h => ?_⟩
    · cases h
      rw [wfT_leaf] at hw
      refine ⟨fun hk => hc (k - 1) (by omega) (by show decide (k = k - 1 + 1) = true; rw [decide_eq_true_eq]; omega), fun e => ⟨rfl, fun v hv => ?_⟩, fun v e hv => ⟨rfl, fun w hw => ?_⟩⟩
      · show decide (k = v + 1) = false
        rw [decide_eq_false_iff_not]
        have : k = 0 := e
        omega
      · have e' : k = v + 1 := e
        show decide (k = w + 1) = decide (w = v)
        rw [decide_eq_decide]
        omega
    · cases h; trivial
    · cases h
      refine ⟨hg, ?_⟩
      have e1 : (nm || (nmP r (.leaf k)).2) = nm := by show (nm || false) = nm; simp
      have e2 : (fun v => ls v || (lsP (.leaf k)).2 v) = ls := by funext v; show (ls v || false) = ls v; simp
      rw [e1, e2]; exact hh
    · cases h
  | branch k l q ihl ihq =>
    refine ⟨fun bs σ hw hc h => ?_, fun bs x hw hc h => ?_, fun bs a σ nm ls hw hc ha hg hh h => ?_, fun bs σ hw hc h => ?_⟩
    · rw [wfT_br] at hw
      rw [pt_br] at h
      by_cases h3 : k < 3
      · rw [if_pos h3] at hw h
        have e1 : (nmP r (.branch k l q)).1 = (nmP r l).1 := by rw [nmT_br, if_pos h3]
        have e2 : ∀ v, (lsP (.branch k l q)).1 v = (!decide (v = k) && (lsP l).1 v) := fun v => by rw [lsT_br, if_pos h3]
        by_cases ht : tch r (.branch k l q) = true
        · rw [if_pos ht] at h
          cases hp : (pt r l).1 with
          | none => rw [hp] at h; cases h
          | some x =>
            rw [hp] at h
            cases h
            obtain ⟨i1, i2, i3⟩ := ihl.1 (ub bs k) x hw (fun v hv hl => by
              unfold ub
              by_cases e : v = k
              · rw [decide_eq_true e]; rfl
              · rw [decide_eq_false e, Bool.false_or]; exact hc v hv (by rw [e2, hl, decide_eq_false e]; rfl)) hp
            have hx := ((pt_ok r l).1 hw x hp).1
            have ht' : ((nmP r l).1 || (lsP (.branch k l q)).1 0 || (lsP (.branch k l q)).1 1 || (lsP (.branch k l q)).1 2) = true := by
              unfold tch at ht; rw [e1] at ht; exact ht
            have hne0 : hdv x ≠ 0 := fun e => by
              obtain ⟨j1, j2⟩ := i2 e
              rw [j1, e2, e2, e2, j2 0 (by omega), j2 1 (by omega), j2 2 (by omega)] at ht'
              simp at ht'
            have hnek : hdv x ≠ k + 1 := fun e => by
              obtain ⟨j1, j2⟩ := i3 k e h3
              rw [j1, e2, e2, e2, j2 0 (by omega), j2 1 (by omega), j2 2 (by omega)] at ht'
              by_cases e0 : 0 = k <;> by_cases e1 : 1 = k <;> by_cases e2 : 2 = k <;> simp [e0, e1, e2] at ht'
            rw [gdd_br, if_pos h3, e1]
            refine ⟨⟨hnek, i1⟩, fun e => ?_, fun v e hv => ?_⟩
            · rw [hdv_br, if_pos h3] at e; exact absurd e hne0
            · rw [hdv_br, if_pos h3] at e
              obtain ⟨j1, j2⟩ := i3 v e hv
              refine ⟨j1, fun w hw => ?_⟩
              rw [e2, j2 w hw]
              by_cases ew : w = v
              · have : w ≠ k := fun h => hnek (by omega)
                rw [decide_eq_true ew, decide_eq_false this]; rfl
              · rw [decide_eq_false ew, Bool.and_false]
        · rw [if_neg ht] at h
          cases h
          unfold tch at ht
          simp only [Bool.or_eq_true, not_or, Bool.not_eq_true] at ht
          refine ⟨fun h => absurd rfl h, fun _ => ⟨ht.1.1.1, fun v hv => ?_⟩, fun v e => by cases e⟩
          have : v = 0 ∨ v = 1 ∨ v = 2 := by omega
          rcases this with rfl | rfl | rfl
          · exact ht.1.1.2
          · exact ht.1.2
          · exact ht.2
      · rw [if_neg h3] at hw h
        have e2 : ∀ v, (lsP (.branch k l q)).1 v = (lsP l).2 v := fun v => by rw [lsT_br, if_neg h3]
        have hc' : ∀ v, v < 3 → (lsP l).2 v = true → bs v = true := fun v hv hl => hc v hv (by rw [e2]; exact hl)
        have hmine : ∀ kk, 3 ≤ kk → ∀ σ, (pt r l).2.1.map (fun x => (.branch kk x (.leaf 0) : Tr)) = some σ → (gdd σ).1 bs ∧ hdH (nmP r (.branch k l q)).1 (lsP (.branch k l q)).1 σ := by
          intro kk hk σ h
          cases hp : (pt r l).2.1 with
          | none => rw [hp] at h; cases h
          | some x =>
            rw [hp] at h
            cases h
            have hh : hdv (.branch kk x (.leaf 0)) = 100 := by rw [hdv_br, if_neg (by omega)]
            have h1 : (gdd (.branch kk x (.leaf 0))).1 bs := by rw [gdd_br, if_neg (by omega)]; exact ihl.2.1 bs x hw.2.1 hc' hp
            have h2 : hdH (nmP r (.branch k l q)).1 (lsP (.branch k l q)).1 (.branch kk x (.leaf 0)) := ⟨fun e => (by rw [hh] at e; cases e), fun v e hv => (by rw [hh] at e; omega)⟩
            exact ⟨h1, h2⟩
        split at h
        · exact hmine _ (by omega) σ h
        split at h
        · exact hmine _ (by omega) σ h
        · rename_i n1 n2
          obtain ⟨i1, i2⟩ := ihl.2.2.2 bs σ hw.2.1 hc' h
          have e1 : (nmP r (.branch k l q)).1 = (nmP r l).2 := by rw [nmT_br, if_neg h3, decide_eq_false n1, decide_eq_false n2]; simp
          have e3 : (lsP (.branch k l q)).1 = (lsP l).2 := funext e2
          rw [e1, e3]
          exact ⟨i1, i2⟩
    · rw [wfB_br] at hw
      rw [ptM_br] at h
      cases hp : (pt r l).1 with
      | none => rw [hp] at h; cases h
      | some a =>
        cases hp2 : (pt r q).2.1 with
        | none => rw [hp, hp2] at h; cases h
        | some b =>
          rw [hp, hp2] at h
          cases h
          rw [gdd_brB]
          exact ⟨(ihl.1 bs a hw.2.2.1 (fun v hv hl => hc v hv (by rw [lsB_br, hl]; rfl)) hp).1, ihq.2.1 bs b hw.2.2.2 (fun v hv hl => hc v hv (by rw [lsB_br, hl]; simp)) hp2⟩
    · rw [wfB_br] at hw
      rw [ptA_br] at h
      cases hp : (pt r l).1 with
      | none => rw [hp] at h; cases h
      | some b =>
        rw [hp] at h
        replace h : ((mg a).1 b).bind (pt r q).2.2.1 = some σ := h
        cases hm : (mg a).1 b with
        | none => rw [hm] at h; cases h
        | some c =>
          rw [hm] at h
          replace h : (pt r q).2.2.1 c = some σ := h
          obtain ⟨i1, i2, i3⟩ := ihl.1 bs b hw.2.2.1 (fun v hv hl => hc v hv (by rw [lsB_br, hl]; rfl)) hp
          have hb := ((pt_ok r l).1 hw.2.2.1 b hp).1
          obtain ⟨m1, m2, m3⟩ := (mg_gd a).1 b c bs hg i1 hm
          have hcw := ((mg_ok a).1 b c ha hb hm).1
          have hH : hdH (nm || (nmP r l).1) (fun v => ls v || (lsP l).1 v) c := by
            refine ⟨fun e => ?_, fun v e hv => ?_⟩
            · obtain ⟨a1, a2⟩ := hh.1 (by omega)
              obtain ⟨b1, b2⟩ := i2 (by omega)
              exact ⟨by rw [a1, b1]; rfl, fun v hv => by show (ls v || (lsP l).1 v) = false; rw [a2 v hv, b2 v hv]; rfl⟩
            · obtain ⟨a1, a2⟩ := hh.2 v (by omega) hv
              obtain ⟨b1, b2⟩ := i3 v (by omega) hv
              exact ⟨by rw [a1, b1]; rfl, fun w hw => by show (ls w || (lsP l).1 w) = _; rw [a2 w hw, b2 w hw, Bool.or_self]⟩
          obtain ⟨j1, j2⟩ := ihq.2.2.1 bs c σ _ _ hw.2.2.2 (fun v hv hl => hc v hv (by rw [lsB_br, hl]; simp)) hcw m1 hH h
          refine ⟨j1, ?_⟩
          have e1 : (nm || (nmP r (.branch k l q)).2) = (nm || (nmP r l).1 || (nmP r q).2) := by rw [nmB_br, Bool.or_assoc]
          have e2 : (fun v => ls v || (lsP (.branch k l q)).2 v) = fun v => (ls v || (lsP l).1 v) || (lsP q).2 v := by funext v; rw [lsB_br, Bool.or_assoc]
          rw [e1, e2]
          exact j2
    · rw [wfB_br] at hw
      rw [ptF_br] at h
      cases hp : (pt r l).1 with
      | none => rw [hp] at h; cases h
      | some b =>
        rw [hp] at h
        replace h : (pt r q).2.2.1 b = some σ := h
        obtain ⟨i1, i2⟩ := ihl.1 bs b hw.2.2.1 (fun v hv hl => hc v hv (by rw [lsB_br, hl]; rfl)) hp
        have hb := ((pt_ok r l).1 hw.2.2.1 b hp).1
        obtain ⟨j1, j2⟩ := ihq.2.2.1 bs b σ _ _ hw.2.2.2 (fun v hv hl => hc v hv (by rw [lsB_br, hl]; simp)) hb i1 i2 h
        refine ⟨j1, ?_⟩
        rw [nmB_br]
        have e2 : (lsP (.branch k l q)).2 = fun v => (lsP l).1 v || (lsP q).2 v := by funext v; rw [lsB_br]
        rw [e2]
        exact j2

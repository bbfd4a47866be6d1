/-! PURE: more of merging -/
def gm (α β : Tr) : Tr := ((mg α).1 β).getD (.leaf 0)
/-- local types all through -/
def lkP : Tr → Prop × Prop
  | .leaf _ => (True, True)
  | .branch k l r => (if k < 3 then (lkP l).1 else k < 11 ∧ (lkP l).2, (lkP l).1 ∧ (lkP r).2)
theorem lkT_br (k : Nat) (l r : Tr) : (lkP (.branch k l r)).1 = (if k < 3 then (lkP l).1 else k < 11 ∧ (lkP l).2) := rfl
theorem lkB_br (k : Nat) (l r : Tr) : (lkP (.branch k l r)).2 = ((lkP l).1 ∧ (lkP r).2) := rfl
theorem lk_lok {τ : Tr} (h : (lkP τ).1) : lok τ := by
  cases τ with
  | leaf k => trivial
  | branch k l r =>
    rw [lkT_br] at h
    show k < 11
    split at h <;> omega
/-- a weight of the branches of a list -/
def wF (F : Nat → Tr → Nat) : Tr → Nat
  | .leaf _ => 0
  | .branch k τ r => F k τ + wF F r
def sF (F : Nat → Tr → Nat) (bs : Tr) : Tr → Nat
  | .leaf _ => 0
  | .branch k _ r => (match fdL bs (k / 3) with | none => 0 | some (k', τ') => F k' τ') + sF F bs r
theorem wF_br (F : Nat → Tr → Nat) (k : Nat) (τ r : Tr) : wF F (.branch k τ r) = F k τ + wF F r := rfl
theorem sF_br (F : Nat → Tr → Nat) (bs : Tr) (k : Nat) (l r : Tr) : sF F bs (.branch k l r) = (match fdL bs (k / 3) with | none => 0 | some (k', τ') => F k' τ') + sF F bs r := rfl
theorem sF_cut (F : Nat → Tr → Nat) (k : Nat) (τ b : Tr) : ∀ l : Tr, hasL l (k / 3 : Nat) = false → sF F (.branch k τ b) l = sF F b l
  | .leaf _, _ => rfl
  | .branch k' l r, h => by
    rw [hasL_br, Bool.or_eq_false_iff, decide_eq_false_iff_not] at h
    rw [sF_br, sF_br, fdL_br, if_neg (by omega), sF_cut F k τ b r h.2]
theorem sF_one (F : Nat → Tr → Nat) (k : Nat) (τ b : Tr) : ∀ l : Tr, (wfP l).2 → sF F (.branch k τ b) l ≤ F k τ + sF F b l
  | .leaf _, _ => by show 0 ≤ _; omega
  | .branch k' l r, hw => by
    rw [wfB_br] at hw
    rw [sF_br, sF_br, fdL_br]
    by_cases e : k / 3 = k' / 3
    · rw [if_pos e]
      dsimp only
      rw [sF_cut F k τ b r (by rw [e]; exact hw.2.1)]
      omega
    · rw [if_neg e]
      have := sF_one F k τ b r hw.2.2.2
      omega
theorem sF_lf (F : Nat → Tr → Nat) (k : Nat) : ∀ l : Tr, sF F (.leaf k) l = 0
  | .leaf _ => rfl
  | .branch k' l r => by rw [sF_br, sF_lf F k r]; rfl
theorem sF_le (F : Nat → Tr → Nat) (l : Tr) (hw : (wfP l).2) : ∀ b : Tr, sF F b l + wF F (flt l b) ≤ wF F b
  | .leaf k => by rw [sF_lf]; exact Nat.le_refl 0
  | .branch k τ b => by
    have ih := sF_le F l hw b
    rw [flt_br, wF_br]
    by_cases e : hasL l (k / 3 : Nat) = true
    · rw [if_pos e]
      have := sF_one F k τ b l hw
      omega
    · rw [if_neg e, wF_br, sF_cut F k τ b l (by cases hh : hasL l (k / 3 : Nat); rfl; exact absurd hh e)]
      omega
theorem wF_sz (b : Tr) : wF (fun _ τ => szT τ) b = szB b := by
  induction b with
  | leaf k => rfl
  | branch k τ r _ ih => rw [wF_br, szB_br, ih]
/-- the found one: well-made, its size -/
theorem fd_wf : ∀ (l : Tr) (x k' : Nat) (τ' : Tr), (wfP l).2 → fdL l x = some (k', τ') → (wfP τ').1 ∧ k' / 3 = x ∧ szT τ' ≤ szB l ∧ ((lkP l).2 → (lkP τ').1)
  | .leaf k, x, k', τ', _, h => by cases h
  | .branch k τ r, x, k', τ', hw, h => by
    rw [wfB_br] at hw
    rw [fdL_br] at h
    rw [szB_br, lkB_br]
    by_cases e : k / 3 = x
    · rw [if_pos e] at h
      cases h
      exact ⟨hw.2.2.1, e, by omega, fun h => h.1⟩
    · rw [if_neg e] at h
      obtain ⟨a, b, c, f⟩ := fd_wf r x k' τ' hw.2.2.2 h
      exact ⟨a, b, by omega, fun h => f h.2⟩
theorem apL_has : ∀ (a b : Tr) (x : Int), hasL (apL a b) x = (hasL a x || hasL b x)
  | .leaf _, b, x => by show hasL b x = (false || hasL b x); simp
  | .branch k τ r, b, x => by rw [apL_br, hasL_br, hasL_br, apL_has r b x, Bool.or_assoc]
theorem apL_wf : ∀ (a b : Tr), (wfP a).2 → (wfP b).2 → (∀ x, hasL a x = true → hasL b x = false) → (wfP (apL a b)).2
  | .leaf _, b, _, hb, _ => hb
  | .branch k τ r, b, ha, hb, h => by
    rw [wfB_br] at ha
    rw [apL_br, wfB_br]
    refine ⟨ha.1, ?_, ha.2.2.1, apL_wf r b ha.2.2.2 hb (fun x hx => h x (by rw [hasL_br, hx]; simp))⟩
    rw [apL_has, ha.2.1, Bool.false_or]
    exact h _ (by rw [hasL_br]; simp)
theorem apL_sz : ∀ (a b : Tr), szB (apL a b) = szB a + szB b
  | .leaf _, b => by show szB b = 0 + szB b; omega
  | .branch k τ r, b => by rw [apL_br, szB_br, szB_br, apL_sz r b]; omega
theorem apL_len : ∀ (a b : Tr), lenB (apL a b) = lenB a + lenB b
  | .leaf _, b => by show lenB b = 0 + lenB b; omega
  | .branch k τ r, b => by rw [apL_br, lenB_br, lenB_br, apL_len r b]; omega
theorem apL_lk : ∀ (a b : Tr), (lkP a).2 → (lkP b).2 → (lkP (apL a b)).2
  | .leaf _, b, _, hb => hb
  | .branch k τ r, b, ha, hb => by
    rw [lkB_br] at ha
    rw [apL_br, lkB_br]
    exact ⟨ha.1, apL_lk r b ha.2 hb⟩
theorem flt_wf (a : Tr) : ∀ l : Tr, (wfP l).2 → (wfP (flt a l)).2
  | .leaf k, _ => trivial
  | .branch k l r, hw => by
    rw [wfB_br] at hw
    rw [flt_br]
    split
    · exact flt_wf a r hw.2.2.2
    · rw [wfB_br]
      refine ⟨hw.1, ?_, hw.2.2.1, flt_wf a r hw.2.2.2⟩
      cases hh : hasL (flt a r) (k / 3 : Nat)
      · rfl
      · have := (flt_has a r _ hh).1
        rw [hw.2.1] at this; cases this
theorem flt_lk (a : Tr) : ∀ l : Tr, (lkP l).2 → (lkP (flt a l)).2
  | .leaf k, _ => trivial
  | .branch k l r, hw => by
    rw [lkB_br] at hw
    rw [flt_br]
    split
    · exact flt_lk a r hw.2
    · rw [lkB_br]; exact ⟨hw.1, flt_lk a r hw.2⟩
/-- the merged type: well-made, local, not too large -/
theorem mg_ok (a : Tr) : (∀ b γ, (wfP a).1 → (wfP b).1 → (mg a).1 b = some γ → (wfP γ).1 ∧ szT γ + 1 ≤ szT a + szT b ∧ ((lkP a).1 → (lkP b).1 → (lkP γ).1)) ∧
    (∀ s bs x, (wfP a).2 → (wfP bs).2 → (mg a).2 s bs = some x → (wfP x).2 ∧ (∀ y, hasL x y = hasL a y) ∧ szB x ≤ szB a + sF (fun _ τ => szT τ) bs a ∧ lenB x = lenB a ∧ ((lkP a).2 → (lkP bs).2 → (lkP x).2)) := by
  induction a with
  | leaf k =>
    refine ⟨fun b γ ha hb h => ?_, fun s bs x ha hb h => ?_⟩
    · rw [mg_lf] at h
      cases b with
      | leaf k' =>
        dsimp only at h
        split at h
        · cases h; exact ⟨ha, Nat.le_refl 2, fun _ _ => trivial⟩
        · cases h
      | branch k' l r => cases h
    · rw [mg_lfB] at h
      cases h
      exact ⟨trivial, fun y => rfl, Nat.zero_le _, rfl, fun _ _ => trivial⟩
  | branch k l r ihl ihr =>
    refine ⟨fun b γ ha hb h => ?_, fun s bs x ha hb h => ?_⟩
    · cases b with
      | leaf k' => cases h
      | branch k' l' r' =>
        rw [mg_br] at h
        rw [wfT_br] at ha hb
        split at h
        · cases h
        rename_i hk
        have hk : k = k' := Decidable.byContradiction hk
        subst hk
        by_cases h3 : k < 3
        · rw [if_pos h3] at h ha hb
          cases hm : (mg l).1 l' with
          | none => rw [hm] at h; cases h
          | some m =>
            rw [hm] at h
            cases h
            obtain ⟨i1, i2, i3⟩ := ihl.1 l' m ha hb hm
            refine ⟨by rw [wfT_br, if_pos h3]; exact i1, by rw [szT_br, szT_br, szT_br, if_pos h3, if_pos h3, if_pos h3]; omega, ?_⟩
            rw [lkT_br, lkT_br, lkT_br, if_pos h3, if_pos h3, if_pos h3]
            exact i3
        · rw [if_neg h3] at h ha hb
          split at h
          · cases h
          cases hm : (mg l).2 (decide (k < 7)) l' with
          | none => rw [hm] at h; cases h
          | some x =>
            rw [hm] at h
            cases h
            obtain ⟨i1, i2, i3, i4, i5⟩ := ihl.2 _ l' x ha.2.1 hb.2.1 hm
            have hf := sF_le (fun _ τ => szT τ) l ha.2.1 l'
            rw [wF_sz, wF_sz] at hf
            refine ⟨?_, ?_, ?_⟩
            · rw [wfT_br, if_neg h3]
              refine ⟨ha.1, apL_wf _ _ i1 (flt_wf l l' hb.2.1) (fun y hy => ?_), ?_⟩
              · cases hh : hasL (flt l l') y
                · rfl
                · have := (flt_has l l' y hh).2
                  rw [← i2, hy] at this; cases this
              · rw [apL_len]; have h1 := ha.2.2; omega
            · rw [szT_br, szT_br, szT_br, if_neg h3, if_neg h3, if_neg h3, apL_sz]; omega
            · rw [lkT_br, lkT_br, lkT_br, if_neg h3, if_neg h3, if_neg h3]
              exact fun h1 h2 => ⟨h1.1, apL_lk _ _ (i5 h1.2 h2.2) (flt_lk l l' h2.2)⟩
    · rw [wfB_br] at ha
      rw [mg_brB] at h
      rw [sF_br, lkB_br]
      cases hf : fdL bs (k / 3) with
      | none =>
        rw [hf] at h
        dsimp only at h ⊢
        split at h
        · cases h
        cases hm : (mg r).2 s bs with
        | none => rw [hm] at h; cases h
        | some z =>
          rw [hm] at h
          cases h
          obtain ⟨i1, i2, i3, i4, i5⟩ := ihr.2 s bs z ha.2.2.2 hb hm
          refine ⟨by rw [wfB_br]; exact ⟨ha.1, by rw [i2]; exact ha.2.1, ha.2.2.1, i1⟩, fun y => by rw [hasL_br, hasL_br, i2], by rw [szB_br, szB_br]; omega, by rw [lenB_br, lenB_br, i4], fun h1 h2 => by rw [lkB_br]; exact ⟨h1.1, i5 h1.2 h2⟩⟩
      | some q =>
        obtain ⟨k', τ'⟩ := q
        rw [hf] at h
        dsimp only at h ⊢
        obtain ⟨f1, f2, f3, f4⟩ := fd_wf bs (k / 3) k' τ' hb hf
        split at h
        · cases h
        split at h
        · cases h
        rename_i m hm1
        cases hm : (mg r).2 s bs with
        | none => rw [hm] at h; cases h
        | some z =>
          rw [hm] at h
          cases h
          obtain ⟨i1, i2, i3, i4, i5⟩ := ihr.2 s bs z ha.2.2.2 hb hm
          obtain ⟨j1, j2, j3⟩ := ihl.1 τ' m ha.2.2.1 f1 hm1
          refine ⟨by rw [wfB_br]; exact ⟨ha.1, by rw [i2]; exact ha.2.1, j1, i1⟩, fun y => by rw [hasL_br, hasL_br, i2], by rw [szB_br, szB_br]; omega, by rw [lenB_br, lenB_br, i4], fun h1 h2 => by rw [lkB_br]; exact ⟨j3 h1.1 (f4 h2), i5 h1.2 h2⟩⟩

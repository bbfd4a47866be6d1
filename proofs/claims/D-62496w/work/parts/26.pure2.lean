/-! the reader's law: sizes, letters, well-made -/
theorem chT_leaf (md : Bool) (k : Nat) : chT md (.leaf k) = 1 := rfl
theorem chB_leaf (md : Bool) (k : Nat) : chB md (.leaf k) = 0 := rfl
theorem chT_br (md : Bool) (k : Nat) (l r : Tr) : chT md (.branch k l r) = if k < 3 then 3 + chT md l else (if md then 3 else 4) + chB md l := rfl
theorem chB_br (md : Bool) (k : Nat) (l r : Tr) : chB md (.branch k l r) = 4 + chT md l + chB md r := rfl
theorem wfT_leaf (k : Nat) : (wfP (.leaf k)).1 = (k ≤ 3) := rfl
theorem wfB_leaf (k : Nat) : (wfP (.leaf k)).2 = True := rfl
theorem wfT_br (k : Nat) (l r : Tr) : (wfP (.branch k l r)).1 = (if k < 3 then (wfP l).1 else k < 19 ∧ (wfP l).2 ∧ lenB l ≠ 0) := rfl
theorem wfB_br (k : Nat) (l r : Tr) : (wfP (.branch k l r)).2 = (k / 3 < 6 ∧ hasL r (k / 3 : Nat) = false ∧ (wfP l).1 ∧ (wfP r).2) := rfl
theorem hasL_br (k : Nat) (l r : Tr) (x : Int) : hasL (.branch k l r) x = (decide (((k / 3 : Nat) : Int) = x) || hasL r x) := rfl
theorem pr_T (cx : Int → Int) (md : Bool) (f : Nat) (env : List Int) (p k : Int) (bef : Int → Bool) : pr cx md (f + 1) false env p k bef =
    if k = 30 then .inl p
    else if cx p = 101 then .inr (.leaf 0, p + 1, k + 1)
    else if cx p = 109 then
      (if cx (p + 1) < 88 ∨ 90 < cx (p + 1) then .inl (p + 1) else if cx (p + 2) ≠ 46 then .inl (p + 2)
       else match pr cx md f false ((cx (p + 1) - 88) :: env) (p + 3) (k + 1) (fun _ => false) with
        | .inl e => .inl e
        | .inr (τ, p', k') => .inr (.branch (cx (p + 1) - 88).toNat τ (.leaf 0), p', k'))
    else if 88 ≤ cx p ∧ cx p ≤ 90 then (if std env (cx p - 88) false = true then .inr (.leaf (cx p - 88 + 1).toNat, p + 1, k + 1) else .inl p)
    else if 97 ≤ cx p ∧ cx p ≤ 100 then
      (if md = true then
        (if cx (p + 1) ≠ 33 ∧ cx (p + 1) ≠ 63 then .inl (p + 1) else if cx (p + 2) ≠ 123 then .inl (p + 2)
         else match pr cx md f true (3 :: env) (p + 3) (k + 1) (fun _ => false) with
          | .inl e => .inl e
          | .inr (bs, p', k') => .inr (.branch (3 + (cx p - 97) + 4 * (if cx (p + 1) = 33 then 0 else 1)).toNat bs (.leaf 0), p', k'))
       else
        (if cx (p + 1) ≠ 62 then .inl (p + 1) else if cx (p + 2) = cx p ∨ cx (p + 2) < 97 ∨ 100 < cx (p + 2) then .inl (p + 2) else if cx (p + 3) ≠ 123 then .inl (p + 3)
         else match pr cx md f true (3 :: env) (p + 4) (k + 1) (fun _ => false) with
          | .inl e => .inl e
          | .inr (bs, p', k') => .inr (.branch (3 + (cx p - 97) + 4 * (cx (p + 2) - 97)).toNat bs (.leaf 0), p', k')))
    else .inl p := rfl
theorem pr_B (cx : Int → Int) (md : Bool) (f : Nat) (env : List Int) (p k : Int) (bef : Int → Bool) : pr cx md (f + 1) true env p k bef =
    if cx p < 102 ∨ 107 < cx p ∨ bef (cx p - 102) = true then .inl p
    else if cx (p + 1) < 48 ∨ 50 < cx (p + 1) then .inl (p + 1)
    else if cx (p + 2) ≠ 58 then .inl (p + 2)
    else match pr cx md f false env (p + 3) k (fun _ => false) with
      | .inl e => .inl e
      | .inr (τ, p1, k1) =>
        if cx p1 = 44 then (match pr cx md f true env (p1 + 1) k1 (fun x => decide (x = cx p - 102) || bef x) with
          | .inl e => .inl e
          | .inr (bs, p2, k2) => .inr (.branch (3 * (cx p - 102) + (cx (p + 1) - 48)).toNat τ bs, p2, k2))
        else if cx p1 = 125 then .inr (.branch (3 * (cx p - 102) + (cx (p + 1) - 48)).toNat τ (.leaf 0), p1 + 1, k1)
        else .inl p1 := rfl
theorem pr_ok (cx : Int → Int) (md : Bool) : ∀ (f : Nat) (env : List Int) (p k : Int) (bef : Int → Bool), 0 ≤ k → k ≤ 30 →
    (∀ τ p' k', pr cx md f false env p k bef = .inr (τ, p', k') → k' = k + szT τ ∧ p' = p + chT md τ ∧ (wfP τ).1 ∧ k' ≤ 30) ∧
    (∀ bs p' k', pr cx md f true env p k bef = .inr (bs, p', k') → k' = k + szB bs ∧ p' = p + chB md bs ∧ (wfP bs).2 ∧ lenB bs ≠ 0 ∧ (∀ x, bef x = true → hasL bs x = false) ∧ k' ≤ 30) := by
  intro f
  induction f with
  | zero =>
    intro env p k bef k0 k1
    exact ⟨fun τ p' k' h => by simp [pr] at h, fun τ p' k' h => by simp [pr] at h⟩
  | succ f ih =>
    intro env p k bef k0 k1
    constructor
    · intro τ p' k' h
      rw [pr_T] at h
      split at h
      · cases h
      rename_i hk30
      split at h
      · cases h; exact ⟨rfl, rfl, by rw [wfT_leaf]; omega, by omega⟩
      split at h
      · split at h
        · cases h
        split at h
        · cases h
        rename_i hv _
        split at h
        · cases h
        · rename_i τ1 p1 k2 hr
          cases h
          obtain ⟨i1, i2, i3, i4⟩ := (ih _ _ _ _ (by omega) (by omega)).1 _ _ _ hr
          have h3 : (cx (p + 1) - 88).toNat < 3 := by omega
          refine ⟨by rw [szT_br, if_pos h3]; omega, by rw [chT_br, if_pos h3]; omega, by rw [wfT_br, if_pos h3]; exact i3, i4⟩
      split at h
      · split at h
        · cases h; exact ⟨rfl, rfl, by rw [wfT_leaf]; omega, by omega⟩
        · cases h
      split at h
      · rename_i hc
        split at h
        · rename_i hmd
          split at h
          · cases h
          split at h
          · cases h
          split at h
          · cases h
          · rename_i bs p1 k2 hr
            cases h
            obtain ⟨i1, i2, i3, i4, i5, i6⟩ := (ih _ _ _ _ (by omega) (by omega)).2 _ _ _ hr
            have hb : (if cx (p + 1) = 33 then (0 : Int) else 1) = 0 ∨ (if cx (p + 1) = 33 then (0 : Int) else 1) = 1 := by split; exact Or.inl rfl; exact Or.inr rfl
            have h3 : ¬ (3 + (cx p - 97) + 4 * (if cx (p + 1) = 33 then (0 : Int) else 1)).toNat < 3 := by omega
            refine ⟨by rw [szT_br, if_neg h3]; omega, by rw [chT_br, if_neg h3, if_pos hmd]; omega, by rw [wfT_br, if_neg h3]; exact ⟨by omega, i3, i4⟩, i6⟩
        · rename_i hmd
          split at h
          · cases h
          split at h
          · cases h
          split at h
          · cases h
          rename_i hto _
          split at h
          · cases h
          · rename_i bs p1 k2 hr
            cases h
            obtain ⟨i1, i2, i3, i4, i5, i6⟩ := (ih _ _ _ _ (by omega) (by omega)).2 _ _ _ hr
            have h3 : ¬ (3 + (cx p - 97) + 4 * (cx (p + 2) - 97)).toNat < 3 := by omega
            refine ⟨by rw [szT_br, if_neg h3]; omega, by rw [chT_br, if_neg h3, if_neg hmd]; omega, by rw [wfT_br, if_neg h3]; exact ⟨by omega, i3, i4⟩, i6⟩
      · cases h
    · intro bs p' k' h
      rw [pr_B] at h
      split at h
      · cases h
      rename_i hl
      split at h
      · cases h
      rename_i hs
      split at h
      · cases h
      split at h
      · cases h
      · rename_i τ p1 k2 hr
        obtain ⟨i1, i2, i3, i4⟩ := (ih _ _ _ _ k0 k1).1 _ _ _ hr
        have hd : (3 * (cx p - 102) + (cx (p + 1) - 48)).toNat / 3 = (cx p - 102).toNat := by omega
        have hd2 : (((3 * (cx p - 102) + (cx (p + 1) - 48)).toNat / 3 : Nat) : Int) = cx p - 102 := by omega
        split at h
        · split at h
          · cases h
          · rename_i bs2 p2 k3 hr2
            cases h
            obtain ⟨j1, j2, j3, j4, j5, j6⟩ := (ih _ _ _ _ (by omega) i4).2 _ _ _ hr2
            refine ⟨by rw [szB_br]; omega, by rw [chB_br]; omega, by rw [wfB_br]; exact ⟨by omega, by rw [hd2]; exact j5 _ (by simp), i3, j3⟩, by show 1 + _ ≠ 0; omega, fun x hx => ?_, j6⟩
            rw [hasL_br, hd2]
            have h1 := j5 x (by simp [hx])
            rw [h1, Bool.or_false, decide_eq_false_iff_not]
            intro e
            rw [← e] at hx
            exact hl (Or.inr (Or.inr hx))
        · split at h
          · cases h
            refine ⟨by rw [szB_br, szB_leaf]; omega, by rw [chB_br, chB_leaf]; omega, by rw [wfB_br]; exact ⟨by omega, rfl, i3, trivial⟩, by show 1 + _ ≠ 0; omega, fun x hx => ?_, i4⟩
            rw [hasL_br, hd2]
            show (_ || false) = false
            rw [Bool.or_false, decide_eq_false_iff_not]
            intro e
            rw [← e] at hx
            exact hl (Or.inr (Or.inr hx))
          · cases h

/-! PURE: local types in the table, anywhere; merging -/
/-- the local type τ at place n; a list of branches of place m, from its i-th label on -/
def tR (A : Nat → Int → Int) : Tr → (Int → Prop) × (Int → Int → Prop)
  | .leaf k => (fun n => A 107 n = 0 ∧ (k = 0 → A 105 n = 0) ∧ (k ≠ 0 → A 105 n = 1 ∧ A 106 n = (k : Int) - 1), fun m i => A 107 m = i)
  | .branch k l r => (fun n => if k < 3 then A 105 n = 2 ∧ A 106 n = k ∧ (tR A l).1 (A 110 (6 * n))
      else (A 105 n = 3 + ((k - 3) / 4 : Nat) ∧ A 106 n = ((k - 3) % 4 : Nat)) ∧ (tR A l).2 n 0 ∧ ∀ x, 0 ≤ x → x < 6 → hasL l x = false → A 108 (6 * n + x) = 0,
    fun m i => A 108 (6 * m + (k / 3 : Nat)) = i + 1 ∧ A 109 (6 * m + (k / 3 : Nat)) = (k % 3 : Nat) ∧ (tR A l).1 (A 110 (6 * m + (k / 3 : Nat))) ∧ (tR A r).2 m (i + 1))
/-- how often x is a place of it -/
def ct (A : Nat → Int → Int) : Tr → (Int → Int → Nat) × (Int → Int → Nat)
  | .leaf _ => (fun n x => if x = n then 1 else 0, fun _ _ => 0)
  | .branch k l r => (fun n x => (if x = n then 1 else 0) + (if k < 3 then (ct A l).1 (A 110 (6 * n)) x else (ct A l).2 n x), fun m x => (ct A l).1 (A 110 (6 * m + (k / 3 : Nat))) x + (ct A r).2 m x)
theorem tR_lf (A : Nat → Int → Int) (k : Nat) (n : Int) : (tR A (.leaf k)).1 n = (A 107 n = 0 ∧ (k = 0 → A 105 n = 0) ∧ (k ≠ 0 → A 105 n = 1 ∧ A 106 n = (k : Int) - 1)) := rfl
theorem tR_lfB (A : Nat → Int → Int) (k : Nat) (m i : Int) : (tR A (.leaf k)).2 m i = (A 107 m = i) := rfl
theorem tR_br (A : Nat → Int → Int) (k : Nat) (l r : Tr) (n : Int) : (tR A (.branch k l r)).1 n = (if k < 3 then A 105 n = 2 ∧ A 106 n = k ∧ (tR A l).1 (A 110 (6 * n))
      else (A 105 n = 3 + ((k - 3) / 4 : Nat) ∧ A 106 n = ((k - 3) % 4 : Nat)) ∧ (tR A l).2 n 0 ∧ ∀ x, 0 ≤ x → x < 6 → hasL l x = false → A 108 (6 * n + x) = 0) := rfl
theorem tR_brB (A : Nat → Int → Int) (k : Nat) (l r : Tr) (m i : Int) : (tR A (.branch k l r)).2 m i = (A 108 (6 * m + (k / 3 : Nat)) = i + 1 ∧ A 109 (6 * m + (k / 3 : Nat)) = (k % 3 : Nat) ∧ (tR A l).1 (A 110 (6 * m + (k / 3 : Nat))) ∧ (tR A r).2 m (i + 1)) := rfl
theorem ct_lf (A : Nat → Int → Int) (k : Nat) (n x : Int) : (ct A (.leaf k)).1 n x = if x = n then 1 else 0 := rfl
theorem ct_lfB (A : Nat → Int → Int) (k : Nat) (n x : Int) : (ct A (.leaf k)).2 n x = 0 := rfl
theorem ct_br (A : Nat → Int → Int) (k : Nat) (l r : Tr) (n x : Int) : (ct A (.branch k l r)).1 n x = (if x = n then 1 else 0) + (if k < 3 then (ct A l).1 (A 110 (6 * n)) x else (ct A l).2 n x) := rfl
theorem ct_brB (A : Nat → Int → Int) (k : Nat) (l r : Tr) (m x : Int) : (ct A (.branch k l r)).2 m x = (ct A l).1 (A 110 (6 * m + (k / 3 : Nat))) x + (ct A r).2 m x := rfl
theorem ct_self (A : Nat → Int → Int) (τ : Tr) (n : Int) : 1 ≤ (ct A τ).1 n n := by
  cases τ with
  | leaf k => rw [ct_lf, if_pos rfl]; exact Nat.le_refl 1
  | branch k l r => rw [ct_br, if_pos rfl]; omega
theorem tR_frame (A A' : Nat → Int → Int) (τ : Tr) : (∀ n : Int, (wfP τ).1 → (∀ x, (ct A τ).1 n x ≠ 0 → sameN A A' x) → (tR A τ).1 n → (tR A' τ).1 n ∧ ∀ x, (ct A' τ).1 n x = (ct A τ).1 n x) ∧
    (∀ m i : Int, (wfP τ).2 → (∀ x, (ct A τ).2 m x ≠ 0 → sameN A A' x) → A' 107 m = A 107 m → (∀ l, 0 ≤ l → l < 6 → hasL τ l = true → A' 108 (6 * m + l) = A 108 (6 * m + l) ∧ A' 109 (6 * m + l) = A 109 (6 * m + l) ∧ A' 110 (6 * m + l) = A 110 (6 * m + l)) → (tR A τ).2 m i → (tR A' τ).2 m i ∧ ∀ x, (ct A' τ).2 m x = (ct A τ).2 m x) := by
  induction τ with
  | leaf k =>
    refine ⟨fun n _ hs h => ⟨?_, fun x => rfl⟩, fun m i _ _ h7 _ h => ⟨?_, fun x => rfl⟩⟩
    · obtain ⟨e1, e2, e3, -⟩ := hs n (by rw [ct_lf, if_pos rfl]; decide)
      rw [tR_lf] at h ⊢
      rw [e1, e2, e3]; exact h
    · rw [tR_lfB] at h ⊢
      rw [h7]; exact h
  | branch k l r ihl ihr =>
    refine ⟨fun n hw hs h => ?_, fun m i hw hs h7 hm h => ?_⟩
    · obtain ⟨e1, e2, e3, e4⟩ := hs n (by rw [ct_br, if_pos rfl]; omega)
      rw [wfT_br] at hw
      rw [tR_br] at h ⊢
      by_cases hk : k < 3
      · rw [if_pos hk] at h hw ⊢
        have e5 := (e4 0 (by omega) (by omega)).2.2
        rw [Int.add_zero] at e5
        rw [e1, e2, e5]
        obtain ⟨i1, i2⟩ := ihl.1 (A 110 (6 * n)) hw (fun x h1 => hs x (by rw [ct_br, if_pos hk]; omega)) h.2.2
        refine ⟨⟨h.1, h.2.1, i1⟩, fun x => ?_⟩
        rw [ct_br, ct_br, if_pos hk, if_pos hk, e5, i2 x]
      · rw [if_neg hk] at h hw ⊢
        obtain ⟨i1, i2⟩ := ihl.2 n 0 hw.2.1 (fun x h1 => hs x (by rw [ct_br, if_neg hk]; omega)) e3 (fun x h1 h2 _ => e4 x h1 h2) h.2.1
        rw [e1, e2]
        refine ⟨⟨h.1, i1, fun x h1 h2 h3 => ?_⟩, fun x => ?_⟩
        · rw [(e4 x h1 h2).1]; exact h.2.2 x h1 h2 h3
        · rw [ct_br, ct_br, if_neg hk, if_neg hk, i2 x]
    · rw [wfB_br] at hw
      rw [tR_brB] at h ⊢
      obtain ⟨w1, w2, w3, w4⟩ := hw
      obtain ⟨e1, e2, e3⟩ := hm (k / 3 : Nat) (by omega) (by omega) (by simp [hasL])
      rw [e1, e2, e3]
      obtain ⟨i1, i2⟩ := ihl.1 _ w3 (fun x h1 => hs x (by rw [ct_brB]; omega)) h.2.2.1
      obtain ⟨j1, j2⟩ := ihr.2 m (i + 1) w4 (fun x h1 => hs x (by rw [ct_brB]; omega)) h7 (fun x h1 h2 h3 => hm x h1 h2 (by simp [hasL, h3])) h.2.2.2
      refine ⟨⟨h.1, h.2.1, i1, j1⟩, fun x => ?_⟩
      rw [ct_brB, ct_brB, e3, i2 x, j2 x]
/-- a type that was read is a type in the table -/
theorem tG_tR (A : Nat → Int → Int) (τ : Tr) : (∀ n : Int, (tG A true τ).1 n → (tR A τ).1 n ∧ ∀ x, (ct A τ).1 n x = if n ≤ x ∧ x < n + szT τ then 1 else 0) ∧
    (∀ m i n : Int, (tG A true τ).2 m i n → (tR A τ).2 m i ∧ ∀ x, (ct A τ).2 m x = if n ≤ x ∧ x < n + szB τ then 1 else 0) := by
  induction τ with
  | leaf k =>
    refine ⟨fun n h => ⟨⟨h.1.1, h.2⟩, fun x => ?_⟩, fun m i n h => ⟨h, fun x => ?_⟩⟩
    · rw [ct_lf, szT_leaf]
      by_cases e : x = n
      · rw [if_pos e, if_pos (by omega)]
      · rw [if_neg e, if_neg (by omega)]
    · rw [ct_lfB, szB_leaf, if_neg (by omega)]
  | branch k l r ihl ihr =>
    refine ⟨fun n h => ?_, fun m i n h => ?_⟩
    · simp only [tG] at h
      rw [tR_br]
      by_cases hk : k < 3
      · rw [if_pos hk] at h ⊢
        obtain ⟨i1, i2⟩ := ihl.1 _ h.2.2.2
        rw [← h.2.2.1] at i1
        refine ⟨⟨h.1, h.2.1, i1⟩, fun x => ?_⟩
        rw [ct_br, if_pos hk, h.2.2.1, i2, szT_br, if_pos hk]
        by_cases e : x = n
        · rw [if_pos e, if_neg (by omega), if_pos (by omega)]
        · rw [if_neg e]
          by_cases e2 : n + 1 ≤ x ∧ x < n + 1 + szT l
          · rw [if_pos e2, if_pos (by omega)]
          · rw [if_neg e2, if_neg (by omega)]
      · rw [if_neg hk, if_pos trivial] at h
        rw [if_neg hk]
        obtain ⟨i1, i2⟩ := ihl.2 _ _ _ h.2.1
        refine ⟨⟨h.1, i1, h.2.2⟩, fun x => ?_⟩
        rw [ct_br, if_neg hk, i2, szT_br, if_neg hk]
        by_cases e : x = n
        · rw [if_pos e, if_neg (by omega), if_pos (by omega)]
        · rw [if_neg e]
          by_cases e2 : n + 1 ≤ x ∧ x < n + 1 + szB l
          · rw [if_pos e2, if_pos (by omega)]
          · rw [if_neg e2, if_neg (by omega)]
    · simp only [tG] at h
      rw [tR_brB]
      obtain ⟨h1, h2, h3, h4, h5⟩ := h
      obtain ⟨i1, i2⟩ := ihl.1 _ h4
      obtain ⟨j1, j2⟩ := ihr.2 _ _ _ h5
      rw [← h3] at i1
      refine ⟨⟨h1, h2, i1, j1⟩, fun x => ?_⟩
      rw [ct_brB, h3, i2, j2, szB_br]
      by_cases e1 : n ≤ x ∧ x < n + szT l
      · rw [if_pos e1, if_neg (by omega), if_pos (by omega)]
      · rw [if_neg e1]
        by_cases e2 : n + szT l ≤ x ∧ x < n + szT l + szB r
        · rw [if_pos e2, if_pos (by omega)]
        · rw [if_neg e2, if_neg (by omega)]
/-! merging -/
def fdL : Tr → Nat → Option (Nat × Tr)
  | .leaf _, _ => none
  | .branch k τ r, x => if k / 3 = x then some (k, τ) else fdL r x
def apL : Tr → Tr → Tr
  | .leaf _, b => b
  | .branch k τ r, b => .branch k τ (apL r b)
def flt (a : Tr) : Tr → Tr
  | .leaf _ => .leaf 0
  | .branch k τ r => if hasL a (k / 3 : Nat) = true then flt a r else .branch k τ (flt a r)
/-- the merged type; the merged branches of the first of two lists (s: of a sender) -/
def mg : Tr → (Tr → Option Tr) × (Bool → Tr → Option Tr)
  | .leaf k => (fun t => match t with | .leaf k' => if k = k' then some (.leaf k) else none | .branch _ _ _ => none, fun _ _ => some (.leaf 0))
  | .branch k l r => (fun t => match t with
       | .leaf _ => none
       | .branch k' l' _ => if k ≠ k' then none else if k < 3 then ((mg l).1 l').map (fun x => .branch k x (.leaf 0)) else if k < 7 ∧ lenB l ≠ lenB l' then none else ((mg l).2 (decide (k < 7)) l').map (fun x => .branch k (apL x (flt l l')) (.leaf 0)),
      fun s bs => match fdL bs (k / 3) with
       | none => if s = true then none else ((mg r).2 s bs).map (fun x => .branch k l x)
       | some (k', τ') => if k' % 3 ≠ k % 3 then none else match (mg l).1 τ' with | none => none | some m => ((mg r).2 s bs).map (fun x => .branch k m x))
/-- one step of it: what is to be merged then -/
def o1B (s : Bool) (bs : Tr) : Tr → Option (List (Tr × Tr))
  | .leaf _ => some []
  | .branch k l r => match fdL bs (k / 3) with
       | none => if s = true then none else o1B s bs r
       | some (k', τ') => if k' % 3 ≠ k % 3 then none else (o1B s bs r).map (fun x => (l, τ') :: x)
def o1 (a b : Tr) : Option (List (Tr × Tr)) := match a, b with
  | .leaf k, .leaf k' => if k = k' then some [] else none
  | .branch k l _, .branch k' l' _ => if k ≠ k' then none else if k < 3 then some [(l, l')] else if k < 7 ∧ lenB l ≠ lenB l' then none else o1B (decide (k < 7)) l' l
  | _, _ => none
theorem mg_lf (k : Nat) (t : Tr) : (mg (.leaf k)).1 t = match t with | .leaf k' => if k = k' then some (.leaf k) else none | .branch _ _ _ => none := rfl
theorem mg_br (k k' : Nat) (l r l' r' : Tr) : (mg (.branch k l r)).1 (.branch k' l' r') = if k ≠ k' then none else if k < 3 then ((mg l).1 l').map (fun x => .branch k x (.leaf 0)) else if k < 7 ∧ lenB l ≠ lenB l' then none else ((mg l).2 (decide (k < 7)) l').map (fun x => .branch k (apL x (flt l l')) (.leaf 0)) := rfl
theorem mg_brlf (k k' : Nat) (l r : Tr) : (mg (.branch k l r)).1 (.leaf k') = none := rfl
theorem mg_lfB (k : Nat) (s : Bool) (bs : Tr) : (mg (.leaf k)).2 s bs = some (.leaf 0) := rfl
theorem mg_brB (k : Nat) (l r : Tr) (s : Bool) (bs : Tr) : (mg (.branch k l r)).2 s bs = match fdL bs (k / 3) with
       | none => if s = true then none else ((mg r).2 s bs).map (fun x => .branch k l x)
       | some (k', τ') => if k' % 3 ≠ k % 3 then none else match (mg l).1 τ' with | none => none | some m => ((mg r).2 s bs).map (fun x => .branch k m x) := rfl
theorem o1B_br (s : Bool) (bs : Tr) (k : Nat) (l r : Tr) : o1B s bs (.branch k l r) = match fdL bs (k / 3) with
       | none => if s = true then none else o1B s bs r
       | some (k', τ') => if k' % 3 ≠ k % 3 then none else (o1B s bs r).map (fun x => (l, τ') :: x) := rfl
theorem o1_br (k k' : Nat) (l r l' r' : Tr) : o1 (.branch k l r) (.branch k' l' r') = if k ≠ k' then none else if k < 3 then some [(l, l')] else if k < 7 ∧ lenB l ≠ lenB l' then none else o1B (decide (k < 7)) l' l := rfl
theorem fdL_br (k : Nat) (τ r : Tr) (x : Nat) : fdL (.branch k τ r) x = if k / 3 = x then some (k, τ) else fdL r x := rfl
theorem flt_br (a : Tr) (k : Nat) (τ r : Tr) : flt a (.branch k τ r) = if hasL a (k / 3 : Nat) = true then flt a r else .branch k τ (flt a r) := rfl
theorem apL_br (k : Nat) (τ r b : Tr) : apL (.branch k τ r) b = .branch k τ (apL r b) := rfl
theorem hasL_lf (k : Nat) (x : Int) : hasL (.leaf k) x = false := rfl
theorem fdL_has : ∀ (bs : Tr) (x : Nat), (fdL bs x).isSome = hasL bs (x : Int)
  | .leaf _, _ => rfl
  | .branch k τ r, x => by
    rw [fdL_br, hasL_br]
    by_cases e : k / 3 = x
    · rw [if_pos e]; simp; left; omega
    · rw [if_neg e, fdL_has r x]
      rw [decide_eq_false (by omega), Bool.false_or]
/-- merging fails if the step fails or what is to be merged then fails -/
theorem mgB_o1 (s : Bool) (bs : Tr) : ∀ a : Tr, ((mg a).2 s bs = none ↔ o1B s bs a = none ∨ ∃ subs, o1B s bs a = some subs ∧ ∃ p ∈ subs, (mg p.1).1 p.2 = none)
  | .leaf k => by
    rw [mg_lfB]
    simp [o1B]
  | .branch k l r => by
    have ih := mgB_o1 s bs r
    rw [mg_brB, o1B_br]
    cases hf : fdL bs (k / 3) with
    | none =>
      dsimp only
      by_cases hs : s = true
      · rw [if_pos hs, if_pos hs]; simp
      · rw [if_neg hs, if_neg hs, Option.map_eq_none_iff]; exact ih
    | some q =>
      obtain ⟨k', τ'⟩ := q
      dsimp only
      by_cases hk : k' % 3 ≠ k % 3
      · rw [if_pos hk, if_pos hk]; simp
      · rw [if_neg hk, if_neg hk]
        cases hm : (mg l).1 τ' with
        | none =>
          refine ⟨fun _ => ?_, fun _ => rfl⟩
          cases ho : o1B s bs r with
          | none => left; rfl
          | some subs => right; exact ⟨_, rfl, (l, τ'), by simp, hm⟩
        | some m =>
          dsimp only
          rw [Option.map_eq_none_iff, ih]
          cases ho : o1B s bs r with
          | none => simp
          | some subs =>
            simp only [Option.map_some]
            constructor
            · rintro (h | ⟨subs', h1, p, h2, h3⟩)
              · cases h
              · cases h1
                exact Or.inr ⟨_, rfl, p, by simp [h2], h3⟩
            · rintro (h | ⟨subs', h1, p, h2, h3⟩)
              · cases h
              · cases h1
                simp only [List.mem_cons] at h2
                rcases h2 with rfl | h2
                · rw [hm] at h3; cases h3
                · exact Or.inr ⟨_, rfl, p, h2, h3⟩
theorem mg_o1 (a b : Tr) : ((mg a).1 b = none ↔ o1 a b = none ∨ ∃ subs, o1 a b = some subs ∧ ∃ p ∈ subs, (mg p.1).1 p.2 = none) := by
  cases a with
  | leaf k =>
    cases b with
    | leaf k' =>
      show (if k = k' then _ else _) = none ↔ (if k = k' then _ else _) = none ∨ _
      unfold o1
      by_cases e : k = k'
      · rw [if_pos e, if_pos e]; simp
      · rw [if_neg e, if_neg e]; simp
    | branch k' l' r' => simp [mg_lf, o1]
  | branch k l r =>
    cases b with
    | leaf k' => simp [mg_brlf, o1]
    | branch k' l' r' =>
      rw [mg_br, o1_br]
      by_cases e : k ≠ k'
      · rw [if_pos e, if_pos e]; simp
      rw [if_neg e, if_neg e]
      by_cases h3 : k < 3
      · rw [if_pos h3, if_pos h3, Option.map_eq_none_iff]
        refine ⟨fun h => Or.inr ⟨_, rfl, (l, l'), by simp, h⟩, fun h => ?_⟩
        rcases h with h | ⟨subs, h1, p, h2, h4⟩
        · cases h
        · cases h1
          simp only [List.mem_singleton] at h2
          subst h2
          exact h4
      rw [if_neg h3, if_neg h3]
      by_cases h7 : k < 7 ∧ lenB l ≠ lenB l'
      · rw [if_pos h7, if_pos h7]; simp
      rw [if_neg h7, if_neg h7, Option.map_eq_none_iff]
      exact mgB_o1 _ l' l

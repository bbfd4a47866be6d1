/-! PURE: types as binary trees over an existing inductive type, the reader's law -/
abbrev Tr : Type := Lean.RArray Nat
/-- nodes of a type, nodes of a list of branches -/
def szP : Tr → Nat × Nat
  | .leaf _ => (1, 0)
  | .branch k l r => (1 + (if k < 3 then (szP l).1 else (szP l).2), (szP l).1 + (szP r).2)
def szT (τ : Tr) : Nat := (szP τ).1
def szB (τ : Tr) : Nat := (szP τ).2
theorem szT_leaf (k : Nat) : szT (.leaf k) = 1 := rfl
theorem szB_leaf (k : Nat) : szB (.leaf k) = 0 := rfl
theorem szT_br (k : Nat) (l r : Tr) : szT (.branch k l r) = 1 + (if k < 3 then szT l else szB l) := rfl
theorem szB_br (k : Nat) (l r : Tr) : szB (.branch k l r) = szT l + szB r := rfl
theorem szT_pos (τ : Tr) : 1 ≤ szT τ := by
  cases τ with
  | leaf k => exact Nat.le_refl 1
  | branch k l r => rw [szT_br]; omega
/-- letters of a type's text (md: a local one), of a list of branches with its closing bracket -/
def chP (md : Bool) : Tr → Nat × Nat
  | .leaf _ => (1, 0)
  | .branch k l r => (if k < 3 then 3 + (chP md l).1 else (if md then 3 else 4) + (chP md l).2, 4 + (chP md l).1 + (chP md r).2)
def chT (md : Bool) (τ : Tr) : Nat := (chP md τ).1
def chB (md : Bool) (τ : Tr) : Nat := (chP md τ).2
/-- a label of the list -/
def hasL : Tr → Int → Bool
  | .leaf _, _ => false
  | .branch k _ r, x => decide (((k / 3 : Nat) : Int) = x) || hasL r x
def lenB : Tr → Nat
  | .leaf _ => 0
  | .branch _ _ r => 1 + lenB r
/-- env: what is open, innermost first: 0 .. 2 a loop of that variable, 3 a message -/
def std : List Int → Int → Bool → Bool
  | [], _, _ => false
  | e :: r, v, m => if e = 3 then std r v true else if e = v then m else std r v m
/-- the reader: fuel, of a type (false) or of branches (true); env, place, types so far, labels before -/
def pr (cx : Int → Int) (md : Bool) : Nat → Bool → List Int → Int → Int → (Int → Bool) → Int ⊕ (Tr × Int × Int)
  | 0, _, _, p, _, _ => .inl p
  | f + 1, false, env, p, k, _ =>
    if k = 30 then .inl p
    else if cx p = 101 then .inr (.leaf 0, p + 1, k + 1)
    else if cx p = 109 then
      (if cx (p + 1) < 88 ∨ 90 < cx (p + 1) then .inl (p + 1) else if cx (p + 2) ≠ 46 then .inl (p + 2)
       else match pr cx md f false ((cx (p + 1) - 88) :: env) (p + 3) (k + 1) (fun _ => false) with
        | .inl e => .inl e
        | .inr (τ, p', k') => .inr (.branch (cx (p + 1) - 88).toNat τ (.leaf 0), p', k'))
    else if 88 ≤ cx p ∧ cx p ≤ 90 then (if std env (cx p - 88) false = true then .inr (.leaf (cx p - 88 + 1).toNat, p + 1, k + 1) else .inl p)
    else if 97 ≤ cx p ∧ cx p ≤ 100 then
      (if md = true then
        (if cx (p + 1) ≠ 33 ∧ cx (p + 1) ≠ 63 then .inl (p + 1) else if cx (p + 2) ≠ 123 then .inl (p + 2)
         else match pr cx md f true (3 :: env) (p + 3) (k + 1) (fun _ => false) with
          | .inl e => .inl e
          | .inr (bs, p', k') => .inr (.branch (3 + (cx p - 97) + 4 * (if cx (p + 1) = 33 then 0 else 1)).toNat bs (.leaf 0), p', k'))
       else
        (if cx (p + 1) ≠ 62 then .inl (p + 1) else if cx (p + 2) = cx p ∨ cx (p + 2) < 97 ∨ 100 < cx (p + 2) then .inl (p + 2) else if cx (p + 3) ≠ 123 then .inl (p + 3)
         else match pr cx md f true (3 :: env) (p + 4) (k + 1) (fun _ => false) with
          | .inl e => .inl e
          | .inr (bs, p', k') => .inr (.branch (3 + (cx p - 97) + 4 * (cx (p + 2) - 97)).toNat bs (.leaf 0), p', k')))
    else .inl p
  | f + 1, true, env, p, k, bef =>
    if cx p < 102 ∨ 107 < cx p ∨ bef (cx p - 102) = true then .inl p
    else if cx (p + 1) < 48 ∨ 50 < cx (p + 1) then .inl (p + 1)
    else if cx (p + 2) ≠ 58 then .inl (p + 2)
    else match pr cx md f false env (p + 3) k (fun _ => false) with
      | .inl e => .inl e
      | .inr (τ, p1, k1) =>
        if cx p1 = 44 then (match pr cx md f true env (p1 + 1) k1 (fun x => decide (x = cx p - 102) || bef x) with
          | .inl e => .inl e
          | .inr (bs, p2, k2) => .inr (.branch (3 * (cx p - 102) + (cx (p + 1) - 48)).toNat τ bs, p2, k2))
        else if cx p1 = 125 then .inr (.branch (3 * (cx p - 102) + (cx (p + 1) - 48)).toNat τ (.leaf 0), p1 + 1, k1)
        else .inl p1
/-- the type τ in the table's rows, from place n on, a node before what is below it; a list of branches of node m, from its i-th label on -/
def tG (A : Nat → Int → Int) (md : Bool) : Tr → (Int → Prop) × (Int → Int → Int → Prop)
  | .leaf k => (fun n => (A 107 n = 0 ∧ ∀ x, 0 ≤ x → x < 6 → A 108 (6 * n + x) = 0) ∧ (k = 0 → A 105 n = 0) ∧ (k ≠ 0 → A 105 n = 1 ∧ A 106 n = (k : Int) - 1), fun m i _ => A 107 m = i)
  | .branch k l r => (fun n => if k < 3 then A 105 n = 2 ∧ A 106 n = k ∧ A 110 (6 * n) = n + 1 ∧ (tG A md l).1 (n + 1)
      else (if md = true then A 105 n = 3 + ((k - 3) / 4 : Nat) ∧ A 106 n = ((k - 3) % 4 : Nat) else A 105 n = 5 ∧ A 106 n = ((k - 3 : Nat) : Int)) ∧ (tG A md l).2 n 0 (n + 1) ∧ ∀ x, 0 ≤ x → x < 6 → hasL l x = false → A 108 (6 * n + x) = 0,
    fun m i n => A 108 (6 * m + (k / 3 : Nat)) = i + 1 ∧ A 109 (6 * m + (k / 3 : Nat)) = (k % 3 : Nat) ∧ A 110 (6 * m + (k / 3 : Nat)) = n ∧ (tG A md l).1 n ∧ (tG A md r).2 m (i + 1) (n + szT l))
/-- rows of a node -/
def sameN (A A' : Nat → Int → Int) (x : Int) : Prop := A' 105 x = A 105 x ∧ A' 106 x = A 106 x ∧ A' 107 x = A 107 x ∧ ∀ l, 0 ≤ l → l < 6 → A' 108 (6 * x + l) = A 108 (6 * x + l) ∧ A' 109 (6 * x + l) = A 109 (6 * x + l) ∧ A' 110 (6 * x + l) = A 110 (6 * x + l)
/-- labels of a list are small -/
def okL : Tr → Bool
  | .leaf _ => true
  | .branch k _ r => decide (k / 3 < 6) && okL r
/-- a well-made type, a well-made list -/
def wfP : Tr → Prop × Prop
  | .leaf k => (k ≤ 3, True)
  | .branch k l r => (if k < 3 then (wfP l).1 else k < 19 ∧ (wfP l).2 ∧ lenB l ≠ 0, k / 3 < 6 ∧ hasL r (k / 3 : Nat) = false ∧ (wfP l).1 ∧ (wfP r).2)
theorem tG_frame (A A' : Nat → Int → Int) (md : Bool) (τ : Tr) : (∀ n : Int, (wfP τ).1 → (∀ x : Int, n ≤ x → x < n + szT τ → sameN A A' x) → (tG A md τ).1 n → (tG A' md τ).1 n) ∧
    (∀ m i n : Int, (wfP τ).2 → (∀ x : Int, n ≤ x → x < n + szB τ → sameN A A' x) → A' 107 m = A 107 m → (∀ l, 0 ≤ l → l < 6 → hasL τ l = true → A' 108 (6 * m + l) = A 108 (6 * m + l) ∧ A' 109 (6 * m + l) = A 109 (6 * m + l) ∧ A' 110 (6 * m + l) = A 110 (6 * m + l)) → (tG A md τ).2 m i n → (tG A' md τ).2 m i n) := by
  induction τ with
  | leaf k =>
    refine ⟨fun n _ hs h => ?_, fun m i n _ _ h7 _ h => ?_⟩
    · obtain ⟨e1, e2, e3, e4⟩ := hs n (by omega) (by rw [szT_leaf]; omega)
      simp only [tG] at h ⊢
      rw [e1, e2, e3]; exact ⟨⟨h.1.1, fun x x0 x1 => ((e4 x x0 x1).1).trans (h.1.2 x x0 x1)⟩, h.2⟩
    · simp only [tG] at h ⊢
      rw [h7]; exact h
  | branch k l r ihl ihr =>
    refine ⟨fun n hw hs h => ?_, fun m i n hw hs h7 hm h => ?_⟩
    · obtain ⟨e1, e2, e3, e4⟩ := hs n (by omega) (by rw [szT_br]; omega)
      rw [szT_br] at hs
      simp only [tG, wfP] at h hw ⊢
      by_cases hk : k < 3
      · rw [if_pos hk] at h hw hs ⊢
        have e5 := (e4 0 (by omega) (by omega)).2.2
        rw [Int.add_zero] at e5
        rw [e1, e2, e5]
        exact ⟨h.1, h.2.1, h.2.2.1, ihl.1 (n + 1) hw (fun x h1 h2 => hs x (by omega) (by omega)) h.2.2.2⟩
      · rw [if_neg hk] at h hw hs ⊢
        rw [e1, e2]
        refine ⟨h.1, ihl.2 n 0 (n + 1) hw.2.1 (fun x h1 h2 => hs x (by omega) (by omega)) e3 (fun x h1 h2 _ => e4 x h1 h2) h.2.1, fun x h1 h2 h3 => ?_⟩
        rw [(e4 x h1 h2).1]; exact h.2.2 x h1 h2 h3
    · rw [szB_br] at hs
      simp only [tG, wfP] at h hw ⊢
      obtain ⟨w1, w2, w3, w4⟩ := hw
      obtain ⟨e1, e2, e3⟩ := hm (k / 3 : Nat) (by omega) (by omega) (by simp [hasL])
      rw [e1, e2, e3]
      refine ⟨h.1, h.2.1, h.2.2.1, ihl.1 n w3 (fun x h1 h2 => hs x h1 (by omega)) h.2.2.2.1, ihr.2 m (i + 1) (n + szT l) w4 (fun x h1 h2 => hs x (by omega) (by omega)) h7 (fun x h1 h2 h3 => hm x h1 h2 ?_) h.2.2.2.2⟩
      simp [hasL, h3]

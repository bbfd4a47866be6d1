/-! the twin: hang -/
/-- what is above a place of a local type -/
def tH (A : Nat → Int → Int) : Tr → (Int → Int → Prop) × (Int → Prop)
  | .leaf _ => (fun n p => A 111 n = p, fun _ => True)
  | .branch k l q => (fun n p => A 111 n = p ∧ (if k < 3 then (tH A l).1 (A 110 (6 * n)) n else (tH A l).2 n), fun m => (tH A l).1 (A 110 (6 * m + (k / 3 : Nat))) m ∧ (tH A q).2 m)
theorem tH_br (A : Nat → Int → Int) (k : Nat) (l q : Tr) (n p : Int) : (tH A (.branch k l q)).1 n p = (A 111 n = p ∧ (if k < 3 then (tH A l).1 (A 110 (6 * n)) n else (tH A l).2 n)) := rfl
theorem tH_brB (A : Nat → Int → Int) (k : Nat) (l q : Tr) (m : Int) : (tH A (.branch k l q)).2 m = ((tH A l).1 (A 110 (6 * m + (k / 3 : Nat))) m ∧ (tH A q).2 m) := rfl
/-- by labels -/
def fW (F : Nat → Tr → Nat) (l : Tr) (y : Nat) : Nat := match fdL l y with | none => 0 | some (k, τ) => F k τ
theorem fW_br (F : Nat → Tr → Nat) (k : Nat) (τ r : Tr) (y : Nat) : fW F (.branch k τ r) y = if k / 3 = y then F k τ else fW F r y := by
  unfold fW
  rw [fdL_br]
  by_cases e : k / 3 = y
  · rw [if_pos e, if_pos e]
  · rw [if_neg e, if_neg e]
theorem fW_no (F : Nat → Tr → Nat) (l : Tr) (y : Nat) (h : hasL l (y : Int) = false) : fW F l y = 0 := by
  have := fdL_has l y
  rw [h] at this
  unfold fW
  cases hf : fdL l y with
  | none => rfl
  | some q => rw [hf] at this; cases this
theorem fW_sum (F : Nat → Tr → Nat) : ∀ l : Tr, (wfP l).2 → fW F l 0 + fW F l 1 + fW F l 2 + fW F l 3 + fW F l 4 + fW F l 5 = wF F l
  | .leaf k, _ => rfl
  | .branch k τ r, hw => by
    rw [wfB_br] at hw
    have ih := fW_sum F r hw.2.2.2
    obtain ⟨h6, h2, -⟩ := hw
    have h0 := fW_no F r (k / 3) h2
    rw [wF_br, fW_br, fW_br, fW_br, fW_br, fW_br, fW_br, ← ih]
    have : k / 3 = 0 ∨ k / 3 = 1 ∨ k / 3 = 2 ∨ k / 3 = 3 ∨ k / 3 = 4 ∨ k / 3 = 5 := by omega
    rcases this with e | e | e | e | e | e <;> rw [e] at h0 ⊢ <;> simp <;> omega
/-- the stack: places of types, the top first -/
def skR (A : Nat → Int → Int) : List (Tr × Int) → Prop
  | [] => True
  | (τ, n) :: r => A 130 r.length = n ∧ (tR A τ).1 n ∧ (wfP τ).1 ∧ skR A r
def skC (A : Nat → Int → Int) : List (Tr × Int) → Int → Nat
  | [], _ => 0
  | (τ, n) :: r, x => (ct A τ).1 n x + skC A r x
def skS : List (Tr × Int) → Nat
  | [] => 0
  | (τ, _) :: r => szT τ + skS r
def skH (A : Nat → Int → Int) : List (Tr × Int × Int) → Prop
  | [] => True
  | (τ, n, p) :: r => (tH A τ).1 n p ∧ skH A r
def frH (A A' : Nat → Int → Int) : Prop := ∀ j i, j ≠ 111 → j ≠ 129 → j ≠ 130 → A' j i = A j i
theorem frH.s {A A' : Nat → Int → Int} (h : frH A A') (x : Int) : sameN A A' x := ⟨h _ _ (by decide) (by decide) (by decide), h _ _ (by decide) (by decide) (by decide), h _ _ (by decide) (by decide) (by decide), fun _ _ _ => ⟨h _ _ (by decide) (by decide) (by decide), h _ _ (by decide) (by decide) (by decide), h _ _ (by decide) (by decide) (by decide)⟩⟩
/-- what is below label y -/
def cf (A : Nat → Int → Int) (n : Int) (y : Nat) : Tr → Option (Tr × Int)
  | .leaf _ => none
  | .branch k l _ => if k < 3 then (if y = 0 then some (l, A 110 (6 * n)) else none) else (fdL l y).map (fun q => (q.2, A 110 (6 * n + (y : Int))))
def chs (A : Nat → Int → Int) (n : Int) (τ : Tr) : Nat → List (Tr × Int)
  | 0 => []
  | y + 1 => (match cf A n y τ with | none => [] | some q => [q]) ++ chs A n τ y
theorem chs_s (A : Nat → Int → Int) (n : Int) (τ : Tr) (y : Nat) : chs A n τ (y + 1) = (match cf A n y τ with | none => [] | some q => [q]) ++ chs A n τ y := rfl
theorem skC_app (A : Nat → Int → Int) : ∀ (l r : List (Tr × Int)) (x : Int), skC A (l ++ r) x = skC A l x + skC A r x
  | [], r, x => by show skC A r x = 0 + _; omega
  | (τ, n) :: l, r, x => by show _ + skC A (l ++ r) x = _ + skC A l x + _; rw [skC_app A l r x]; omega
theorem skS_app : ∀ (l r : List (Tr × Int)), skS (l ++ r) = skS l + skS r
  | [], r => by show skS r = 0 + _; omega
  | (τ, n) :: l, r => by show _ + skS (l ++ r) = _ + skS l + _; rw [skS_app l r]; omega
theorem chs_lf (A : Nat → Int → Int) (n : Int) (k : Nat) : ∀ y, chs A n (.leaf k) y = []
  | 0 => rfl
  | y + 1 => by rw [chs_s, chs_lf A n k y]; rfl
theorem chs_lp (A : Nat → Int → Int) (n : Int) {k : Nat} (h3 : k < 3) (l q : Tr) : ∀ y, chs A n (.branch k l q) (y + 1) = [(l, A 110 (6 * n))]
  | 0 => by
    rw [chs_s]
    show (match (if k < 3 then (if 0 = 0 then some (l, A 110 (6 * n)) else none) else _) with | none => [] | some q => [q]) ++ [] = _
    rw [if_pos h3]; rfl
  | y + 1 => by
    rw [chs_s, chs_lp A n h3 l q y]
    show (match (if k < 3 then (if y + 1 = 0 then some (l, A 110 (6 * n)) else none) else _) with | none => [] | some q => [q]) ++ _ = _
    rw [if_pos h3, if_neg (by omega)]; rfl
theorem chs_w (A : Nat → Int → Int) (n : Int) {k : Nat} (h3 : ¬ k < 3) (l q : Tr) (y : Nat) : (match cf A n y (.branch k l q) with | none => [] | some q => [q]) = match fdL l y with | none => [] | some p => [(p.2, A 110 (6 * n + (y : Int)))] := by
  have e : cf A n y (.branch k l q) = (fdL l y).map (fun q => (q.2, A 110 (6 * n + (y : Int)))) := if_neg h3
  rw [e]
  cases fdL l y <;> rfl
theorem chs_C (A : Nat → Int → Int) (n : Int) {k : Nat} (h3 : ¬ k < 3) (l q : Tr) (x : Int) (hw : (wfP l).2) : skC A (chs A n (.branch k l q) 6) x = (ct A l).2 n x := by
  have e : ∀ y, skC A (match cf A n y (.branch k l q) with | none => [] | some q => [q]) x = fW (fC A n x) l y := fun y => by
    rw [chs_w A n h3]
    unfold fW
    cases hf : fdL l y with
    | none => rfl
    | some p =>
      obtain ⟨k', τ'⟩ := p
      show (ct A τ').1 (A 110 (6 * n + (y : Int))) x + 0 = (ct A τ').1 (A 110 (6 * n + (k' / 3 : Nat))) x
      rw [fdL_lab l y k' τ' hf, Nat.add_zero]
  rw [← fC_w, ← fW_sum _ l hw]
  simp only [chs, skC_app, e]
  show _ + (_ + (_ + (_ + (_ + (_ + 0))))) = _
  omega
theorem chs_S (A : Nat → Int → Int) (n : Int) {k : Nat} (h3 : ¬ k < 3) (l q : Tr) (hw : (wfP l).2) : skS (chs A n (.branch k l q) 6) = szB l := by
  have e : ∀ y, skS (match cf A n y (.branch k l q) with | none => [] | some q => [q]) = fW (fun _ τ => szT τ) l y := fun y => by
    rw [chs_w A n h3]
    unfold fW
    cases hf : fdL l y with
    | none => rfl
    | some p => rfl
  rw [← wF_sz, ← fW_sum _ l hw]
  simp only [chs, skS_app, e]
  show _ + (_ + (_ + (_ + (_ + (_ + 0))))) = _
  omega
/-- all of it, in one -/
theorem chs_all (A : Nat → Int → Int) (n : Int) (τ : Tr) (hw : (wfP τ).1) : (∀ x, (ct A τ).1 n x = (if x = n then 1 else 0) + skC A (chs A n τ 6) x) ∧ skS (chs A n τ 6) + 1 = szT τ := by
  cases τ with
  | leaf k => rw [chs_lf]; exact ⟨fun x => rfl, rfl⟩
  | branch k l q =>
    rw [wfT_br] at hw
    by_cases h3 : k < 3
    · rw [chs_lp A n h3]
      refine ⟨fun x => by rw [ct_br, if_pos h3]; rfl, ?_⟩
      rw [szT_br, if_pos h3]; show szT l + 0 + 1 = _; omega
    · rw [if_neg h3] at hw
      refine ⟨fun x => by rw [ct_br, if_neg h3, chs_C A n h3 l q x hw.2.1], ?_⟩
      rw [szT_br, if_neg h3, chs_S A n h3 l q hw.2.1]; omega


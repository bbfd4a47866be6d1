/-! the states of a type in the twin's rows -/
def nD (A : Nat → Int → Int) (m n s kd pr ct : Int) : Prop := A 129 n = s ∧ A 119 s = n ∧ A 123 (31 * m + s) = kd ∧ A 124 (31 * m + s) = pr ∧ A 125 (31 * m + s) = ct
def nR (A : Nat → Int → Int) (m : Int) : Tr → (Int → Int → Prop) × (Int → Int → Prop)
  | .leaf k => (fun n s => k = 0 → nD A m n s 0 (-1) 0, fun _ _ => True)
  | .branch k l q => (fun n s => if k < 3 then (nR A m l).1 (A 110 (6 * n)) s else nD A m n s (if k < 7 then 1 else 2) ((k - 3) % 4 : Nat) (lenB l) ∧ (nR A m l).2 n (s + 1), fun x s => (nR A m l).1 (A 110 (6 * x + (k / 3 : Nat))) s ∧ (nR A m q).2 x (s + (nS l).1))
theorem nR_br (A : Nat → Int → Int) (m : Int) (k : Nat) (l q : Tr) (n s : Int) : (nR A m (.branch k l q)).1 n s = (if k < 3 then (nR A m l).1 (A 110 (6 * n)) s else nD A m n s (if k < 7 then 1 else 2) ((k - 3) % 4 : Nat) (lenB l) ∧ (nR A m l).2 n (s + 1)) := rfl
theorem nR_brB (A : Nat → Int → Int) (m : Int) (k : Nat) (l q : Tr) (x s : Int) : (nR A m (.branch k l q)).2 x s = ((nR A m l).1 (A 110 (6 * x + (k / 3 : Nat))) s ∧ (nR A m q).2 x (s + (nS l).1)) := rfl
/-- the rows of a state -/
def sameS (A A' : Nat → Int → Int) (m s : Int) : Prop := A' 119 s = A 119 s ∧ A' 123 (31 * m + s) = A 123 (31 * m + s) ∧ A' 124 (31 * m + s) = A 124 (31 * m + s) ∧ A' 125 (31 * m + s) = A 125 (31 * m + s)
theorem nD_fr {A A' : Nat → Int → Int} {m n s kd pr ct : Int} (h1 : A' 129 n = A 129 n) (h2 : sameS A A' m s) (h : nD A m n s kd pr ct) : nD A' m n s kd pr ct := by
  obtain ⟨a, b, c, e⟩ := h2
  unfold nD at h ⊢
  rw [h1, a, b, c, e]; exact h
theorem nR_fr (A A' : Nat → Int → Int) (m : Int) (h10 : ∀ i, A' 110 i = A 110 i) (τ : Tr) : (∀ n s : Int, (∀ x, (ct A τ).1 n x ≠ 0 → A' 129 x = A 129 x) → (∀ i, s ≤ i → i < s + (nS τ).1 → sameS A A' m i) → (nR A m τ).1 n s → (nR A' m τ).1 n s) ∧ (∀ x s : Int, (∀ y, (ct A τ).2 x y ≠ 0 → A' 129 y = A 129 y) → (∀ i, s ≤ i → i < s + (nS τ).2 → sameS A A' m i) → (nR A m τ).2 x s → (nR A' m τ).2 x s) := by
  induction τ with
  | leaf k =>
    refine ⟨fun n s hn hs h hk => nD_fr (hn n (by rw [ct_lf, if_pos rfl]; decide)) (hs s (by omega) ?_) (h hk), fun _ _ _ _ _ => trivial⟩
    show s < s + (((if k = 0 then 1 else 0 : Nat)) : Int)
    rw [if_pos hk]; omega
  | branch k l q ihl ihq =>
    refine ⟨fun n s hn hs h => ?_, fun x s hn hs h => ?_⟩
    · rw [nR_br] at h ⊢
      rw [nS_br] at hs
      by_cases h3 : k < 3
      · rw [if_pos h3] at h hs ⊢
        rw [h10]
        exact ihl.1 _ s (fun x hx => hn x (by rw [ct_br, if_pos h3]; omega)) hs h
      · rw [if_neg h3] at h hs ⊢
        refine ⟨nD_fr (hn n (by rw [ct_br, if_pos rfl]; omega)) (hs s (by omega) (by omega)) h.1, ihl.2 n (s + 1) (fun x hx => hn x (by rw [ct_br, if_neg h3]; omega)) (fun i i0 i1 => hs i (by omega) (by omega)) h.2⟩
    · rw [nR_brB] at h ⊢
      rw [nS_brB] at hs
      rw [h10]
      exact ⟨ihl.1 _ s (fun y hy => hn y (by rw [ct_brB]; omega)) (fun i i0 i1 => hs i i0 (by omega)) h.1, ihq.2 x _ (fun y hy => hn y (by rw [ct_brB]; omega)) (fun i i0 i1 => hs i (by omega) (by omega)) h.2⟩
theorem hn_ue (A : Nat → Int → Int) (k : Nat) (z : Int) : ∀ (τ : Tr) (n : Int) (hb : Nat → Int), hdv τ ≠ k + 1 → hn A τ n (ue hb k z) = hn A τ n hb
  | .leaf j, n, hb, h => by
    show (if j = 0 then n else ue hb k z (j - 1)) = if j = 0 then n else hb (j - 1)
    by_cases e : j = 0
    · rw [if_pos e, if_pos e]
    · rw [if_neg e, if_neg e]
      unfold ue
      rw [if_neg (fun e2 => h (by show j = k + 1; omega))]
  | .branch j l q, n, hb, h => by
    rw [hn_br, hn_br]
    rw [hdv_br] at h
    by_cases h3 : j < 3
    · rw [if_pos h3] at h
      rw [if_pos h3, if_pos h3]
      exact hn_ue A k z l _ hb h
    · rw [if_neg h3, if_neg h3]
theorem hn_var (A : Nat → Int → Int) : ∀ (τ : Tr) (n : Int) (hb : Nat → Int) (v : Nat), hdv τ = v + 1 → v < 3 → hn A τ n hb = hb v
  | .leaf j, n, hb, v, h, _ => by
    replace h : j = v + 1 := h
    show (if j = 0 then n else hb (j - 1)) = hb v
    rw [if_neg (by omega), show j - 1 = v by omega]
  | .branch j l q, n, hb, v, h, hv => by
    rw [hdv_br] at h
    rw [hn_br]
    by_cases h3 : j < 3
    · rw [if_pos h3] at h
      rw [if_pos h3]; exact hn_var A l _ hb v h hv
    · rw [if_neg h3] at h; omega
theorem hn_in (A : Nat → Int → Int) : ∀ (τ : Tr) (n : Int) (hb : Nat → Int), hdv τ = 0 ∨ hdv τ = 100 → (wfP τ).1 → (ct A τ).1 n (hn A τ n hb) ≠ 0
  | .leaf j, n, hb, h, hw => by
    rw [wfT_leaf] at hw
    have e : j = 0 := by
      replace h : j = 0 ∨ j = 100 := h
      omega
    have e1 : hn A (.leaf j) n hb = n := if_pos e
    rw [e1, ct_lf, if_pos rfl]; decide
  | .branch j l q, n, hb, h, hw => by
    rw [hdv_br] at h
    rw [wfT_br] at hw
    rw [hn_br, ct_br]
    by_cases h3 : j < 3
    · rw [if_pos h3] at h hw
      rw [if_pos h3, if_pos h3]
      have := hn_in A l (A 110 (6 * n)) hb h hw
      omega
    · rw [if_neg h3, if_neg h3, if_pos rfl]; omega

/-! where a place of a local type begins -/
def dl : Tr → Nat
  | .leaf _ => 0
  | .branch k l _ => if k < 3 then 1 + dl l else 0
theorem dl_br (k : Nat) (l q : Tr) : dl (.branch k l q) = if k < 3 then 1 + dl l else 0 := rfl
theorem dl_lt : ∀ τ : Tr, dl τ < szT τ
  | .leaf _ => Nat.zero_lt_one
  | .branch k l q => by
    have := dl_lt l
    rw [dl_br, szT_br]
    split <;> omega
/-- the place of the message or the end that it begins with; hb: those of the variables -/
def hn (A : Nat → Int → Int) : Tr → Int → (Nat → Int) → Int
  | .leaf k, n, hb => if k = 0 then n else hb (k - 1)
  | .branch k l _, n, hb => if k < 3 then hn A l (A 110 (6 * n)) hb else n
theorem hn_br (A : Nat → Int → Int) (k : Nat) (l q : Tr) (n : Int) (hb : Nat → Int) : hn A (.branch k l q) n hb = if k < 3 then hn A l (A 110 (6 * n)) hb else n := rfl
theorem tH_p (A : Nat → Int → Int) (τ : Tr) (n p : Int) (h : (tH A τ).1 n p) : A 111 n = p := by
  cases τ with
  | leaf k => exact h
  | branch k l q => rw [tH_br] at h; exact h.1
theorem bg_T (A : Nat → Int → Int) : ∀ (τ : Tr) (n p : Int) (L : List Int) (hb : Nat → Int) (bs : Nat → Bool), (tR A τ).1 n → (wfP τ).1 → (lkP τ).1 → (tH A τ).1 n p → anc A n L → (∀ x, (ct A τ).1 n x ≠ 0 → 0 ≤ x ∧ x < 300) → (gdd τ).1 bs → (∀ v, hdv τ = v + 1 → v < 3 → 0 ≤ bnd A v L ∧ ∃ f, f ≤ 30 ∧ bg A f (bnd A v L) (hb v)) →
    ∃ f, f ≤ dl τ + 31 ∧ bg A f n (hn A τ n hb) ∧ (hdv τ = 0 ∨ hdv τ = 100 → f ≤ dl τ)
  | .leaf k, n, p, L, hb, bs, ht, hw, hlk, hH, hanc, hno, hg, hv => by
    rw [tR_lf] at ht
    rw [wfT_leaf] at hw
    have hnn := hno n (by rw [ct_lf, if_pos rfl]; decide)
    by_cases e : k = 0
    · have e1 : hn A (.leaf k) n hb = n := if_pos e
      have e5 := ht.2.1 e
      exact ⟨0, by omega, by rw [e1]; exact ⟨rfl, by omega, by omega⟩, fun _ => Nat.zero_le _⟩
    · have e1 : hn A (.leaf k) n hb = hb (k - 1) := if_neg e
      obtain ⟨e5, e6⟩ := ht.2.2 e
      obtain ⟨a1, f, a2, a3⟩ := hv (k - 1) (by show k = k - 1 + 1; omega) (by omega)
      have ev : (((k - 1 : Nat)) : Int) = A 106 n := by omega
      rw [ev] at a1 a3
      refine ⟨f + 1, by show f + 1 ≤ 0 + 31; omega, by rw [e1]; exact ⟨hnn, Or.inr ⟨e5, L, hanc, a1, a3⟩⟩, fun h => ?_⟩
      replace h : k = 0 ∨ k = 100 := h
      omega
  | .branch k l q, n, p, L, hb, bs, ht, hw, hlk, hH, hanc, hno, hg, hv => by
    have hnn := hno n (by have := ct_self A (.branch k l q) n; omega)
    rw [tR_br] at ht
    rw [wfT_br] at hw
    rw [lkT_br] at hlk
    rw [tH_br] at hH
    rw [gdd_br] at hg
    rw [hdv_br] at hv ⊢
    rw [dl_br, hn_br]
    by_cases h3 : k < 3
    · rw [if_pos h3] at ht hw hlk hH hg hv
      rw [if_pos h3, if_pos h3, if_pos h3]
      obtain ⟨f, i1, i2, i3⟩ := bg_T A l (A 110 (6 * n)) n (n :: L) hb (ub bs k) ht.2.2 hw hlk hH.2 ⟨tH_p A l _ _ hH.2, hnn.1, hnn.2, hanc⟩ (fun x hx => hno x (by rw [ct_br, if_pos h3]; omega)) hg.2 (fun v e hv3 => by
        obtain ⟨a1, f, a2, a3⟩ := hv v e hv3
        have eb : bnd A v (n :: L) = bnd A v L := by
          show (if A 105 n = 2 ∧ A 106 n = v then n else bnd A v L) = _
          rw [if_neg (fun h => hg.1 (by have := h.2; rw [ht.2.1] at this; omega))]
        rw [eb]
        exact ⟨a1, f, a2, a3⟩)
      exact ⟨f + 1, by omega, ⟨hnn, Or.inl ⟨ht.1, i2⟩⟩, fun h => by have := i3 h; omega⟩
    · rw [if_neg h3] at ht hlk
      rw [if_neg h3, if_neg h3, if_neg h3]
      exact ⟨0, by omega, ⟨rfl, by omega, by omega⟩, fun _ => Nat.le_refl 0⟩
/-- the variable that a type begins with is all that is loose in it -/
theorem hd_ls : ∀ (τ : Tr) (v w : Nat), hdv τ = v + 1 → v < 3 → (lsP τ).1 w = true → w = v
  | .leaf k, v, w, h, _, hl => by
    replace h : k = v + 1 := h
    replace hl : decide (k = w + 1) = true := hl
    rw [decide_eq_true_eq] at hl
    omega
  | .branch k l q, v, w, h, hv, hl => by
    rw [hdv_br] at h
    rw [lsT_br] at hl
    by_cases h3 : k < 3
    · rw [if_pos h3] at h hl
      rw [Bool.and_eq_true] at hl
      exact hd_ls l v w h hv hl.2
    · rw [if_neg h3] at h; omega

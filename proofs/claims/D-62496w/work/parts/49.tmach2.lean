/-! the twin: hang, the walk -/
section TW49
variable {K : xk} {M : xm} {d : Nat} {Q : Outcome → xh → Prop} {A : Nat → Int → Int} {R : Nat → Int → Value} {g : Nat → Nat × List Value} {t u : Nat}
theorem skR_fr {A A' : Nat → Int → Int} (h : ∀ x, sameN A A' x) : ∀ (l : List (Tr × Int)), (∀ i : Int, 0 ≤ i → i < l.length → A' 130 i = A 130 i) → skR A l → skR A' l ∧ ∀ x, skC A' l x = skC A l x
  | [], _, _ => ⟨trivial, fun _ => rfl⟩
  | (τ, n) :: r, hs, hr => by
    obtain ⟨h1, h2, h3, h4⟩ := hr
    obtain ⟨i1, i2⟩ := skR_fr h r (fun i i0 i1 => hs i i0 (by rw [List.length_cons]; omega)) h4
    obtain ⟨j1, j2⟩ := (tR_frame A A' τ).1 n h3 (fun x _ => h x) h2
    refine ⟨⟨by rw [hs _ (by omega) (by rw [List.length_cons]; omega)]; exact h1, j1, h3, i1⟩, fun x => ?_⟩
    show (ct A' τ).1 n x + skC A' r x = (ct A τ).1 n x + skC A r x
    rw [j2, i2]
theorem skR_mem {A : Nat → Int → Int} : ∀ (l : List (Tr × Int)) (q : Tr × Int), q ∈ l → skR A l → (tR A q.1).1 q.2 ∧ (wfP q.1).1 ∧ ∀ x, (ct A q.1).1 q.2 x ≤ skC A l x
  | [], _, h, _ => by cases h
  | (τ, n) :: r, q, h, hr => by
    rcases List.mem_cons.mp h with e | e
    · subst e; exact ⟨hr.2.1, hr.2.2.1, fun x => by show (ct A τ).1 n x ≤ (ct A τ).1 n x + skC A r x; omega⟩
    · obtain ⟨a, b, c⟩ := skR_mem r q e hr.2.2.2
      exact ⟨a, b, fun x => by have := c x; show _ ≤ (ct A τ).1 n x + skC A r x; omega⟩
theorem skS_len : ∀ l : List (Tr × Int), l.length ≤ skS l
  | [] => Nat.le_refl 0
  | (τ, n) :: r => by have := skS_len r; have := szT_pos τ; show r.length + 1 ≤ szT τ + skS r; omega
/-- a child that is there: a type in the table -/
theorem cf_tR {A : Nat → Int → Int} {n : Int} {y : Nat} {τ : Tr} {q : Tr × Int} (ht : (tR A τ).1 n) (hw : (wfP τ).1) (hq : cf A n y τ = some q) : (tR A q.1).1 q.2 ∧ (wfP q.1).1 ∧ (∀ x, (ct A q.1).1 q.2 x ≤ (ct A τ).1 n x) ∧ q.2 = A 110 (6 * n + y) ∧ A 105 n ≠ 0 ∧ A 105 n ≠ 1 := by
  cases τ with
  | leaf k => cases hq
  | branch k l r =>
    rw [tR_br] at ht
    rw [wfT_br] at hw
    by_cases h3 : k < 3
    · rw [if_pos h3] at ht hw
      have e : cf A n y (.branch k l r) = if y = 0 then some (l, A 110 (6 * n)) else none := if_pos h3
      rw [e] at hq
      split at hq
      · rename_i e0
        cases hq
        subst e0
        exact ⟨ht.2.2, hw, fun x => by rw [ct_br, if_pos h3]; show (ct A l).1 (A 110 (6 * n)) x ≤ _; omega, by show A 110 (6 * n) = A 110 (6 * n + 0); rw [Int.add_zero], by omega, by omega⟩
      · cases hq
    · rw [if_neg h3] at ht hw
      have e : cf A n y (.branch k l r) = (fdL l y).map (fun q => (q.2, A 110 (6 * n + (y : Int)))) := if_neg h3
      rw [e] at hq
      cases hf : fdL l y with
      | none => rw [hf] at hq; cases hq
      | some p =>
        obtain ⟨k', τ'⟩ := p
        rw [hf] at hq
        cases hq
        obtain ⟨f1, f2, f3, f4, f5, f6⟩ := fd_tR A l n 0 y k' τ' ht.2.1 (by omega) hw.2.1 hf
        exact ⟨f3, f4, fun x => by rw [ct_br, if_neg h3]; have := f5 x; show (ct A τ').1 (A 110 (6 * n + y)) x ≤ _; omega, rfl, by omega, by omega⟩
/-- whether there is one, as hang asks -/
theorem cf_is {A : Nat → Int → Int} {n : Int} {y : Nat} {τ : Tr} (ht : (tR A τ).1 n) (hw : (wfP τ).1) (hy : y < 6) : (cf A n y τ ≠ none ↔ (A 105 n = 2 ∧ y = 0) ∨ (2 < A 105 n ∧ 0 < A 108 (6 * n + y))) := by
  cases τ with
  | leaf k =>
    rw [tR_lf] at ht
    have : A 105 n = 0 ∨ A 105 n = 1 := by
      by_cases e : k = 0
      · exact Or.inl (ht.2.1 e)
      · exact Or.inr (ht.2.2 e).1
    exact ⟨fun h => absurd rfl h, fun h => by omega⟩
  | branch k l r =>
    rw [tR_br] at ht
    rw [wfT_br] at hw
    by_cases h3 : k < 3
    · rw [if_pos h3] at ht hw
      have e : cf A n y (.branch k l r) = if y = 0 then some (l, A 110 (6 * n)) else none := if_pos h3
      rw [e]
      by_cases e0 : y = 0
      · rw [if_pos e0]; exact ⟨fun _ => Or.inl ⟨ht.1, e0⟩, fun _ => by simp⟩
      · rw [if_neg e0]; exact ⟨fun h => absurd rfl h, fun h => by omega⟩
    · rw [if_neg h3] at ht hw
      have e : cf A n y (.branch k l r) = (fdL l y).map (fun q => (q.2, A 110 (6 * n + (y : Int)))) := if_neg h3
      rw [e]
      have hs := fdL_has l y
      cases hf : fdL l y with
      | none =>
        rw [hf] at hs
        have := ht.2.2 y (by omega) (by omega) hs.symm
        exact ⟨fun h => absurd rfl h, fun h => by omega⟩
      | some p =>
        rw [hf] at hs
        have := lab_o A l n 0 ht.2.1 y hs.symm
        exact ⟨fun _ => Or.inr ⟨by omega, by omega⟩, fun _ => by simp⟩
theorem tH_of {A' : Nat → Int → Int} {A : Nat → Int → Int} (hr : frH A A') {n p : Int} {τ : Tr} (hw : (wfP τ).1) (h1 : A' 111 n = p) (h2 : ∀ q ∈ chs A n τ 6, (tH A' q.1).1 q.2 n) : (tH A' τ).1 n p := by
  cases τ with
  | leaf k => exact h1
  | branch k l r =>
    rw [tH_br]
    refine ⟨h1, ?_⟩
    rw [wfT_br] at hw
    by_cases h3 : k < 3
    · rw [if_pos h3]
      have := h2 (l, A 110 (6 * n)) (by rw [chs_lp A n h3]; simp)
      rw [hr 110 _ (by decide) (by decide) (by decide)]
      exact this
    · rw [if_neg h3] at hw ⊢
      have hm : ∀ y k' τ', y < 6 → fdL l y = some (k', τ') → (τ', A 110 (6 * n + (y : Int))) ∈ chs A n (.branch k l r) 6 := by
        intro y k' τ' hy hf
        have e : ∀ m, y < m → (τ', A 110 (6 * n + (y : Int))) ∈ chs A n (.branch k l r) m := by
          intro m
          induction m with
          | zero => intro h; omega
          | succ m ih =>
            intro h
            rw [chs_s, chs_w A n h3, List.mem_append]
            by_cases e : y = m
            · subst e; rw [hf]; exact Or.inl (by simp)
            · exact Or.inr (ih (by omega))
        exact e 6 hy
      have key : ∀ b : Tr, (wfP b).2 → (∀ y k' τ', y < 6 → fdL b y = some (k', τ') → fdL l y = some (k', τ')) → (tH A' b).2 n := by
        intro b
        induction b with
        | leaf _ => intros; trivial
        | branch kb τb rb _ ih =>
          intro hb hs
          rw [wfB_br] at hb
          rw [tH_brB]
          refine ⟨?_, ih hb.2.2.2 (fun y k' τ' hy hf => ?_)⟩
          · have := h2 _ (hm (kb / 3) kb τb hb.1 (hs _ _ _ hb.1 (by rw [fdL_br, if_pos rfl])))
            rw [hr 110 _ (by decide) (by decide) (by decide)]
            exact this
          · refine hs y k' τ' hy ?_
            rw [fdL_br, if_neg (fun e => ?_)]
            · exact hf
            · have := fdL_has rb y
              rw [hf, ← e, hb.2.1] at this
              cases this
      exact key l hw.2.1 (fun _ _ _ _ h => h)
end TW49


/-! the twin: one step of merging -/
theorem wx_t {K : xk} {M : xm} {d : Nat} {Q : Outcome → xh → Prop} {pc : Nat} {st : List Value} {h : xh} {pre tl : List (Option Value)} (k : wx K M d Q pc (pre ++ List.replicate tl.length none) st h) : wx K M d Q pc (pre ++ tl) st h := by
  refine wx_L ?_ (fun i v hv => ?_) k
  · simp
  · by_cases hi : i < pre.length
    · rw [List.getElem?_append_left hi] at hv ⊢
      exact hv
    · rw [List.getElem?_append_right (by omega), List.getElem?_replicate] at hv
      split at hv <;> cases hv
/-- nothing but what merging writes has changed -/
def frM (A A' : Nat → Int → Int) : Prop := ∀ j i, (j < 105 ∨ 110 < j) → j ≠ 119 → j ≠ 120 → j ≠ 121 → (j = 100 → i ≠ 4 ∧ i ≠ 18) → A' j i = A j i
theorem frM.rf (A : Nat → Int → Int) : frM A A := fun _ _ _ _ _ _ _ => rfl
theorem frM.tr {A B C : Nat → Int → Int} (h1 : frM A B) (h2 : frM B C) : frM A C := fun j i a b c e f => (h2 j i a b c e f).trans (h1 j i a b c e f)
theorem sameN.rf (A : Nat → Int → Int) (x : Int) : sameN A A x := ⟨rfl, rfl, rfl, fun _ _ _ => ⟨rfl, rfl, rfl⟩⟩
theorem sameN.tr {A B C : Nat → Int → Int} {x : Int} (h1 : sameN A B x) (h2 : sameN B C x) : sameN A C x := ⟨h2.1.trans h1.1, h2.2.1.trans h1.2.1, h2.2.2.1.trans h1.2.2.1, fun l a b => ⟨(h2.2.2.2 l a b).1.trans (h1.2.2.2 l a b).1, (h2.2.2.2 l a b).2.1.trans (h1.2.2.2 l a b).2.1, (h2.2.2.2 l a b).2.2.trans (h1.2.2.2 l a b).2.2⟩⟩
def pg (A B : Nat → Int → Int) (n c : Int) : Prop := frM A B ∧ rga B ∧ (∀ x, x < A 100 4 → x ≠ n → sameN A B x) ∧ (B 105 n = A 105 n ∧ B 106 n = A 106 n) ∧ B 100 4 = A 100 4 + c ∧ B 100 18 = A 100 18 + c ∧ ∀ i, i < A 100 18 → B 119 i = A 119 i ∧ B 120 i = A 120 i ∧ B 121 i = A 121 i
theorem lt_row (B : Nat → Int → Int) (a b : Int) (j : Nat) (i : Int) (h : j ≠ 100) : ltF B a b j i = if j = 121 ∧ i = B 100 18 then B 100 4 else if j = 108 ∧ 6 * B 100 4 ≤ i ∧ i < 6 * B 100 4 + 6 then 0 else if j = 107 ∧ i = B 100 4 then 0 else if j = 106 ∧ i = B 100 4 then B 106 a else if j = 105 ∧ i = B 100 4 then B 105 a else if j = 120 ∧ i = B 100 18 then b else if j = 119 ∧ i = B 100 18 then a else B j i := by
  have e4 : au (au B 119 (B 100 18) a) 120 (B 100 18) b 100 4 = B 100 4 := by rw [au_ne _ _ _ _ (by decide), au_ne _ _ _ _ (by decide)]
  unfold ltF
  rw [au_ne _ _ _ _ h, au_ite, fr_row _ _ _ _ _ h, e4, au_ite, au_ite]
theorem lt_sc (B : Nat → Int → Int) (a b i : Int) : ltF B a b 100 i = if i = 18 then B 100 18 + 1 else if i = 4 then B 100 4 + 1 else B 100 i := by
  unfold ltF
  rw [au_ite]
  by_cases e : i = 18
  · rw [if_pos ⟨rfl, e⟩, if_pos e]
  · rw [if_neg (fun h => e h.2), if_neg e, au_ne _ _ _ _ (by decide)]
    by_cases e4 : i = 4
    · rw [if_pos e4, e4]
      unfold frF
      rw [au_same, au_ne _ _ _ _ (by decide), au_ne _ _ _ _ (by decide)]
    · rw [if_neg e4, fr_sc _ _ _ e4, au_ne _ _ _ _ (by decide), au_ne _ _ _ _ (by decide)]
theorem ad_row (B : Nat → Int → Int) (n l s c : Int) (j : Nat) (i : Int) : adF B n l s c j i = if j = 110 ∧ i = 6 * n + l then c else if j = 109 ∧ i = 6 * n + l then s else if j = 108 ∧ i = 6 * n + l then B 107 n + 1 else if j = 107 ∧ i = n then B 107 n + 1 else B j i := by
  unfold adF
  rw [au_ite, au_ite, au_ite, au_ite]
theorem rga_lt {B : Nat → Int → Int} {a b : Int} (hA : rga B) (ha : rg a) (hb : rg b) (p0 : 0 ≤ B 100 18) (p1 : B 100 18 < 300) (u0 : 0 ≤ B 100 4) (u1 : B 100 4 < 300) : rga (ltF B a b) := by
  unfold ltF frF
  exact rga_au (rga_au (rga_au (rga_fil (rga_au (rga_au (rga_au (rga_au (rga_au hA ha) hb) (hA _ _)) (hA _ _)) rg_0) rg_0) ⟨by rw [au_ne _ _ _ _ (by decide), au_ne _ _ _ _ (by decide)]; omega, by rw [au_ne _ _ _ _ (by decide), au_ne _ _ _ _ (by decide)]; omega⟩) (hA _ _)) ⟨by omega, by omega⟩
theorem rga_ad {B : Nat → Int → Int} {n l s c : Int} (hA : rga B) (h7 : B 107 n < 1000) (hs : rg s) (hc : rg c) : rga (adF B n l s c) := by
  unfold adF
  have h8 : rg (B 107 n + 1) := ⟨by have := (hA 107 n).1; omega, by omega⟩
  exact rga_au (rga_au (rga_au (rga_au hA h8) h8) hs) hc
theorem pg_lt {A B : Nat → Int → Int} {n c a b : Int} (h : pg A B n c) (hn : n < A 100 4) (ha : rg a) (hb : rg b) (p0 : 0 ≤ B 100 18) (p1 : B 100 18 < 300) (u0 : 0 ≤ B 100 4) (u1 : B 100 4 < 300) (c0 : 0 ≤ c) : pg A (ltF B a b) n (c + 1) := by
  obtain ⟨h1, h2, h3, h4, h5, h6, h7⟩ := h
  refine ⟨fun j i g1 g2 g3 g4 g5 => ?_, rga_lt h2 ha hb p0 p1 u0 u1, fun x hx hxn => (h3 x hx hxn).tr ⟨?_, ?_, ?_, fun l l0 l1 => ⟨?_, ?_, ?_⟩⟩, ⟨?_, ?_⟩, ?_, ?_, fun i hi => ⟨?_, ?_, ?_⟩⟩
  · by_cases e : j = 100
    · subst e
      rw [lt_sc, if_neg (g5 rfl).2, if_neg (g5 rfl).1]
      exact h1 100 i g1 g2 g3 g4 g5
    · rw [lt_row _ _ _ _ _ e, if_neg (by omega), if_neg (by omega), if_neg (by omega), if_neg (by omega), if_neg (by omega), if_neg (by omega), if_neg (by omega)]
      exact h1 j i g1 g2 g3 g4 g5
  · rw [lt_row _ _ _ _ _ (by decide), if_neg (by omega), if_neg (by omega), if_neg (by omega), if_neg (by omega), if_neg (by omega), if_neg (by omega), if_neg (by omega)]
  · rw [lt_row _ _ _ _ _ (by decide), if_neg (by omega), if_neg (by omega), if_neg (by omega), if_neg (by omega), if_neg (by omega), if_neg (by omega), if_neg (by omega)]
  · rw [lt_row _ _ _ _ _ (by decide), if_neg (by omega), if_neg (by omega), if_neg (by omega), if_neg (by omega), if_neg (by omega), if_neg (by omega), if_neg (by omega)]
  · rw [lt_row _ _ _ _ _ (by decide), if_neg (by omega), if_neg (by omega), if_neg (by omega), if_neg (by omega), if_neg (by omega), if_neg (by omega), if_neg (by omega)]
  · rw [lt_row _ _ _ _ _ (by decide), if_neg (by omega), if_neg (by omega), if_neg (by omega), if_neg (by omega), if_neg (by omega), if_neg (by omega), if_neg (by omega)]
  · rw [lt_row _ _ _ _ _ (by decide), if_neg (by omega), if_neg (by omega), if_neg (by omega), if_neg (by omega), if_neg (by omega), if_neg (by omega), if_neg (by omega)]
  · rw [lt_row _ _ _ _ _ (by decide), if_neg (by omega), if_neg (by omega), if_neg (by omega), if_neg (by omega), if_neg (by omega), if_neg (by omega), if_neg (by omega)]; exact h4.1
  · rw [lt_row _ _ _ _ _ (by decide), if_neg (by omega), if_neg (by omega), if_neg (by omega), if_neg (by omega), if_neg (by omega), if_neg (by omega), if_neg (by omega)]; exact h4.2
  · rw [lt_sc, if_neg (by decide), if_pos rfl]; omega
  · rw [lt_sc, if_pos rfl]; omega
  · rw [lt_row _ _ _ _ _ (by decide), if_neg (by omega), if_neg (by omega), if_neg (by omega), if_neg (by omega), if_neg (by omega), if_neg (by omega), if_neg (by omega)]; exact (h7 i hi).1
  · rw [lt_row _ _ _ _ _ (by decide), if_neg (by omega), if_neg (by omega), if_neg (by omega), if_neg (by omega), if_neg (by omega), if_neg (by omega), if_neg (by omega)]; exact (h7 i hi).2.1
  · rw [lt_row _ _ _ _ _ (by decide), if_neg (by omega), if_neg (by omega), if_neg (by omega), if_neg (by omega), if_neg (by omega), if_neg (by omega), if_neg (by omega)]; exact (h7 i hi).2.2
theorem pg_ad {A B : Nat → Int → Int} {n c l s ch : Int} (h : pg A B n c) (l0 : 0 ≤ l) (l1 : l < 6) (h7 : B 107 n < 1000) (hs : rg s) (hc : rg ch) : pg A (adF B n l s ch) n c := by
  obtain ⟨h1, h2, h3, h4, h5, h6, hq⟩ := h
  have e : ∀ j i, (j < 107 ∨ 110 < j) → adF B n l s ch j i = B j i := fun j i hj => by rw [ad_row, if_neg (by omega), if_neg (by omega), if_neg (by omega), if_neg (by omega)]
  refine ⟨fun j i g1 g2 g3 g4 g5 => ?_, rga_ad h2 h7 hs hc, fun x hx hxn => (h3 x hx hxn).tr ⟨e _ _ (by omega), e _ _ (by omega), ?_, fun l l0 l1 => ⟨?_, ?_, ?_⟩⟩, ⟨?_, ?_⟩, ?_, ?_, fun i hi => ?_⟩
  · rw [e _ _ (by omega)]; exact h1 j i g1 g2 g3 g4 g5
  · rw [ad_row, if_neg (by omega), if_neg (by omega), if_neg (by omega), if_neg (by omega)]
  · rw [ad_row, if_neg (by omega), if_neg (by omega), if_neg (by omega), if_neg (by omega)]
  · rw [ad_row, if_neg (by omega), if_neg (by omega), if_neg (by omega), if_neg (by omega)]
  · rw [ad_row, if_neg (by omega), if_neg (by omega), if_neg (by omega), if_neg (by omega)]
  · rw [e _ _ (by omega)]; exact h4.1
  · rw [e _ _ (by omega)]; exact h4.2
  · rw [e _ _ (by omega)]; exact h5
  · rw [e _ _ (by omega)]; exact h6
  · rw [e _ _ (by omega), e _ _ (by omega), e _ _ (by omega)]; exact hq i hi
/-! lists of labels in the table -/
theorem lab_n (A : Nat → Int → Int) : ∀ (l : Tr) (m i : Int), (tR A l).2 m i → A 107 m = i + lenB l
  | .leaf k, m, i, h => by rw [tR_lfB] at h; rw [h]; show i = i + 0; omega
  | .branch k τ r, m, i, h => by
    rw [tR_brB] at h
    have := lab_n A r m (i + 1) h.2.2.2
    rw [this]
    show i + 1 + (lenB r : Int) = i + ((1 + lenB r : Nat) : Int)
    omega
theorem lab_o (A : Nat → Int → Int) : ∀ (l : Tr) (m i : Int), (tR A l).2 m i → ∀ x, hasL l x = true → i + 1 ≤ A 108 (6 * m + x)
  | .leaf k, m, i, h, x, hx => by rw [hasL_lf] at hx; cases hx
  | .branch k τ r, m, i, h, x, hx => by
    rw [tR_brB] at h
    rw [hasL_br] at hx
    by_cases e : ((k / 3 : Nat) : Int) = x
    · rw [← e, h.1]; exact Int.le_refl _
    · rw [decide_eq_false e, Bool.false_or] at hx
      have := lab_o A r m (i + 1) h.2.2.2 x hx
      omega
theorem fd_tR (A : Nat → Int → Int) : ∀ (l : Tr) (m i : Int) (x : Nat) (k' : Nat) (τ' : Tr), (tR A l).2 m i → 0 ≤ i → (wfP l).2 → fdL l x = some (k', τ') → 0 < A 108 (6 * m + x) ∧ A 109 (6 * m + x) = (k' % 3 : Nat) ∧ (tR A τ').1 (A 110 (6 * m + x)) ∧ (wfP τ').1 ∧ (∀ y, (ct A τ').1 (A 110 (6 * m + x)) y ≤ (ct A l).2 m y) ∧ k' / 3 = x
  | .leaf k, m, i, x, k', τ', h, i0, hw, hf => by cases hf
  | .branch k τ r, m, i, x, k', τ', h, i0, hw, hf => by
    rw [tR_brB] at h
    rw [wfB_br] at hw
    rw [fdL_br] at hf
    by_cases e : k / 3 = x
    · rw [if_pos e] at hf
      cases hf
      subst e
      exact ⟨by rw [h.1]; omega, h.2.1, h.2.2.1, hw.2.2.1, fun y => by rw [ct_brB]; omega, rfl⟩
    · rw [if_neg e] at hf
      obtain ⟨a1, a2, a3, a4, a5, a6⟩ := fd_tR A r m (i + 1) x k' τ' h.2.2.2 (by omega) hw.2.2.2 hf
      exact ⟨a1, a2, a3, a4, fun y => by rw [ct_brB]; have := a5 y; omega, a6⟩
/-- what the found ones come to -/
def sbB (bs : Tr) : Tr → Nat
  | .leaf _ => 0
  | .branch k _ r => (match fdL bs (k / 3) with | none => 0 | some (_, τ') => szT τ') + sbB bs r
theorem sbB_br (bs : Tr) (k : Nat) (l r : Tr) : sbB bs (.branch k l r) = (match fdL bs (k / 3) with | none => 0 | some (_, τ') => szT τ') + sbB bs r := rfl
theorem sbB_cut (k : Nat) (τ b : Tr) : ∀ l : Tr, hasL l (k / 3 : Nat) = false → sbB (.branch k τ b) l = sbB b l
  | .leaf _, _ => rfl
  | .branch k' l r, h => by
    rw [hasL_br, Bool.or_eq_false_iff, decide_eq_false_iff_not] at h
    rw [sbB_br, sbB_br, fdL_br, if_neg (by omega), sbB_cut k τ b r h.2]
theorem sbB_one (k : Nat) (τ b : Tr) : ∀ l : Tr, (wfP l).2 → sbB (.branch k τ b) l ≤ szT τ + sbB b l
  | .leaf _, _ => by show 0 ≤ _; omega
  | .branch k' l r, hw => by
    rw [wfB_br] at hw
    rw [sbB_br, sbB_br, fdL_br]
    by_cases e : k / 3 = k' / 3
    · rw [if_pos e]
      dsimp only
      rw [sbB_cut k τ b r (by rw [e]; exact hw.2.1)]
      omega
    · rw [if_neg e]
      have := sbB_one k τ b r hw.2.2.2
      omega
theorem sbB_le : ∀ (b l : Tr), (wfP l).2 → sbB b l ≤ szB b
  | .leaf _, l, hw => by
    have : ∀ l : Tr, sbB (.leaf ‹Nat›) l = 0 := fun l => by
      induction l with
      | leaf _ => rfl
      | branch k l r _ ih => rw [sbB_br, ih]; rfl
    rw [this]; omega
  | .branch k τ b, l, hw => by
    have h1 := sbB_one k τ b l hw
    have h2 := sbB_le b l hw
    rw [szB_br]; omega


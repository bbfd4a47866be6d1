/-! what is above a place of the global type; touching -/
def abv (A : Nat → Int → Int) : Tr → (Int → Int → Prop) × (Int → Int → Prop)
  | .leaf _ => (fun n p => A 111 n = p, fun _ _ => True)
  | .branch k l q => (fun n p => A 111 n = p ∧ (if k < 3 then (abv A l).1 (n + 1) n else (abv A l).2 n (n + 1)), fun m n => (abv A l).1 n m ∧ (abv A q).2 m (n + szT l))
theorem abv_brT (A : Nat → Int → Int) (k : Nat) (l q : Tr) (n p : Int) : (abv A (.branch k l q)).1 n p = (A 111 n = p ∧ (if k < 3 then (abv A l).1 (n + 1) n else (abv A l).2 n (n + 1))) := rfl
theorem abv_brB (A : Nat → Int → Int) (k : Nat) (l q : Tr) (m n : Int) : (abv A (.branch k l q)).2 m n = ((abv A l).1 n m ∧ (abv A q).2 m (n + szT l)) := rfl
theorem abv_p (A : Nat → Int → Int) (τ : Tr) (n p : Int) (h : (abv A τ).1 n p) : A 111 n = p := by
  cases τ with
  | leaf k => exact h
  | branch k l q => rw [abv_brT] at h; exact h.1
theorem abv_in (A : Nat → Int → Int) (τ : Tr) : (∀ n p : Int, (abv A τ).1 n p → ∀ a, n < a → a < n + szT τ → n ≤ A 111 a ∧ A 111 a < a) ∧ (∀ m n : Int, (abv A τ).2 m n → m < n → ∀ a, n ≤ a → a < n + szB τ → (A 111 a = m ∨ n ≤ A 111 a) ∧ A 111 a < a) := by
  induction τ with
  | leaf k => exact ⟨fun n p _ a h1 h2 => by rw [szT_leaf] at h2; omega, fun m n _ _ a h1 h2 => by rw [szB_leaf] at h2; omega⟩
  | branch k l q ihl ihq =>
    refine ⟨fun n p h a h1 h2 => ?_, fun m n h hm a h1 h2 => ?_⟩
    · rw [abv_brT] at h
      rw [szT_br] at h2
      by_cases h3 : k < 3
      · rw [if_pos h3] at h h2
        by_cases e : a = n + 1
        · rw [e, abv_p A l _ _ h.2]; omega
        · have := ihl.1 (n + 1) n h.2 a (by omega) (by omega); omega
      · rw [if_neg h3] at h h2
        have := ihl.2 n (n + 1) h.2 (by omega) a (by omega) (by omega)
        omega
    · rw [abv_brB] at h
      rw [szB_br] at h2
      have szp := szT_pos l
      by_cases e : a = n
      · rw [e, abv_p A l _ _ h.1]; omega
      · by_cases e2 : a < n + szT l
        · have := ihl.1 n m h.1 a (by omega) e2; omega
        · have := ihq.2 m (n + szT l) h.2 (by omega) a (by omega) (by omega); omega
/-- named: some message of it -/
theorem nm_row (A : Nat → Int → Int) (r : Int) (τ : Tr) : (∀ n : Int, (wfP τ).1 → (tG A false τ).1 n → ((nmP r τ).1 = true ↔ ∃ k, n ≤ k ∧ k < n + szT τ ∧ A 105 k = 5 ∧ (A 106 k % 4 = r ∨ A 106 k / 4 = r))) ∧
    (∀ m i n : Int, (wfP τ).2 → (tG A false τ).2 m i n → ((nmP r τ).2 = true ↔ ∃ k, n ≤ k ∧ k < n + szB τ ∧ A 105 k = 5 ∧ (A 106 k % 4 = r ∨ A 106 k / 4 = r))) := by
  induction τ with
  | leaf k =>
    refine ⟨fun n hw h => ?_, fun m i n hw h => ?_⟩
    · replace h : (A 107 n = 0 ∧ ∀ x, 0 ≤ x → x < 6 → A 108 (6 * n + x) = 0) ∧ (k = 0 → A 105 n = 0) ∧ (k ≠ 0 → A 105 n = 1 ∧ A 106 n = (k : Int) - 1) := h
      refine ⟨fun h => (by cases h), fun ⟨x, h1, h2, h3, h4⟩ => ?_⟩
      rw [szT_leaf] at h2
      have e : x = n := by omega
      subst e
      by_cases e0 : k = 0
      · have := h.2.1 e0; omega
      · have := h.2.2 e0; omega
    · exact ⟨fun h => (by cases h), fun ⟨x, h1, h2, h3, h4⟩ => by rw [szB_leaf] at h2; omega⟩
  | branch k l q ihl ihq =>
    refine ⟨fun n hw h => ?_, fun m i n hw h => ?_⟩
    · rw [tG_brT] at h
      rw [wfT_br] at hw
      rw [nmT_br, szT_br]
      by_cases h3 : k < 3
      · rw [if_pos h3] at h hw
        rw [if_pos h3, if_pos h3, ihl.1 (n + 1) hw h.2.2.2]
        constructor
        · rintro ⟨x, h1, h2, h4⟩; exact ⟨x, by omega, by omega, h4⟩
        · rintro ⟨x, h1, h2, h4, h5⟩
          by_cases e : x = n
          · rw [e, h.1] at h4; omega
          · exact ⟨x, by omega, by omega, h4, h5⟩
      · rw [if_neg h3] at h hw
        rw [if_neg (by decide)] at h
        rw [if_neg h3, if_neg h3, Bool.or_eq_true, ihl.2 n 0 (n + 1) hw.2.1 h.2.1, Bool.or_eq_true, decide_eq_true_eq, decide_eq_true_eq]
        constructor
        · rintro (h1 | ⟨x, h1, h2, h4⟩)
          · exact ⟨n, by omega, by omega, h.1.1, by rw [h.1.2]; omega⟩
          · exact ⟨x, by omega, by omega, h4⟩
        · rintro ⟨x, h1, h2, h4, h5⟩
          by_cases e : x = n
          · rw [e, h.1.2] at h5; left; omega
          · exact Or.inr ⟨x, by omega, by omega, h4, h5⟩
    · rw [tG_brB] at h
      rw [wfB_br] at hw
      rw [nmB_br, szB_br, Bool.or_eq_true, ihl.1 n hw.2.2.1 h.2.2.2.1, ihq.2 m (i + 1) _ hw.2.2.2 h.2.2.2.2]
      constructor
      · rintro (⟨x, h1, h2, h4⟩ | ⟨x, h1, h2, h4⟩)
        · exact ⟨x, by omega, by omega, h4⟩
        · exact ⟨x, by omega, by omega, h4⟩
      · rintro ⟨x, h1, h2, h4⟩
        by_cases e : x < n + szT l
        · exact Or.inl ⟨x, by omega, by omega, h4⟩
        · exact Or.inr ⟨x, by omega, by omega, h4⟩
/-- the innermost binder: among the inner ones, or further out -/
theorem bnd_app (A : Nat → Int → Int) (v : Int) : ∀ (Li Lo : List Int), (∀ a ∈ Li, 0 ≤ a) → bnd A v (Li ++ Lo) = if 0 ≤ bnd A v Li then bnd A v Li else bnd A v Lo
  | [], Lo, _ => by show bnd A v Lo = if (0 : Int) ≤ -1 then _ else _; rw [if_neg (by decide)]
  | a :: Li, Lo, h => by
    show (if A 105 a = 2 ∧ A 106 a = v then a else bnd A v (Li ++ Lo)) = if 0 ≤ (if A 105 a = 2 ∧ A 106 a = v then a else bnd A v Li) then (if A 105 a = 2 ∧ A 106 a = v then a else bnd A v Li) else bnd A v Lo
    by_cases e : A 105 a = 2 ∧ A 106 a = v
    · rw [if_pos e, if_pos e, if_pos (h a (by simp))]
    · rw [if_neg e, if_neg e]
      exact bnd_app A v Li Lo (fun x hx => h x (by simp [hx]))
theorem bnd_mem (A : Nat → Int → Int) (v : Int) : ∀ (L : List Int), bnd A v L = -1 ∨ bnd A v L ∈ L
  | [] => Or.inl rfl
  | a :: L => by
    show (if A 105 a = 2 ∧ A 106 a = v then a else bnd A v L) = -1 ∨ (if A 105 a = 2 ∧ A 106 a = v then a else bnd A v L) ∈ a :: L
    split
    · exact Or.inr (by simp)
    · rcases bnd_mem A v L with h | h
      · exact Or.inl h
      · exact Or.inr (by simp [h])
theorem anc_u (A : Nat → Int → Int) : ∀ (L L' : List Int) (k : Int), anc A k L → anc A k L' → L = L'
  | [], [], _, _, _ => rfl
  | [], b :: L', k, h, h' => by replace h : A 111 k < 0 := h; obtain ⟨a1, a2, -⟩ := h'; omega
  | a :: L, [], k, h, h' => by replace h' : A 111 k < 0 := h'; obtain ⟨a1, a2, -⟩ := h; omega
  | a :: L, b :: L', k, h, h' => by
    obtain ⟨a1, a2, a3, a4⟩ := h
    obtain ⟨b1, b2, b3, b4⟩ := h'
    have e : a = b := by rw [← a1, b1]
    subst e
    rw [anc_u A L L' a a4 b4]
/-- a variable is bound outside: k a variable's place, n the loop's -/
def vOut (A : Nat → Int → Int) (n k : Int) : Prop := ∃ L, anc A k L ∧ bnd A (A 106 k) L < n
theorem ls_row (A : Nat → Int → Int) (n0 : Int) (Lo : List Int) (hLo : ∀ a ∈ Lo, 0 ≤ a ∧ a < n0) (hn0 : 0 ≤ n0) (τ : Tr) : (∀ (n p : Int) (Li : List Int), n0 ≤ n → n + szT τ ≤ 300 → (wfP τ).1 → (tG A false τ).1 n → (abv A τ).1 n p → anc A n (Li ++ Lo) → (∀ a ∈ Li, n0 ≤ a) → ((∃ k, n ≤ k ∧ k < n + szT τ ∧ A 105 k = 1 ∧ vOut A n0 k) ↔ ∃ v : Nat, v < 3 ∧ (lsP τ).1 v = true ∧ bnd A v Li < 0)) ∧
    (∀ (m i n : Int) (Li : List Int), n0 ≤ m → m < n → n + szB τ ≤ 300 → (wfP τ).2 → (tG A false τ).2 m i n → (abv A τ).2 m n → anc A m (Li ++ Lo) → (∀ a ∈ Li, n0 ≤ a) → A 105 m = 5 → ((∃ k, n ≤ k ∧ k < n + szB τ ∧ A 105 k = 1 ∧ vOut A n0 k) ↔ ∃ v : Nat, v < 3 ∧ (lsP τ).2 v = true ∧ bnd A v Li < 0)) := by
  induction τ with
  | leaf k =>
    refine ⟨fun n p Li hn h3 hw h hab hanc hLi => ?_, fun m i n Li hm hn h3 hw h hab hanc hLi h5 => ?_⟩
    · replace h : (A 107 n = 0 ∧ ∀ x, 0 ≤ x → x < 6 → A 108 (6 * n + x) = 0) ∧ (k = 0 → A 105 n = 0) ∧ (k ≠ 0 → A 105 n = 1 ∧ A 106 n = (k : Int) - 1) := h
      rw [wfT_leaf] at hw
      rw [szT_leaf]
      have hbig : ∀ v : Int, bnd A v Li < 0 ∨ n0 ≤ bnd A v Li := fun v => by
        rcases bnd_mem A v Li with e | e
        · exact Or.inl (by omega)
        · exact Or.inr (hLi _ e)
      have hsm : ∀ v : Int, bnd A v Lo < n0 := fun v => by
        rcases bnd_mem A v Lo with e | e
        · omega
        · exact (hLo _ e).2
      constructor
      · rintro ⟨x, h1, h2, h4, L, h5, h6⟩
        have e : x = n := by omega
        subst e
        have eL := anc_u A _ _ _ h5 hanc
        subst eL
        by_cases e0 : k = 0
        · have := h.2.1 e0; omega
        · have e6 := (h.2.2 e0).2
          refine ⟨k - 1, by omega, by show decide (k = k - 1 + 1) = true; rw [decide_eq_true_eq]; omega, ?_⟩
          rw [bnd_app A _ Li Lo (fun a ha => by have := hLi a ha; omega)] at h6
          rw [show (((k - 1 : Nat)) : Int) = A 106 x by omega]
          rcases hbig (A 106 x) with e | e
          · exact e
          · rw [if_pos (by omega)] at h6; omega
      · rintro ⟨v, v3, hv, hb⟩
        replace hv : decide (k = v + 1) = true := hv
        rw [decide_eq_true_eq] at hv
        obtain ⟨e5, e6⟩ := h.2.2 (by omega)
        refine ⟨n, by omega, by omega, e5, _, hanc, ?_⟩
        rw [bnd_app A _ Li Lo (fun a ha => by have := hLi a ha; omega), show A 106 n = (v : Int) by omega, if_neg (by omega)]
        exact hsm _
    · rw [szB_leaf]
      constructor
      · rintro ⟨x, h1, h2, -⟩; omega
      · rintro ⟨v, v3, hv, hb⟩; cases hv
  | branch k l q ihl ihq =>
    refine ⟨fun n p Li hn h3 hw h hab hanc hLi => ?_, fun m i n Li hm hn h3 hw h hab hanc hLi h5 => ?_⟩
    · rw [tG_brT] at h
      rw [wfT_br] at hw
      rw [abv_brT] at hab
      rw [szT_br] at h3 ⊢
      by_cases hk : k < 3
      · rw [if_pos hk] at h hw hab h3
        rw [if_pos hk]
        have szp := szT_pos l
        have ih := ihl.1 (n + 1) n (n :: Li) (by omega) (by omega) hw h.2.2.2 hab.2 ⟨abv_p A l _ _ hab.2, by omega, by omega, hanc⟩ (fun a ha => by rcases List.mem_cons.mp ha with e | e; omega; exact hLi a e)
        have e1 : (∃ k, n ≤ k ∧ k < n + ((1 + szT l : Nat) : Int) ∧ A 105 k = 1 ∧ vOut A n0 k) ↔ ∃ k, n + 1 ≤ k ∧ k < n + 1 + szT l ∧ A 105 k = 1 ∧ vOut A n0 k := by
          constructor
          · rintro ⟨x, h1, h2, h4, h6⟩
            by_cases e : x = n
            · rw [e, h.1] at h4; omega
            · exact ⟨x, by omega, by omega, h4, h6⟩
          · rintro ⟨x, h1, h2, h4⟩; exact ⟨x, by omega, by omega, h4⟩
        rw [e1, ih]
        have hb : ∀ v : Nat, bnd A v (n :: Li) < 0 ↔ v ≠ k ∧ bnd A v Li < 0 := fun v => by
          show (if A 105 n = 2 ∧ A 106 n = v then n else bnd A v Li) < 0 ↔ _
          by_cases e : v = k
          · rw [if_pos ⟨h.1, by rw [h.2.1, e]⟩]; omega
          · rw [if_neg (fun hh => e (by have := hh.2; rw [h.2.1] at this; omega))]
            exact ⟨fun h => ⟨e, h⟩, fun h => h.2⟩
        constructor
        · rintro ⟨v, v3, hv, hbv⟩
          have := (hb v).mp hbv
          refine ⟨v, v3, ?_, this.2⟩
          rw [lsT_br, if_pos hk, hv, decide_eq_false this.1]; rfl
        · rintro ⟨v, v3, hv, hbv⟩
          rw [lsT_br, if_pos hk, Bool.and_eq_true] at hv
          refine ⟨v, v3, hv.2, (hb v).mpr ⟨fun e => ?_, hbv⟩⟩
          rw [decide_eq_true e] at hv
          cases hv.1
      · rw [if_neg hk] at h hw hab h3
        rw [if_neg hk]
        rw [if_neg (by decide)] at h
        have ih := ihl.2 n 0 (n + 1) Li hn (by omega) (by omega) hw.2.1 h.2.1 hab.2 hanc hLi h.1.1
        have e1 : (∃ k, n ≤ k ∧ k < n + ((1 + szB l : Nat) : Int) ∧ A 105 k = 1 ∧ vOut A n0 k) ↔ ∃ k, n + 1 ≤ k ∧ k < n + 1 + szB l ∧ A 105 k = 1 ∧ vOut A n0 k := by
          constructor
          · rintro ⟨x, h1, h2, h4, h6⟩
            by_cases e : x = n
            · rw [e, h.1.1] at h4; omega
            · exact ⟨x, by omega, by omega, h4, h6⟩
          · rintro ⟨x, h1, h2, h4⟩; exact ⟨x, by omega, by omega, h4⟩
        rw [e1, ih]
        constructor
        · rintro ⟨v, v3, hv, hbv⟩
          exact ⟨v, v3, by rw [lsT_br, if_neg hk]; exact hv, hbv⟩
        · rintro ⟨v, v3, hv, hbv⟩
          rw [lsT_br, if_neg hk] at hv
          exact ⟨v, v3, hv, hbv⟩
    · rw [tG_brB] at h
      rw [wfB_br] at hw
      rw [abv_brB] at hab
      rw [szB_br] at h3 ⊢
      have szp := szT_pos l
      have i1 := ihl.1 n m (m :: Li) (by omega) (by omega) hw.2.2.1 h.2.2.2.1 hab.1 ⟨abv_p A l _ _ hab.1, by omega, by omega, hanc⟩ (fun a ha => by rcases List.mem_cons.mp ha with e | e; omega; exact hLi a e)
      have i2 := ihq.2 m (i + 1) (n + szT l) Li hm (by omega) (by omega) hw.2.2.2 h.2.2.2.2 hab.2 hanc hLi h5
      have hb : ∀ v : Nat, bnd A v (m :: Li) = bnd A v Li := fun v => by
        show (if A 105 m = 2 ∧ A 106 m = v then m else bnd A v Li) = _
        rw [if_neg (by omega)]
      have e1 : (∃ k, n ≤ k ∧ k < n + ((szT l + szB q : Nat) : Int) ∧ A 105 k = 1 ∧ vOut A n0 k) ↔ (∃ k, n ≤ k ∧ k < n + szT l ∧ A 105 k = 1 ∧ vOut A n0 k) ∨ ∃ k, n + szT l ≤ k ∧ k < n + szT l + szB q ∧ A 105 k = 1 ∧ vOut A n0 k := by
        constructor
        · rintro ⟨x, h1, h2, h4⟩
          by_cases e : x < n + szT l
          · exact Or.inl ⟨x, by omega, by omega, h4⟩
          · exact Or.inr ⟨x, by omega, by omega, h4⟩
        · rintro (⟨x, h1, h2, h4⟩ | ⟨x, h1, h2, h4⟩)
          · exact ⟨x, by omega, by omega, h4⟩
          · exact ⟨x, by omega, by omega, h4⟩
      rw [e1, i1, i2]
      constructor
      · rintro (⟨v, v3, hv, hbv⟩ | ⟨v, v3, hv, hbv⟩)
        · exact ⟨v, v3, by rw [lsB_br, hv]; rfl, by rw [hb] at hbv; exact hbv⟩
        · exact ⟨v, v3, by rw [lsB_br, hv]; simp, hbv⟩
      · rintro ⟨v, v3, hv, hbv⟩
        rw [lsB_br, Bool.or_eq_true] at hv
        rcases hv with hv | hv
        · exact Or.inl ⟨v, v3, hv, by rw [hb]; exact hbv⟩
        · exact Or.inr ⟨v, v3, hv, hbv⟩
/-- every place has what is above it -/
theorem anc_all (A : Nat → Int → Int) (τ : Tr) : (∀ (n p : Int) (L : List Int), 0 ≤ n → n + szT τ ≤ 300 → (abv A τ).1 n p → anc A n L → ∀ k, n ≤ k → k < n + szT τ → ∃ L', anc A k L') ∧ (∀ (m n : Int) (L : List Int), 0 ≤ m → m < n → n + szB τ ≤ 300 → (abv A τ).2 m n → anc A m L → ∀ k, n ≤ k → k < n + szB τ → ∃ L', anc A k L') := by
  induction τ with
  | leaf kk =>
    refine ⟨fun n p L _ _ h hL k h1 h2 => ⟨L, ?_⟩, fun m n L _ _ _ h hL k h1 h2 => ?_⟩
    · rw [szT_leaf] at h2
      rw [show k = n by omega]; exact hL
    · rw [szB_leaf] at h2; omega
  | branch kk l q ihl ihq =>
    refine ⟨fun n p L hn h3 h hL k h1 h2 => ?_, fun m n L hm hn h3 h hL k h1 h2 => ?_⟩
    · rw [abv_brT] at h
      rw [szT_br] at h2 h3
      by_cases e : k = n
      · exact ⟨L, by rw [e]; exact hL⟩
      by_cases hk : kk < 3
      · rw [if_pos hk] at h h2 h3
        exact ihl.1 (n + 1) n (n :: L) (by omega) (by omega) h.2 ⟨abv_p A l _ _ h.2, hn, by omega, hL⟩ k (by omega) (by omega)
      · rw [if_neg hk] at h h2 h3
        exact ihl.2 n (n + 1) L hn (by omega) (by omega) h.2 hL k (by omega) (by omega)
    · rw [abv_brB] at h
      rw [szB_br] at h2 h3
      have szp := szT_pos l
      by_cases e : k < n + szT l
      · exact ihl.1 n m (m :: L) (by omega) (by omega) h.1 ⟨abv_p A l _ _ h.1, hm, by omega, hL⟩ k h1 e
      · exact ihq.2 m (n + szT l) L hm (by omega) (by omega) h.2 hL k (by omega) (by omega)

/-! the twin's reading against the reader's law: branches, the induction -/
theorem tB_au2 {A : Nat → Int → Int} {x : Int} (h : tB A) (h0 : 0 ≤ x) (h1 : x ≤ A 100 0) : tB (au A 100 2 x) := h.to (rga_au h.1 ⟨by omega, by have := h.2.2.1; omega⟩) (by rw [au_same, au_ni _ _ _ (by decide)]; omega) (au_ni _ _ _ (by decide)) (fun i => au_ne _ _ _ _ (by decide))
theorem au_au (A : Nat → Int → Int) (j : Nat) (i x y : Int) : au (au A j i x) j i y = au A j i y := by
  funext j' i'
  rw [au_ite, au_ite, au_ite]
  split <;> rfl
theorem th_au {A : Nat → Int → Int} {cx : Int → Int} {len x : Int} (h : txR A cx len) (hx : ∀ i, len ≤ i → cx i = -1) (p0 : 0 ≤ x) : tHere (au A 100 2 x) = cx x := by
  have h1 : txR (au A 100 2 x) cx len := h.to (fr_au (fr.rf A) (by omega))
  rw [th_cx h1 hx (by rw [au_same]; exact p0), au_same]
/-- the branch's row, when all is well -/
def brG (A : Nat → Int → Int) (p o m l s : Int) : Nat → Int → Int := au (adF (au A 100 2 (p + 3)) m l s (-1)) 116 (o - 1) l
theorem brF_ok {A : Nat → Int → Int} {cx : Int → Int} {len p : Int} (hB : tB A) (hT : txR A cx len) (hx : ∀ i, len ≤ i → cx i = -1) (h2 : A 100 2 = p) (h3 : A 100 3 = -1)
    (hl : 102 ≤ cx p ∧ cx p ≤ 107) (hn : ¬ 0 < A 108 (6 * tTop A + (cx p - 102))) (hs : 48 ≤ cx (p + 1) ∧ cx (p + 1) ≤ 50) (hc : cx (p + 2) = 58) : brF A = brG A p (A 100 14) (tTop A) (cx p - 102) (cx (p + 1) - 48) := by
  have p0 : 0 ≤ p := by have := hB.2.1; omega
  have e1 : tHere A = cx p := by rw [th_cx hT hx (by omega), h2]
  have e2 : tHere (au A 100 2 (p + 1)) = cx (p + 1) := th_au hT hx (by omega)
  have e3 : tHere (au A 100 2 (p + 2)) = cx (p + 2) := th_au hT hx (by omega)
  have o1 := on_y (A := au A 100 2 (p + 1)) (l := 48) (m := 3) (by rw [e2]; omega) (by rw [au_ni _ _ _ (by decide)]; omega)
  rw [au_same, au_au, e2, show p + 1 + 1 = p + 2 by omega] at o1
  have m1 := mu_y (A := au A 100 2 (p + 2)) (c := 58) (by rw [e3, hc]) (by rw [au_ni _ _ _ (by decide)]; omega)
  rw [au_same, au_au, show p + 2 + 1 = p + 3 by omega] at m1
  unfold brF brG brA
  rw [if_neg (by rw [e1]; omega), e1, h2, o1.1, o1.2, m1]
theorem brF_n1 {A : Nat → Int → Int} {cx : Int → Int} {len p : Int} (hB : tB A) (hT : txR A cx len) (hx : ∀ i, len ≤ i → cx i = -1) (h2 : A 100 2 = p) (h3 : A 100 3 = -1)
    (hl : cx p < 102 ∨ 107 < cx p ∨ 0 < A 108 (6 * tTop A + (cx p - 102))) : brF A 100 3 = p ∧ tB (brF A) := by
  have p0 : 0 ≤ p := by have := hB.2.1; omega
  have e1 : tHere A = cx p := by rw [th_cx hT hx (by omega), h2]
  unfold brF
  rw [if_pos (by rw [e1]; omega)]
  refine ⟨?_, tB_wr hB (hB.1 _ _)⟩
  rw [wr_fst _ (by omega), au_same, h2]
theorem brF_n2 {A : Nat → Int → Int} {cx : Int → Int} {len p : Int} (hB : tB A) (hT : txR A cx len) (hx : ∀ i, len ≤ i → cx i = -1) (h2 : A 100 2 = p) (h3 : A 100 3 = -1) (h7 : A 107 (tTop A) < 900)
    (hl : 102 ≤ cx p ∧ cx p ≤ 107) (hn : ¬ 0 < A 108 (6 * tTop A + (cx p - 102))) (hs : (cx (p + 1) < 48 ∨ 50 < cx (p + 1)) ∨ ¬ (cx (p + 1) < 48 ∨ 50 < cx (p + 1)) ∧ cx (p + 2) ≠ 58) : brF A 100 3 = (if cx (p + 1) < 48 ∨ 50 < cx (p + 1) then p + 1 else p + 2) ∧ tB (brF A) := by
  have p0 : 0 ≤ p := by have := hB.2.1; omega
  have e1 : tHere A = cx p := by rw [th_cx hT hx (by omega), h2]
  have e2 : tHere (au A 100 2 (p + 1)) = cx (p + 1) := th_au hT hx (by omega)
  have e3 : tHere (au A 100 2 (p + 2)) = cx (p + 2) := th_au hT hx (by omega)
  have plt : A 100 2 < A 100 0 := tHere_lt (by rw [e1]; omega)
  have hB1 : tB (au A 100 2 (A 100 2 + 1)) := tB_pl hB plt
  have hof := onF_rg hB1 (low := 48) (many := 3) ⟨by decide, by decide⟩ ⟨by decide, by decide⟩
  have hB3 : tB (brA A) := tB_mu (tB_on hB1 (by decide)) (by decide)
  have h3f : brF A 100 3 = brA A 100 3 := by
    unfold brF adF
    rw [if_neg (by rw [e1]; omega), au_ne _ _ _ _ (by decide), au_ne _ _ _ _ (by decide), au_ne _ _ _ _ (by decide), au_ne _ _ _ _ (by decide), au_ne _ _ _ _ (by decide)]
  have hBf : tB (brF A) := by
    unfold brF
    rw [if_neg (by rw [e1]; omega)]
    exact tB_au (tB_ad hB3 (by rw [brA_ne _ _ (by decide)]; omega) ⟨by omega, by omega⟩ ⟨by decide, by decide⟩) ⟨by omega, by omega⟩ (by decide) (by decide)
  refine ⟨h3f.trans ?_, hBf⟩
  unfold brA
  rw [h2]
  rcases hs with hs | ⟨hs, hc⟩
  · rw [if_pos hs, on_n (by rw [e2]; omega) (by rw [au_ni _ _ _ (by decide)]; omega), au_same, mu_fl _ (by rw [au_same]; omega), au_same]
  · have o1 := on_y (A := au A 100 2 (p + 1)) (l := 48) (m := 3) (by rw [e2]; omega) (by rw [au_ni _ _ _ (by decide)]; omega)
    rw [au_same, au_au, e2, show p + 1 + 1 = p + 2 by omega] at o1
    rw [if_neg hs, o1.1, mu_n (by rw [e3]; exact hc) (by rw [au_ni _ _ _ (by decide)]; omega), au_same, au_same]
theorem brG_row (A : Nat → Int → Int) (p o m l s : Int) (j : Nat) (i : Int) (h : j ≠ 100) : brG A p o m l s j i = if j = 116 ∧ i = o - 1 then l else if j = 110 ∧ i = 6 * m + l then -1 else if j = 109 ∧ i = 6 * m + l then s else if j = 108 ∧ i = 6 * m + l then A 107 m + 1 else if j = 107 ∧ i = m then A 107 m + 1 else A j i := by
  unfold brG adF
  rw [show au A 100 2 (p + 3) 107 m = A 107 m from au_ne _ _ _ _ (by decide), au_ite, au_ite, au_ite, au_ite, au_ite, au_ne _ _ _ _ h]
theorem brG_sc (A : Nat → Int → Int) (p o m l s i : Int) : brG A p o m l s 100 i = if i = 2 then p + 3 else A 100 i := by
  unfold brG adF
  rw [au_ne _ _ _ _ (by decide), au_ne _ _ _ _ (by decide), au_ne _ _ _ _ (by decide), au_ne _ _ _ _ (by decide), au_ne _ _ _ _ (by decide), au_ite]
  simp
/-- the steps of reading -/
def stB (base : Int) (md : Bool) (RB RC : (Nat → Int → Int) → Prop) : Prop := ∀ A, tB A → base ≤ A 100 4 → A 100 4 ≤ base + 30 → 0 ≤ A 100 14 → A 100 14 < 32 → (∀ i, 0 ≤ i → i < A 100 14 → (0 ≤ A 115 i ∧ A 115 i < 300) ∧ (0 ≤ A 116 i ∧ A 116 i < 6)) → A 100 3 < 0 →
  (A 100 4 - base = 30 → RB (tWr A (A 100 2))) →
  (A 100 4 - base ≠ 30 → tHere A ≠ 101 → tHere A ≠ 109 → (tHere A < 88 ∨ 90 < tHere A ∨ gdG A (tHere A - 88) (A 100 14).toNat 0 = 0) → (tHere A < 97 ∨ 100 < tHere A) → RB (tWr A (A 100 2))) →
  (A 100 4 - base ≠ 30 → tHere A = 101 → RC (bg1 A 0 0)) →
  (A 100 4 - base ≠ 30 → 88 ≤ tHere A → tHere A ≤ 90 → gdG A (tHere A - 88) (A 100 14).toNat 0 ≠ 0 → RC (bg1 A 1 (tHere A - 88))) →
  (A 100 4 - base ≠ 30 → tHere A = 109 → RB (bgL A)) →
  (A 100 4 - base ≠ 30 → 97 ≤ tHere A → tHere A ≤ 100 → md = true → RB (brI (bgC A (tHere A)))) →
  (A 100 4 - base ≠ 30 → 97 ≤ tHere A → tHere A ≤ 100 → md = false → RB (brI (bgG A (tHere A)))) → RB A
def stC (RB RC : (Nat → Int → Int) → Prop) : Prop := ∀ A, tB A → 0 < A 100 14 → A 100 14 ≤ 32 → A 100 3 < 0 → 0 ≤ tTop A → tTop A < 300 →
  (A 105 (tTop A) = 2 → RC (au A 100 14 (A 100 14 - 1))) →
  (A 105 (tTop A) ≠ 2 → tHere A = 44 → RB (brF (au A 100 2 (A 100 2 + 1)))) →
  (A 105 (tTop A) ≠ 2 → tHere A ≠ 44 → RC (au (muF A 125) 100 14 (A 100 14 - 1))) → RC A
/-- what reading of a type, of branches, comes to -/
def okT (cx : Int → Int) (md : Bool) (base len : Int) (RB RC : (Nat → Int → Int) → Prop) (f : Nat) : Prop := ∀ (env : List Int) (p k : Int) (bef : Int → Bool) (A : Nat → Int → Int), len - p < f → pS A cx len base env p k →
  (∀ e, pr cx md f false env p k bef = .inl e → (∀ A', fr A A' → tB A' → A' 100 3 = e → RB A' ∧ RC A') → RB A) ∧
  (∀ τ p' k', pr cx md f false env p k bef = .inr (τ, p', k') → (∀ A', fr A A' → pS A' cx len base env p' k' → kpT A A' (base + k) → kpS A A' env.length → (tG A' md τ).1 (base + k) → RC A') → RB A)
def okB (cx : Int → Int) (md : Bool) (base len : Int) (RB RC : (Nat → Int → Int) → Prop) (f : Nat) : Prop := ∀ (env : List Int) (p k m : Int) (bef : Int → Bool) (A : Nat → Int → Int), len - p < f → pS A cx len base (3 :: env) p k → tTop A = m → 0 ≤ A 107 m → A 107 m ≤ p → (∀ x, 0 ≤ x → x < 6 → (bef x = true ↔ 0 < A 108 (6 * m + x))) →
  (∀ e, pr cx md f true (3 :: env) p k bef = .inl e → (∀ A', fr A A' → tB A' → A' 100 3 = e → RB A' ∧ RC A') → RB (brF A)) ∧
  (∀ bs p' k', pr cx md f true (3 :: env) p k bef = .inr (bs, p', k') → (∀ A', fr A A' → pS A' cx len base env p' k' → kpB A A' (base + k) m bs → kpS A A' env.length → (tG A' md bs).2 m (A 107 m) (base + k) → RC A') → RB (brF A))
theorem pS_top {A : Nat → Int → Int} {cx : Int → Int} {len base p k e : Int} {env : List Int} (h : pS A cx len base (e :: env) p k) : tTop A = A 115 env.length ∧ A 100 14 - 1 = env.length ∧ base ≤ tTop A ∧ tTop A < base + k ∧ (if e = 3 then A 105 (tTop A) ≠ 2 else A 105 (tTop A) = 2 ∧ A 106 (tTop A) = e) := by
  obtain ⟨h1, h2, h3, h4, h5, h6, h7, h8, ⟨h9, h10, h11, h12⟩⟩ := h
  have e1 : A 100 14 - 1 = env.length := by rw [h6]; simp
  have e2 : tTop A = A 115 env.length := by unfold tTop; rw [e1]
  rw [e2]
  exact ⟨rfl, e1, h9.1, h9.2, h11⟩
/-- popped -/
theorem pS_pop {A Y : Nat → Int → Int} {cx : Int → Int} {len base p p' k e : Int} {env : List Int} (h : pS A cx len base (e :: env) p k) (hB : tB Y) (hf : fr A Y) (hj : ∀ j i, j ≠ 100 → Y j i = A j i) (h2 : Y 100 2 = p') (h3 : Y 100 3 = -1) (h4 : Y 100 4 = A 100 4) (h14 : Y 100 14 = A 100 14 - 1) : pS Y cx len base env p' k := by
  obtain ⟨-, e1, -⟩ := pS_top h
  obtain ⟨g1, g2, g3, g4, g5, g6, g7, g8, ⟨g9, g10, g11, g12⟩⟩ := h
  exact ⟨hB, g2.to hf, h2, h3, h4.trans g5, h14.trans e1, by simp at g7; omega, g8, g12.to (by omega) (fun i _ => ⟨hj _ _ (by decide), hj _ _ (by decide)⟩) (fun x _ _ => ⟨hj _ _ (by decide), hj _ _ (by decide)⟩)⟩
theorem kpT_sc {A A1 A2 : Nat → Int → Int} {n : Int} (h : kpT A A1 n) (hj : ∀ j i, j ≠ 100 → A2 j i = A1 j i) : kpT A A2 n := fun x hx => by
  rw [hj 105 _ (by decide), hj 106 _ (by decide), hj 107 _ (by decide)]
  refine ⟨(h x hx).1, (h x hx).2.1, (h x hx).2.2.1, fun l l0 l1 => ?_⟩
  rw [hj 108 _ (by decide), hj 109 _ (by decide), hj 110 _ (by decide)]
  exact (h x hx).2.2.2 l l0 l1
/-- the branches -/
theorem okB_s {cx : Int → Int} {md : Bool} {base len : Int} {RB RC : (Nat → Int → Int) → Prop} {f : Nat} (hx : ∀ i, len ≤ i → cx i = -1) (b0 : 0 ≤ base) (b1 : base ≤ 200) (hC : stC RB RC) (ihT : okT cx md base len RB RC f) (ihB : okB cx md base len RB RC f) : okB cx md base len RB RC (f + 1) := by
  intro env p k m bef A hf hP hm h70 h71 hbef
  obtain ⟨t1, t2, t3, t4, t5⟩ := pS_top hP
  obtain ⟨s1, s2, s3, s4, s5, s6, s7, s8, s9⟩ := id hP
  have p0 : 0 ≤ p := by have := s1.2.1; omega
  have hl100 : len ≤ 100 := by have := s1.2.2.1; have := s2.1; omega
  have hpl : p ≤ len := by have := s1.2.1; have := s2.1; omega
  have hcx : ∀ i, 0 ≤ cx i → i < len := fun i hi => by
    apply Decidable.byContradiction
    intro hc
    have := hx i (by omega)
    omega
  rw [hm] at t3 t4 t5
  by_cases hl : cx p < 102 ∨ 107 < cx p ∨ bef (cx p - 102) = true
  · have hl' : cx p < 102 ∨ 107 < cx p ∨ 0 < A 108 (6 * tTop A + (cx p - 102)) := by
      by_cases h6 : cx p < 102 ∨ 107 < cx p
      · omega
      · rcases hl with h | h | h
        · exact Or.inl h
        · exact Or.inr (Or.inl h)
        · exact Or.inr (Or.inr (by rw [hm]; exact (hbef _ (by omega) (by omega)).mp h))
    refine ⟨fun e h k0 => ?_, fun bs p' k' h => ?_⟩
    · rw [pr_B, if_pos hl] at h
      cases h
      obtain ⟨q1, q2⟩ := brF_n1 s1 s2 hx s3 s4 hl'
      exact (k0 _ (fr_br (fr.rf A)) q2 q1).1
    · rw [pr_B, if_pos hl] at h
      cases h
  have hl' : 102 ≤ cx p ∧ cx p ≤ 107 := by omega
  have hn : ¬ 0 < A 108 (6 * tTop A + (cx p - 102)) := by
    rw [hm]
    intro h
    exact hl (Or.inr (Or.inr ((hbef _ (by omega) (by omega)).mpr h)))
  by_cases hs : cx (p + 1) < 48 ∨ 50 < cx (p + 1)
  · refine ⟨fun e h k0 => ?_, fun bs p' k' h => ?_⟩
    · rw [pr_B, if_neg hl, if_pos hs] at h
      cases h
      obtain ⟨q1, q2⟩ := brF_n2 s1 s2 hx s3 s4 (by rw [hm]; omega) hl' hn (Or.inl hs)
      rw [if_pos hs] at q1
      exact (k0 _ (fr_br (fr.rf A)) q2 q1).1
    · rw [pr_B, if_neg hl, if_pos hs] at h
      cases h
  by_cases hc : cx (p + 2) = 58
  case neg =>
    refine ⟨fun e h k0 => ?_, fun bs p' k' h => ?_⟩
    · rw [pr_B, if_neg hl, if_neg hs, if_pos hc] at h
      cases h
      obtain ⟨q1, q2⟩ := brF_n2 s1 s2 hx s3 s4 (by rw [hm]; omega) hl' hn (Or.inr ⟨hs, hc⟩)
      rw [if_neg hs] at q1
      exact (k0 _ (fr_br (fr.rf A)) q2 q1).1
    · rw [pr_B, if_neg hl, if_neg hs, if_pos hc] at h
      cases h
  have h3l : p + 2 < len := hcx _ (by omega)
  have e0 := brF_ok s1 s2 hx s3 s4 hl' hn (by omega) hc
  rw [hm] at e0
  have hA1 : fr A (brF A) := fr_br (fr.rf A)
  rw [e0] at hA1 ⊢
  generalize hA1d : brG A p (A 100 14) m (cx p - 102) (cx (p + 1) - 48) = A1 at hA1 ⊢
  have row : ∀ (j : Nat) (i : Int), j ≠ 100 → A1 j i = if j = 116 ∧ i = A 100 14 - 1 then cx p - 102 else if j = 110 ∧ i = 6 * m + (cx p - 102) then -1 else if j = 109 ∧ i = 6 * m + (cx p - 102) then cx (p + 1) - 48 else if j = 108 ∧ i = 6 * m + (cx p - 102) then A 107 m + 1 else if j = 107 ∧ i = m then A 107 m + 1 else A j i := fun j i h => by rw [← hA1d]; exact brG_row _ _ _ _ _ _ _ _ h
  have sc : ∀ i, A1 100 i = if i = 2 then p + 3 else A 100 i := fun i => by rw [← hA1d]; exact brG_sc _ _ _ _ _ _ _
  have hB1 : tB A1 := by
    rw [← hA1d]
    unfold brG
    exact tB_au (tB_ad (tB_au2 s1 (by omega) (by have := s2.1; omega)) (by rw [au_ne _ _ _ _ (by decide)]; omega) ⟨by omega, by omega⟩ ⟨by decide, by decide⟩) ⟨by omega, by omega⟩ (by decide) (by decide)
  have a14 : A1 100 14 = A 100 14 := by rw [sc, if_neg (by decide)]
  have k5 : ∀ x, A1 105 x = A 105 x ∧ A1 106 x = A 106 x := fun x => ⟨by rw [row _ _ (by decide)]; simp, by rw [row _ _ (by decide)]; simp⟩
  have k15 : ∀ x, A1 115 x = A 115 x := fun x => by rw [row _ _ (by decide)]; simp
  have k16 : ∀ x, A1 116 x = if x = A 100 14 - 1 then cx p - 102 else A 116 x := fun x => by rw [row _ _ (by decide)]; simp
  have hm1 : tTop A1 = m := by unfold tTop at hm ⊢; rw [a14, k15, hm]
  have hP1 : pS A1 cx len base (3 :: env) (p + 3) k := by
    refine ⟨hB1, s2.to hA1, by rw [sc, if_pos rfl], by rw [sc, if_neg (by decide), s4], by rw [sc, if_neg (by decide), s5], by rw [a14, s6], s7, s8, ?_⟩
    obtain ⟨g9, g10, g11, g12⟩ := s9
    refine ⟨by rw [k15]; exact g9, by rw [k16, ← t2, if_pos rfl]; omega, by rw [k15, (k5 _).1, (k5 _).2]; exact g11, g12.to (by omega) (fun i hi => ?_) (fun x _ _ => k5 x)⟩
    rw [k15, k16, t2, if_neg (by omega)]
    exact ⟨rfl, rfl⟩
  obtain ⟨T1, T2⟩ := ihT (3 :: env) (p + 3) k (fun _ => false) A1 (by omega) hP1
  have u14 : 0 < A1 100 14 := by rw [a14, s6]; simp only [List.length_cons]; omega
  have slot : A1 116 (A1 100 14 - 1) = cx p - 102 := by rw [k16, a14, if_pos rfl]
  have hd2 : (((3 * (cx p - 102) + (cx (p + 1) - 48)).toNat / 3 : Nat) : Int) = cx p - 102 := by omega
  have hd3 : (((3 * (cx p - 102) + (cx (p + 1) - 48)).toNat % 3 : Nat) : Int) = cx (p + 1) - 48 := by omega
  -- what the type before leaves behind
  have back : ∀ (τ : Tr) (p1 k1 : Int), pr cx md f false (3 :: env) (p + 3) k (fun _ => false) = .inr (τ, p1, k1) → ∀ A2, fr A1 A2 → pS A2 cx len base (3 :: env) p1 k1 → kpT A1 A2 (base + k) → kpS A1 A2 (env.length + 1) →
      (0 < A2 100 14 ∧ A2 100 14 ≤ 32 ∧ tTop A2 = m ∧ A2 105 m ≠ 2) ∧ A2 107 m = A 107 m + 1 ∧ (∀ x, x < base + k → x ≠ m → sameN A A2 x) ∧ (A2 105 m = A 105 m ∧ A2 106 m = A 106 m) ∧ (∀ l, 0 ≤ l → l < 6 → A2 108 (6 * m + l) = (if l = cx p - 102 then A 107 m + 1 else A 108 (6 * m + l)) ∧ A2 109 (6 * m + l) = (if l = cx p - 102 then cx (p + 1) - 48 else A 109 (6 * m + l)) ∧ A2 110 (6 * m + l) = (if l = cx p - 102 then base + k else A 110 (6 * m + l))) ∧ kpS A A2 env.length := by
    intro τ p1 k1 _ A2 hf2 hP2 hk2 hs2
    obtain ⟨w1, w2, w3, w4, w5⟩ := pS_top hP2
    obtain ⟨v1, v2, v3, v4, v5, v6, v7, v8, v9⟩ := id hP2
    have hm2 : tTop A2 = m := by rw [w1, (hs2 env.length (by omega)).1, k15, ← t1, hm]
    have hsame : ∀ x, x < base + k → x ≠ m → sameN A A2 x := by
      intro x hxn hxm
      obtain ⟨z1, z2, z3, z4⟩ := hk2 x hxn
      refine ⟨z1.trans (k5 x).1, z2.trans (k5 x).2, z3.trans (by rw [row _ _ (by decide)]; simp [hxm]), fun l l0 l1 => ?_⟩
      obtain ⟨z5, z6, z7⟩ := z4 l l0 l1
      refine ⟨z5.trans (by rw [row _ _ (by decide), if_neg (by omega), if_neg (by omega), if_neg (by omega), if_neg (by omega), if_neg (by omega)]), z6.trans (by rw [row _ _ (by decide), if_neg (by omega), if_neg (by omega), if_neg (by omega), if_neg (by omega), if_neg (by omega)]), z7.trans ?_⟩
      rw [if_neg (by rw [hm1, slot]; omega), row _ _ (by decide), if_neg (by omega), if_neg (by omega), if_neg (by omega), if_neg (by omega), if_neg (by omega)]
    obtain ⟨y1, y2, y3, y4⟩ := hk2 m (by omega)
    refine ⟨⟨by rw [v6]; simp only [List.length_cons]; omega, by rw [v6]; simp only [List.length_cons] at v7 ⊢; omega, hm2, by rw [hm2, if_pos rfl] at w5; exact w5⟩, y3.trans (by rw [row _ _ (by decide)]; simp), hsame, ⟨y1.trans (k5 m).1, y2.trans (k5 m).2⟩, fun l l0 l1 => ?_, fun i hi => ?_⟩
    · obtain ⟨z5, z6, z7⟩ := y4 l l0 l1
      refine ⟨z5.trans ?_, z6.trans ?_, z7.trans ?_⟩
      · rw [row _ _ (by decide), if_neg (by omega), if_neg (by omega), if_neg (by omega)]
        by_cases e : l = cx p - 102
        · rw [if_pos (by omega), if_pos e]
        · rw [if_neg (by omega), if_neg (by omega), if_neg e]
      · rw [row _ _ (by decide), if_neg (by omega), if_neg (by omega)]
        by_cases e : l = cx p - 102
        · rw [if_pos (by omega), if_pos e]
        · rw [if_neg (by omega), if_neg (by omega), if_neg (by omega), if_neg e]
      · rw [hm1, slot]
        by_cases e : l = cx p - 102
        · rw [if_pos (by omega), if_pos e]
        · rw [if_neg (by omega), row _ _ (by decide), if_neg (by omega), if_neg (by omega), if_neg (by omega), if_neg (by omega), if_neg (by omega), if_neg e]
    · obtain ⟨z1, z2⟩ := hs2 i (by omega)
      rw [z1, z2, k15, k16, if_neg (by rw [t2]; omega)]
      exact ⟨rfl, rfl⟩
  have pru := pr_B cx md f (3 :: env) p k bef
  rw [if_neg hl, if_neg hs, if_neg (fun h => h hc)] at pru
  have pok := (pr_ok cx md f (3 :: env) (p + 3) k (fun _ => false) (by omega) (by omega)).1
  cases hr : pr cx md f false (3 :: env) (p + 3) k (fun _ => false) with
  | inl e1 =>
    rw [hr] at pru
    refine ⟨fun e h k0 => T1 e1 hr (fun A' a b c => k0 A' (hA1.tr a) b (by rw [pru] at h; cases h; exact c)), fun bs p' k' h => by rw [pru] at h; cases h⟩
  | inr q =>
    obtain ⟨τ, p1, k1⟩ := q
    obtain ⟨o1, o2, o3, o4⟩ := pok _ _ _ hr
    rw [hr] at pru
    dsimp only at pru
    have ch1 : (0 : Int) ≤ chT md τ := by omega
    by_cases hcm : cx p1 = 44
    · rw [if_pos hcm] at pru
      have hstep : ∀ A2, fr A1 A2 → pS A2 cx len base (3 :: env) p1 k1 → kpT A1 A2 (base + k) → kpS A1 A2 (env.length + 1) → RB (brF (au A2 100 2 (p1 + 1))) → RC A2 := by
        intro A2 hf2 hP2 hk2 hs2 hgo
        obtain ⟨⟨x1, x2, x3, x4⟩, -⟩ := back τ p1 k1 hr A2 hf2 hP2 hk2 hs2
        obtain ⟨v1, v2, v3, v4, v5, v6, v7, v8, v9⟩ := id hP2
        refine hC A2 v1 x1 x2 (by omega) (by omega) (by omega) (fun h => absurd h (by rw [x3]; exact x4)) (fun _ _ => by rw [v3]; exact hgo) (fun _ h => absurd ?_ h)
        rw [th_cx v2 hx (by rw [v3]; omega), v3, hcm]
      have hB2 : ∀ A2, fr A1 A2 → pS A2 cx len base (3 :: env) p1 k1 → kpT A1 A2 (base + k) → kpS A1 A2 (env.length + 1) → pS (au A2 100 2 (p1 + 1)) cx len base (3 :: env) (p1 + 1) k1 ∧ tTop (au A2 100 2 (p1 + 1)) = m ∧ (∀ x, 0 ≤ x → x < 6 → ((decide (x = cx p - 102) || bef x) = true ↔ 0 < au A2 100 2 (p1 + 1) 108 (6 * m + x))) := by
        intro A2 hf2 hP2 hk2 hs2
        obtain ⟨⟨x1, x2, x3, x4⟩, x5, x6, x7, x8, x9⟩ := back τ p1 k1 hr A2 hf2 hP2 hk2 hs2
        obtain ⟨v1, v2, v3, v4, v5, v6, v7, v8, v9⟩ := id hP2
        have hp1 : p1 < len := hcx _ (by omega)
        refine ⟨⟨tB_au2 v1 (by omega) (by have := v2.1; omega), v2.to (fr_au (fr.rf A2) (by omega)), au_same _ _ _ _, by rw [au_ni _ _ _ (by decide), v4], by rw [au_ni _ _ _ (by decide), v5], by rw [au_ni _ _ _ (by decide), v6], v7, v8, v9.to (by omega) (fun i _ => ⟨au_ne _ _ _ _ (by decide), au_ne _ _ _ _ (by decide)⟩) (fun x _ _ => ⟨au_ne _ _ _ _ (by decide), au_ne _ _ _ _ (by decide)⟩)⟩, ?_, fun x x0 x1 => ?_⟩
        · unfold tTop at x3 ⊢
          rw [au_ni _ _ _ (by decide), au_ne _ _ _ _ (by decide), x3]
        · rw [au_ne _ _ _ _ (by decide), (x8 x x0 x1).1]
          by_cases e : x = cx p - 102
          · rw [if_pos e]; simp [e]; omega
          · rw [if_neg e]; simp [e]; exact hbef x x0 x1
      cases hr2 : pr cx md f true (3 :: env) (p1 + 1) k1 (fun x => decide (x = cx p - 102) || bef x) with
      | inl e2 =>
        rw [hr2] at pru
        dsimp only at pru
        refine ⟨fun e h k0 => T2 τ p1 k1 hr (fun A2 hf2 hP2 hk2 hs2 hg2 => hstep A2 hf2 hP2 hk2 hs2 ?_), fun bs p' k' h => by rw [pru] at h; cases h⟩
        rw [pru] at h
        cases h
        obtain ⟨c1, c2, c3⟩ := hB2 A2 hf2 hP2 hk2 hs2
        obtain ⟨⟨x1, x2, x3, x4⟩, x5, x6, x7, x8, x9⟩ := back τ p1 k1 hr A2 hf2 hP2 hk2 hs2
        exact (ihB env (p1 + 1) k1 m _ _ (by omega) c1 c2 (by rw [au_ne _ _ _ _ (by decide), x5]; omega) (by rw [au_ne _ _ _ _ (by decide), x5]; omega) c3).1 _ hr2 (fun A' a b c => k0 A' (hA1.tr (hf2.tr (fr.tr (fr_au (fr.rf A2) (by omega)) a))) b c)
      | inr q2 =>
        obtain ⟨bs', p2, k2⟩ := q2
        rw [hr2] at pru
        dsimp only at pru
        obtain ⟨r1, r2, r3, r4, r5, r6⟩ := (pr_ok cx md f (3 :: env) (p1 + 1) k1 (fun x => decide (x = cx p - 102) || bef x) (by omega) o4).2 _ _ _ hr2
        refine ⟨fun e h => (by rw [pru] at h; cases h), fun bs p' k' h k0 => T2 τ p1 k1 hr (fun A2 hf2 hP2 hk2 hs2 hg2 => hstep A2 hf2 hP2 hk2 hs2 ?_)⟩
        rw [pru] at h
        cases h
        obtain ⟨c1, c2, c3⟩ := hB2 A2 hf2 hP2 hk2 hs2
        obtain ⟨⟨x1, x2, x3, x4⟩, x5, x6, x7, x8, x9⟩ := back τ p1 k1 hr A2 hf2 hP2 hk2 hs2
        refine (ihB env (p1 + 1) k1 m _ _ (by omega) c1 c2 (by rw [au_ne _ _ _ _ (by decide), x5]; omega) (by rw [au_ne _ _ _ _ (by decide), x5]; omega) c3).2 _ _ _ hr2 (fun A' a b c e1 e2 => ?_)
        rw [au_ne _ _ _ _ (by decide), x5] at e2
        obtain ⟨y1, y2, y3, y4⟩ := c
        have hno : hasL bs' (cx p - 102) = false := r5 _ (by simp)
        have y1' : ∀ x, x < base + k1 → x ≠ m → sameN A2 A' x := fun x h1 h2 => by
          obtain ⟨z1, z2, z3, z4⟩ := y1 x h1 h2
          rw [au_ne _ _ _ _ (by decide)] at z1 z2 z3
          refine ⟨z1, z2, z3, fun l l0 l1 => ?_⟩
          have := z4 l l0 l1
          rw [au_ne _ _ _ _ (by decide), au_ne _ _ _ _ (by decide), au_ne _ _ _ _ (by decide)] at this
          exact this
        have y4' : ∀ l, 0 ≤ l → l < 6 → hasL bs' l = false → A' 108 (6 * m + l) = A2 108 (6 * m + l) ∧ A' 109 (6 * m + l) = A2 109 (6 * m + l) ∧ A' 110 (6 * m + l) = A2 110 (6 * m + l) := fun l l0 l1 h => by
          have := y4 l l0 l1 h
          rw [au_ne _ _ _ _ (by decide), au_ne _ _ _ _ (by decide), au_ne _ _ _ _ (by decide)] at this
          exact this
        rw [au_ne _ _ _ _ (by decide)] at y2 y3
        refine k0 A' (hA1.tr (hf2.tr (fr.tr (fr_au (fr.rf A2) (by omega)) a))) b ⟨fun x h1 h2 => ?_, y2.trans x7.1, y3.trans x7.2, fun l l0 l1 h => ?_⟩ (fun i hi => ?_) ?_
        · obtain ⟨z1, z2, z3, z4⟩ := y1' x (by omega) h2
          obtain ⟨z5, z6, z7, z8⟩ := x6 x h1 h2
          exact ⟨z1.trans z5, z2.trans z6, z3.trans z7, fun l l0 l1 => ⟨(z4 l l0 l1).1.trans (z8 l l0 l1).1, (z4 l l0 l1).2.1.trans (z8 l l0 l1).2.1, (z4 l l0 l1).2.2.trans (z8 l l0 l1).2.2⟩⟩
        · rw [hasL_br, hd2, Bool.or_eq_false_iff, decide_eq_false_iff_not] at h
          obtain ⟨z1, z2, z3⟩ := y4' l l0 l1 h.2
          obtain ⟨z5, z6, z7⟩ := x8 l l0 l1
          rw [if_neg (fun e => h.1 e.symm)] at z5 z6 z7
          exact ⟨z1.trans z5, z2.trans z6, z3.trans z7⟩
        · obtain ⟨z1, z2⟩ := e1 i hi
          rw [au_ne _ _ _ _ (by decide)] at z1 z2
          exact ⟨z1.trans (x9 i hi).1, z2.trans (x9 i hi).2⟩
        · obtain ⟨z1, z2, z3⟩ := y4' (cx p - 102) (by omega) (by omega) hno
          obtain ⟨z5, z6, z7⟩ := x8 (cx p - 102) (by omega) (by omega)
          rw [if_pos rfl] at z5 z6 z7
          simp only [tG]
          rw [hd2, hd3]
          refine ⟨z1.trans z5, z2.trans z6, z3.trans z7, (tG_frame A2 A' md τ).1 _ o3 (fun x h1 h2 => y1' x (by omega) (by omega)) hg2, ?_⟩
          rw [show base + k + szT τ = base + k1 by omega]
          exact e2
    · rw [if_neg hcm] at pru
      have hstep : ∀ A2, fr A1 A2 → pS A2 cx len base (3 :: env) p1 k1 → kpT A1 A2 (base + k) → kpS A1 A2 (env.length + 1) → RC (au (muF A2 125) 100 14 (A2 100 14 - 1)) → RC A2 := by
        intro A2 hf2 hP2 hk2 hs2 hgo
        obtain ⟨⟨x1, x2, x3, x4⟩, -⟩ := back τ p1 k1 hr A2 hf2 hP2 hk2 hs2
        obtain ⟨v1, v2, v3, v4, v5, v6, v7, v8, v9⟩ := id hP2
        refine hC A2 v1 x1 x2 (by omega) (by omega) (by omega) (fun h => absurd h (by rw [x3]; exact x4)) (fun _ h => absurd ?_ hcm) (fun _ _ => hgo)
        rw [th_cx v2 hx (by rw [v3]; omega), v3] at h
        exact h
      by_cases hcl : cx p1 = 125
      · rw [if_pos hcl] at pru
        refine ⟨fun e h => (by rw [pru] at h; cases h), fun bs p' k' h k0 => T2 τ p1 k1 hr (fun A2 hf2 hP2 hk2 hs2 hg2 => hstep A2 hf2 hP2 hk2 hs2 ?_)⟩
        rw [pru] at h
        cases h
        obtain ⟨⟨x1, x2, x3, x4⟩, x5, x6, x7, x8, x9⟩ := back τ p1 k1 hr A2 hf2 hP2 hk2 hs2
        obtain ⟨v1, v2, v3, v4, v5, v6, v7, v8, v9⟩ := id hP2
        have hp1 : p1 < len := hcx _ (by omega)
        rw [mu_y (by rw [th_cx v2 hx (by rw [v3]; omega), v3, hcl]) (by omega), v3]
        have hj : ∀ j i, j ≠ 100 → au (au A2 100 2 (p1 + 1)) 100 14 (A2 100 14 - 1) j i = A2 j i := fun j i h => by rw [au_ne _ _ _ _ h, au_ne _ _ _ _ h]
        have hfr : fr A2 (au (au A2 100 2 (p1 + 1)) 100 14 (A2 100 14 - 1)) := fr_au (fr_au (fr.rf A2) (by omega)) (by omega)
        have hBB : tB (au (au A2 100 2 (p1 + 1)) 100 14 (A2 100 14 - 1)) := tB_sc (tB_au2 v1 (by omega) (by have := v2.1; omega)) ⟨by omega, by omega⟩ (by decide) (by decide)
        refine k0 _ (hA1.tr (hf2.tr hfr)) (pS_pop hP2 hBB hfr hj (by rw [au_ni _ _ _ (by decide), au_same]) (by rw [au_ni _ _ _ (by decide), au_ni _ _ _ (by decide), v4]) (by rw [au_ni _ _ _ (by decide), au_ni _ _ _ (by decide)]) (au_same _ _ _ _)) ⟨fun x h1 h2 => ?_, (hj _ _ (by decide)).trans x7.1, (hj _ _ (by decide)).trans x7.2, fun l l0 l1 h => ?_⟩ (fun i hi => ⟨(hj _ _ (by decide)).trans (x9 i hi).1, (hj _ _ (by decide)).trans (x9 i hi).2⟩) ?_
        · obtain ⟨z5, z6, z7, z8⟩ := x6 x h1 h2
          exact ⟨(hj _ _ (by decide)).trans z5, (hj _ _ (by decide)).trans z6, (hj _ _ (by decide)).trans z7, fun l l0 l1 => ⟨(hj _ _ (by decide)).trans (z8 l l0 l1).1, (hj _ _ (by decide)).trans (z8 l l0 l1).2.1, (hj _ _ (by decide)).trans (z8 l l0 l1).2.2⟩⟩
        · rw [hasL_br, hd2, Bool.or_eq_false_iff, decide_eq_false_iff_not] at h
          obtain ⟨z5, z6, z7⟩ := x8 l l0 l1
          rw [if_neg (fun e => h.1 e.symm)] at z5 z6 z7
          exact ⟨(hj _ _ (by decide)).trans z5, (hj _ _ (by decide)).trans z6, (hj _ _ (by decide)).trans z7⟩
        · obtain ⟨z5, z6, z7⟩ := x8 (cx p - 102) (by omega) (by omega)
          rw [if_pos rfl] at z5 z6 z7
          simp only [tG]
          rw [hd2, hd3]
          refine ⟨(hj _ _ (by decide)).trans z5, (hj _ _ (by decide)).trans z6, (hj _ _ (by decide)).trans z7, (tG_frame A2 _ md τ).1 _ o3 (fun x h1 h2 => ⟨hj _ _ (by decide), hj _ _ (by decide), hj _ _ (by decide), fun l l0 l1 => ⟨hj _ _ (by decide), hj _ _ (by decide), hj _ _ (by decide)⟩⟩) hg2, (hj _ _ (by decide)).trans x5⟩
      · rw [if_neg hcl] at pru
        refine ⟨fun e h k0 => T2 τ p1 k1 hr (fun A2 hf2 hP2 hk2 hs2 hg2 => hstep A2 hf2 hP2 hk2 hs2 ?_), fun bs p' k' h => by rw [pru] at h; cases h⟩
        rw [pru] at h
        cases h
        obtain ⟨v1, v2, v3, v4, v5, v6, v7, v8, v9⟩ := id hP2
        refine (k0 _ (hA1.tr (hf2.tr (fr_au (fr_mu (fr.rf A2)) (by omega)))) (tB_sc (tB_mu v1 (by decide)) (by rw [v6]; simp only [List.length_cons] at v7 ⊢; exact ⟨by omega, by omega⟩) (by decide) (by decide)) ?_).2
        rw [au_ni _ _ _ (by decide), mu_n (by rw [th_cx v2 hx (by rw [v3]; omega), v3]; exact hcl) (by omega), au_same, v3]

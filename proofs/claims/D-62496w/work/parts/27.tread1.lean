/-! the twin's reading: what its steps do to the table -/
/-- nothing but what reading writes has changed -/
def fr (A A' : Nat → Int → Int) : Prop := ∀ j i, (j < 105 ∨ 110 < j) → j ≠ 115 → j ≠ 116 → (j = 100 → i ≠ 2 ∧ i ≠ 3 ∧ i ≠ 4 ∧ i ≠ 14) → A' j i = A j i
theorem fr.rf (A : Nat → Int → Int) : fr A A := fun _ _ _ _ _ _ => rfl
theorem fr.tr {A B C : Nat → Int → Int} (h1 : fr A B) (h2 : fr B C) : fr A C := fun j i a b c e => (h2 j i a b c e).trans (h1 j i a b c e)
theorem fr_au {A B : Nat → Int → Int} (h : fr A B) {j : Nat} {i x : Int} (hj : (105 ≤ j ∧ j ≤ 110) ∨ j = 115 ∨ j = 116 ∨ (j = 100 ∧ (i = 2 ∨ i = 3 ∨ i = 4 ∨ i = 14))) : fr A (au B j i x) := fun j' i' a b c e => by
  rw [au_ite, if_neg (by omega)]
  exact h j' i' a b c e
theorem fr_fil {A B : Nat → Int → Int} (h : fr A B) {lo hi x : Int} : fr A (fil B 108 lo hi x) := fun j' i' a b c e => by
  rw [fil_ne _ _ _ _ _ (by omega)]
  exact h j' i' a b c e
theorem fr_wr {A B : Nat → Int → Int} (h : fr A B) {x : Int} : fr A (tWr B x) := fr_au h (by omega)
theorem fr_mu {A B : Nat → Int → Int} (h : fr A B) {c : Int} : fr A (muF B c) := by
  unfold muF
  split
  · exact fr_au h (by omega)
  · exact fr_wr h
theorem fr_on {A B : Nat → Int → Int} (h : fr A B) {l m : Int} : fr A (onA B l m) := by
  unfold onA
  split
  · exact fr_wr h
  · exact fr_au h (by omega)
theorem fr_fr {A B : Nat → Int → Int} (h : fr A B) {k w : Int} : fr A (frF B k w) := by
  unfold frF
  exact fr_au (fr_fil (fr_au (fr_au (fr_au h (by omega)) (by omega)) (by omega))) (by omega)
theorem fr_bg1 {A B : Nat → Int → Int} (h : fr A B) {k w : Int} : fr A (bg1 B k w) := by
  unfold bg1
  split
  · exact fr_au (fr_fr (fr_au h (by omega))) (by omega)
  · exact fr_fr (fr_au h (by omega))
theorem fr_opn {A B : Nat → Int → Int} (h : fr A B) {n : Int} : fr A (opn B n) := fr_au (fr_au (fr_au h (by omega)) (by omega)) (by omega)
theorem fr_br {A B : Nat → Int → Int} (h : fr A B) : fr A (brF B) := by
  unfold brF
  split
  · exact fr_wr h
  · unfold adF brA
    exact fr_au (fr_au (fr_au (fr_au (fr_au (fr_mu (fr_on (fr_au h (by omega)))) (by omega)) (by omega)) (by omega)) (by omega)) (by omega)
theorem fr_brI {A B : Nat → Int → Int} (h : fr A B) : fr A (brI B) := by
  unfold brI
  split
  · exact fr_br h
  · exact h
/-- once there is a fault, nothing moves -/
theorem wr_fl {A : Nat → Int → Int} (x : Int) (h : 0 ≤ A 100 3) : tWr A x = A := by
  unfold tWr
  rw [if_neg (by omega), au_self]
theorem wr_fst {A : Nat → Int → Int} (x : Int) (h : A 100 3 < 0) : tWr A x = au A 100 3 x := by
  unfold tWr
  rw [if_pos h]
theorem mu_fl {A : Nat → Int → Int} (c : Int) (h : 0 ≤ A 100 3) : muF A c = A := by
  unfold muF
  rw [if_neg (by omega), wr_fl _ h]
theorem mu_y {A : Nat → Int → Int} {c : Int} (hc : tHere A = c) (h : A 100 3 < 0) : muF A c = au A 100 2 (A 100 2 + 1) := by
  unfold muF
  rw [if_pos ⟨hc, h⟩]
theorem mu_n {A : Nat → Int → Int} {c : Int} (hc : tHere A ≠ c) (h : A 100 3 < 0) : muF A c = au A 100 3 (A 100 2) := by
  unfold muF
  rw [if_neg (fun h => hc h.1), wr_fst _ h]
theorem on_fl {A : Nat → Int → Int} (l m : Int) (h : 0 ≤ A 100 3) : onA A l m = A := by
  unfold onA
  rw [if_pos (Or.inr h), wr_fl _ h]
theorem on_y {A : Nat → Int → Int} {l m : Int} (hc : l ≤ tHere A ∧ tHere A < l + m) (h : A 100 3 < 0) : onA A l m = au A 100 2 (A 100 2 + 1) ∧ onF A l m = tHere A - l := by
  unfold onA onF
  rw [if_neg (by omega), if_neg (by omega)]
  exact ⟨rfl, rfl⟩
theorem on_n {A : Nat → Int → Int} {l m : Int} (hc : tHere A < l ∨ l + m ≤ tHere A) (h : A 100 3 < 0) : onA A l m = au A 100 3 (A 100 2) := by
  unfold onA
  rw [if_pos (by omega), wr_fst _ h]
/-- what stands at the place, by the text -/
def txR (A : Nat → Int → Int) (cx : Int → Int) (len : Int) : Prop := A 100 0 = len ∧ ∀ i, 0 ≤ i → i < len → A 101 i = cx i
theorem txR.to {A A' : Nat → Int → Int} {cx : Int → Int} {len : Int} (h : txR A cx len) (hf : fr A A') : txR A' cx len := by
  refine ⟨(hf 100 0 (by omega) (by decide) (by decide) (by omega)).trans h.1, fun i i0 i1 => (hf 101 i (by omega) (by decide) (by decide) (by omega)).trans (h.2 i i0 i1)⟩
theorem th_cx {A : Nat → Int → Int} {cx : Int → Int} {len : Int} (h : txR A cx len) (hx : ∀ i, len ≤ i → cx i = -1) (p0 : 0 ≤ A 100 2) : tHere A = cx (A 100 2) := by
  unfold tHere
  split
  · exact h.2 _ p0 (by rw [← h.1]; assumption)
  · exact (hx _ (by have := h.1; omega)).symm
/-- the row of open places, as env has it -/
def stkR (A : Nat → Int → Int) (base k : Int) : List Int → Prop
  | [] => True
  | e :: r => (base ≤ A 115 r.length ∧ A 115 r.length < base + k) ∧ (0 ≤ A 116 r.length ∧ A 116 r.length < 6) ∧ (if e = 3 then A 105 (A 115 r.length) ≠ 2 else A 105 (A 115 r.length) = 2 ∧ A 106 (A 115 r.length) = e) ∧ stkR A base k r
theorem stkR.to {A A' : Nat → Int → Int} {base k k' : Int} (hk : k ≤ k') : ∀ {env : List Int}, stkR A base k env → (∀ i : Nat, i < env.length → A' 115 i = A 115 i ∧ A' 116 i = A 116 i) → (∀ x, base ≤ x → x < base + k → A' 105 x = A 105 x ∧ A' 106 x = A 106 x) → stkR A' base k' env
  | [], _, _, _ => trivial
  | e :: r, h, h1, h2 => by
    obtain ⟨a, b, c, e4⟩ := h
    obtain ⟨e1, e2⟩ := h1 r.length (by simp)
    obtain ⟨e5, e6⟩ := h2 (A 115 r.length) a.1 a.2
    refine ⟨by rw [e1]; omega, by rw [e2]; exact b, by rw [e1, e5, e6]; exact c, stkR.to hk e4 (fun i hi => h1 i (by simp; omega)) h2⟩
theorem stkR.in {A : Nat → Int → Int} {base k : Int} : ∀ {env : List Int}, stkR A base k env → ∀ i : Int, 0 ≤ i → i < env.length → (base ≤ A 115 i ∧ A 115 i < base + k) ∧ (0 ≤ A 116 i ∧ A 116 i < 6)
  | [], _, i, i0, i1 => by simp at i1; omega
  | e :: r, h, i, i0, i1 => by
    obtain ⟨a, b, c, e4⟩ := h
    by_cases hi : i = r.length
    · rw [hi]; exact ⟨a, b⟩
    · exact stkR.in e4 i i0 (by simp at i1; omega)
theorem gd_std {A : Nat → Int → Int} {base k v : Int} (hv : v ≠ 3) : ∀ (env : List Int) (m : Bool), stkR A base k env → gdG A v env.length (if m = true then 1 else 0) = if std env v m = true then 1 else 0
  | [], m, _ => by simp [gdG, std]
  | e :: r, m, h => by
    obtain ⟨a, b, c, e4⟩ := h
    show gdG A v (r.length + 1) _ = _
    rw [gdG_s]
    unfold std
    by_cases he : e = 3
    · rw [if_pos he] at c ⊢
      rw [if_neg (fun h => c h.1), if_pos (Or.inr c)]
      exact gd_std hv r true e4
    · rw [if_neg he] at c ⊢
      by_cases hev : e = v
      · rw [if_pos ⟨c.1, by rw [c.2, hev]⟩, if_pos hev]
      · rw [if_neg (fun h => hev (by rw [← c.2]; exact h.2)), if_neg hev]
        cases m with
        | true => rw [if_pos (Or.inl (by decide))]; exact gd_std hv r true e4
        | false => rw [if_neg (by simp [c.1])]; exact gd_std hv r false e4
/-- where reading stands -/
def pS (A : Nat → Int → Int) (cx : Int → Int) (len base : Int) (env : List Int) (p k : Int) : Prop :=
  tB A ∧ txR A cx len ∧ A 100 2 = p ∧ A 100 3 = -1 ∧ A 100 4 = base + k ∧ A 100 14 = env.length ∧ (env.length : Int) ≤ k ∧ (0 ≤ k ∧ k ≤ 30) ∧ stkR A base k env
theorem opn_115 (A : Nat → Int → Int) (n i : Int) : opn A n 115 i = if i = A 100 14 then n else A 115 i := by
  unfold opn
  rw [au_ne _ _ _ _ (by decide), au_ne _ _ _ _ (by decide), au_ite]
  simp
theorem opn_116 (A : Nat → Int → Int) (n i : Int) : opn A n 116 i = if i = A 100 14 then 0 else A 116 i := by
  unfold opn
  rw [au_ne _ _ _ _ (by decide), au_ite, au_ne _ _ _ _ (by decide)]
  simp
theorem opn_14 (A : Nat → Int → Int) (n : Int) : opn A n 100 14 = A 100 14 + 1 := au_same _ _ _ _
theorem opn_sc (A : Nat → Int → Int) (n : Int) {i : Int} (h : i ≠ 14) : opn A n 100 i = A 100 i := by
  unfold opn
  rw [au_ni _ _ _ h, au_ne _ _ _ _ (by decide), au_ne _ _ _ _ (by decide)]
theorem opn_ne (A : Nat → Int → Int) (n : Int) {j : Nat} (i : Int) (h : j ≠ 100) (h1 : j ≠ 115) (h2 : j ≠ 116) : opn A n j i = A j i := by
  unfold opn
  rw [au_ne _ _ _ _ h, au_ne _ _ _ _ h2, au_ne _ _ _ _ h1]
/-- the fresh place, hung below what is open -/
theorem bg1_2 (A : Nat → Int → Int) (k w : Int) : bg1 A k w 100 2 = A 100 2 + 1 := by
  unfold bg1
  split
  · rw [au_ne _ _ _ _ (by decide), fr_sc _ _ _ (by decide), au_same]
  · rw [fr_sc _ _ _ (by decide), au_same]
theorem bg1_4 (A : Nat → Int → Int) (k w : Int) : bg1 A k w 100 4 = A 100 4 + 1 := by
  unfold bg1 frF
  split
  · rw [au_ne _ _ _ _ (by decide), au_same, au_ni _ _ _ (by decide)]
  · rw [au_same, au_ni _ _ _ (by decide)]
theorem fr_row (A : Nat → Int → Int) (k w : Int) (j : Nat) (i : Int) (h : j ≠ 100) : frF A k w j i = if j = 108 ∧ 6 * A 100 4 ≤ i ∧ i < 6 * A 100 4 + 6 then 0 else if j = 107 ∧ i = A 100 4 then 0 else if j = 106 ∧ i = A 100 4 then w else if j = 105 ∧ i = A 100 4 then k else A j i := by
  unfold frF
  rw [au_ne _ _ _ _ h]
  unfold fil
  rw [au_ite, au_ite, au_ite]
theorem bg1_row (A : Nat → Int → Int) (k w : Int) (j : Nat) (i : Int) (h : j ≠ 100) : bg1 A k w j i = if j = 110 ∧ 0 < A 100 14 ∧ i = 6 * tTop A + A 116 (A 100 14 - 1) then A 100 4 else if j = 108 ∧ 6 * A 100 4 ≤ i ∧ i < 6 * A 100 4 + 6 then 0 else if j = 107 ∧ i = A 100 4 then 0 else if j = 106 ∧ i = A 100 4 then w else if j = 105 ∧ i = A 100 4 then k else A j i := by
  unfold bg1
  split
  · rename_i ho
    rw [au_ite, fr_row _ _ _ _ _ h, au_ni _ _ _ (by decide), au_ne _ _ _ _ h]
    by_cases e : j = 110 ∧ i = 6 * tTop A + A 116 (A 100 14 - 1)
    · rw [if_pos e, if_pos ⟨e.1, ho, e.2⟩]
    · rw [if_neg e]
      exact (if_neg (fun q => e ⟨q.1, q.2.2⟩)).symm
  · rename_i ho
    rw [fr_row _ _ _ _ _ h, au_ni _ _ _ (by decide), au_ne _ _ _ _ h, if_neg (c := j = 110 ∧ _) (fun q => ho q.2.1)]

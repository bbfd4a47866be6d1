/-! the class: types as objects; the reader's state against the reader's law -/
/-- a global type as objects with addresses from lo to t; a list of its branches -/
def gR (g : Nat → Nat × List Value) (lo t : Nat) : Tr → (Nat → Prop) × (Value → Prop)
  | .leaf k => (fun a => (lo ≤ a ∧ a < t) ∧ g a = if k = 0 then (3, []) else (4, [iv ((k : Int) - 1)]), fun v => v = .null)
  | .branch k l r => (fun a => (lo ≤ a ∧ a < t) ∧ if k < 3 then ∃ b, g a = (5, [iv k, .ref b]) ∧ (gR g lo t l).1 b else ∃ v, g a = (6, [iv ((k - 3) % 4 : Nat), iv ((k - 3) / 4 : Nat), v]) ∧ (gR g lo t l).2 v,
    fun v => ∃ b c w, v = .ref b ∧ (lo ≤ b ∧ b < t) ∧ g b = (7, [iv (k / 3 : Nat), iv (k % 3 : Nat), .ref c, w]) ∧ (gR g lo t l).1 c ∧ (gR g lo t r).2 w)
/-- a local type -/
def lR (g : Nat → Nat × List Value) (lo t : Nat) : Tr → (Nat → Prop) × (Value → Prop)
  | .leaf k => (fun a => (lo ≤ a ∧ a < t) ∧ g a = if k = 0 then (8, []) else (9, [iv ((k : Int) - 1)]), fun v => v = .null)
  | .branch k l r => (fun a => (lo ≤ a ∧ a < t) ∧ if k < 3 then ∃ b, g a = (10, [iv k, .ref b]) ∧ (lR g lo t l).1 b else ∃ v z, g a = (11, [iv (if k < 7 then 1 else 0), iv ((k - 3) % 4 : Nat), v, z]) ∧ (lR g lo t l).2 v,
    fun v => ∃ b c w, v = .ref b ∧ (lo ≤ b ∧ b < t) ∧ g b = (12, [iv (k / 3 : Nat), iv (k % 3 : Nat), .ref c, w]) ∧ (lR g lo t l).1 c ∧ (lR g lo t r).2 w)
theorem gR_lf (g : Nat → Nat × List Value) (lo t k a : Nat) : (gR g lo t (.leaf k)).1 a = ((lo ≤ a ∧ a < t) ∧ g a = if k = 0 then (3, []) else (4, [iv ((k : Int) - 1)])) := rfl
theorem gR_br (g : Nat → Nat × List Value) (lo t k : Nat) (l r : Tr) (a : Nat) : (gR g lo t (.branch k l r)).1 a = ((lo ≤ a ∧ a < t) ∧ if k < 3 then ∃ b, g a = (5, [iv k, .ref b]) ∧ (gR g lo t l).1 b else ∃ v, g a = (6, [iv ((k - 3) % 4 : Nat), iv ((k - 3) / 4 : Nat), v]) ∧ (gR g lo t l).2 v) := rfl
theorem gR_brB (g : Nat → Nat × List Value) (lo t k : Nat) (l r : Tr) (v : Value) : (gR g lo t (.branch k l r)).2 v = ∃ b c w, v = .ref b ∧ (lo ≤ b ∧ b < t) ∧ g b = (7, [iv (k / 3 : Nat), iv (k % 3 : Nat), .ref c, w]) ∧ (gR g lo t l).1 c ∧ (gR g lo t r).2 w := rfl
theorem lR_lf (g : Nat → Nat × List Value) (lo t k a : Nat) : (lR g lo t (.leaf k)).1 a = ((lo ≤ a ∧ a < t) ∧ g a = if k = 0 then (8, []) else (9, [iv ((k : Int) - 1)])) := rfl
theorem lR_br (g : Nat → Nat × List Value) (lo t k : Nat) (l r : Tr) (a : Nat) : (lR g lo t (.branch k l r)).1 a = ((lo ≤ a ∧ a < t) ∧ if k < 3 then ∃ b, g a = (10, [iv k, .ref b]) ∧ (lR g lo t l).1 b else ∃ v z, g a = (11, [iv (if k < 7 then 1 else 0), iv ((k - 3) % 4 : Nat), v, z]) ∧ (lR g lo t l).2 v) := rfl
theorem lR_brB (g : Nat → Nat × List Value) (lo t k : Nat) (l r : Tr) (v : Value) : (lR g lo t (.branch k l r)).2 v = ∃ b c w, v = .ref b ∧ (lo ≤ b ∧ b < t) ∧ g b = (12, [iv (k / 3 : Nat), iv (k % 3 : Nat), .ref c, w]) ∧ (lR g lo t l).1 c ∧ (lR g lo t r).2 w := rfl
theorem gR_fr {g g' : Nat → Nat × List Value} {lo lo' t t' : Nat} (h : ∀ a, lo ≤ a → a < t → g' a = g a) (hl : lo' ≤ lo) (ht : t ≤ t') (τ : Tr) : (∀ a, (gR g lo t τ).1 a → (gR g' lo' t' τ).1 a) ∧ ∀ v, (gR g lo t τ).2 v → (gR g' lo' t' τ).2 v := by
  induction τ with
  | leaf k =>
    refine ⟨fun a ha => ?_, fun v hv => hv⟩
    rw [gR_lf] at ha ⊢
    exact ⟨⟨by omega, by omega⟩, by rw [h a ha.1.1 ha.1.2]; exact ha.2⟩
  | branch k l r ihl ihr =>
    refine ⟨fun a ha => ?_, fun v hv => ?_⟩
    · rw [gR_br] at ha ⊢
      refine ⟨⟨by omega, by omega⟩, ?_⟩
      rw [h a ha.1.1 ha.1.2]
      by_cases h3 : k < 3
      · rw [if_pos h3] at ha ⊢
        obtain ⟨-, b, e1, e2⟩ := ha
        exact ⟨b, e1, ihl.1 b e2⟩
      · rw [if_neg h3] at ha ⊢
        obtain ⟨-, b, e1, e2⟩ := ha
        exact ⟨b, e1, ihl.2 b e2⟩
    · rw [gR_brB] at hv ⊢
      obtain ⟨b, c, w, e1, e2, e3, e4, e5⟩ := hv
      exact ⟨b, c, w, e1, ⟨Nat.le_trans hl e2.1, Nat.lt_of_lt_of_le e2.2 ht⟩, by rw [h b e2.1 e2.2]; exact e3, ihl.1 c e4, ihr.2 w e5⟩
theorem lR_fr {g g' : Nat → Nat × List Value} {lo lo' t t' : Nat} (h : ∀ a, lo ≤ a → a < t → g' a = g a) (hl : lo' ≤ lo) (ht : t ≤ t') (τ : Tr) : (∀ a, (lR g lo t τ).1 a → (lR g' lo' t' τ).1 a) ∧ ∀ v, (lR g lo t τ).2 v → (lR g' lo' t' τ).2 v := by
  induction τ with
  | leaf k =>
    refine ⟨fun a ha => ?_, fun v hv => hv⟩
    rw [lR_lf] at ha ⊢
    exact ⟨⟨by omega, by omega⟩, by rw [h a ha.1.1 ha.1.2]; exact ha.2⟩
  | branch k l r ihl ihr =>
    refine ⟨fun a ha => ?_, fun v hv => ?_⟩
    · rw [lR_br] at ha ⊢
      refine ⟨⟨by omega, by omega⟩, ?_⟩
      rw [h a ha.1.1 ha.1.2]
      by_cases h3 : k < 3
      · rw [if_pos h3] at ha ⊢
        obtain ⟨-, b, e1, e2⟩ := ha
        exact ⟨b, e1, ihl.1 b e2⟩
      · rw [if_neg h3] at ha ⊢
        obtain ⟨-, b, z, e1, e2⟩ := ha
        exact ⟨b, z, e1, ihl.2 b e2⟩
    · rw [lR_brB] at hv ⊢
      obtain ⟨b, c, w, e1, e2, e3, e4, e5⟩ := hv
      exact ⟨b, c, w, e1, ⟨Nat.le_trans hl e2.1, Nat.lt_of_lt_of_le e2.2 ht⟩, by rw [h b e2.1 e2.2]; exact e3, ihl.1 c e4, ihr.2 w e5⟩
theorem gR_in {g : Nat → Nat × List Value} {lo t : Nat} (τ : Tr) {a : Nat} (h : (gR g lo t τ).1 a) : lo ≤ a ∧ a < t := by
  cases τ with
  | leaf k => exact h.1
  | branch k l r => exact h.1
theorem lR_in {g : Nat → Nat × List Value} {lo t : Nat} (τ : Tr) {a : Nat} (h : (lR g lo t τ).1 a) : lo ≤ a ∧ a < t := by
  cases τ with
  | leaf k => exact h.1
  | branch k l r => exact h.1
/-- loops open, and guarded -/
def og (A : Nat → Int → Int) (env : List Int) : Prop := ∀ v : Int, 0 ≤ v → v < 3 → A 3 v = (env.count v : Nat) ∧ (A 4 v = 0 ∨ A 4 v = 1) ∧ (v ∈ env → (A 4 v ≠ 0 ↔ std env v false = true))
theorem og_stands {A : Nat → Int → Int} {env : List Int} (h : og A env) {v : Int} (v0 : 0 ≤ v) (v1 : v < 3) : (0 < A 3 v ∧ A 4 v ≠ 0) ↔ std env v false = true := by
  obtain ⟨a, b, c⟩ := h v v0 v1
  constructor
  · intro ⟨h1, h2⟩
    rw [a] at h1
    exact (c (List.count_pos_iff.mp (by omega))).mp h2
  · intro hs
    have hm := std_mem env v false (by omega) hs
    have := List.count_pos_iff.mpr hm
    exact ⟨by rw [a]; omega, (c hm).mpr hs⟩
theorem og_loop {A : Nat → Int → Int} {env : List Int} (h : og A env) {w : Int} (w0 : 0 ≤ w) (w1 : w < 3) : og (au (au A 3 w (A 3 w + 1)) 4 w 0) (w :: env) := fun v v0 v1 => by
  obtain ⟨a, b, c⟩ := h v v0 v1
  by_cases e : v = w
  · subst e
    refine ⟨by rw [au_ne _ _ _ _ (by decide), au_same, a, List.count_cons_self]; omega, Or.inl (by rw [au_same]), fun _ => ?_⟩
    rw [au_same]
    have : std (v :: env) v false = false := by
      unfold std
      rw [if_neg (by omega), if_pos rfl]
    rw [this]
    simp
  · refine ⟨by rw [au_ne _ _ _ _ (by decide), au_ni _ _ _ e, a, List.count_cons_of_ne (fun h => e h.symm)], by rw [au_ni _ _ _ e, au_ne _ _ _ _ (by decide)]; exact b, fun hm => ?_⟩
    rw [au_ni _ _ _ e, au_ne _ _ _ _ (by decide)]
    have : std (w :: env) v false = std env v false := by
      show (if w = 3 then std env v true else if w = v then false else std env v false) = _
      rw [if_neg (by omega), if_neg (fun h => e h.symm)]
    rw [this]
    rcases List.mem_cons.mp hm with e2 | e2
    · exact absurd e2 e
    · exact c e2
theorem std_t : ∀ (env : List Int) (v : Int), v ≠ 3 → v ∈ env → std env v true = true
  | e :: r, v, h3, hm => by
    unfold std
    by_cases e3 : e = 3
    · rw [if_pos e3]
      rcases List.mem_cons.mp hm with h | h
      · exact absurd (h.trans e3) h3
      · exact std_t r v h3 h
    · rw [if_neg e3]
      by_cases ev : e = v
      · rw [if_pos ev]
      · rw [if_neg ev]
        rcases List.mem_cons.mp hm with h | h
        · exact absurd h.symm ev
        · exact std_t r v h3 h
theorem og_msg {A : Nat → Int → Int} {env : List Int} (h : og A env) : og (au (au (au A 4 0 1) 4 1 1) 4 2 1) (3 :: env) := fun v v0 v1 => by
  obtain ⟨a, b, c⟩ := h v v0 v1
  have e4 : au (au (au A 4 0 1) 4 1 1) 4 2 1 4 v = 1 := by
    rw [au_ite, au_ite, au_ite]
    have : v = 0 ∨ v = 1 ∨ v = 2 := by omega
    rcases this with rfl | rfl | rfl <;> simp
  refine ⟨by rw [au_ne _ _ _ _ (by decide), au_ne _ _ _ _ (by decide), au_ne _ _ _ _ (by decide), a, List.count_cons_of_ne (by omega)], Or.inr e4, fun hm => ?_⟩
  rw [e4]
  have : std (3 :: env) v false = std env v true := by
    show (if (3 : Int) = 3 then std env v true else _) = _
    rw [if_pos rfl]
  rw [this]
  rcases List.mem_cons.mp hm with e | e
  · omega
  · rw [std_t env v (by omega) e]; simp
/-- what reading keeps -/
def frX (A A' : Nat → Int → Int) : Prop := (∀ j i, (j = 1 → i ≠ 2 ∧ i ≠ 3) → (j = 3 ∨ j = 4 → i < 0 ∨ 3 ≤ i) → A' j i = A j i) ∧ rga A'
def rsX (A A' : Nat → Int → Int) : Prop := ∀ v, 0 ≤ v → v < 3 → A' 3 v = A 3 v ∧ A' 4 v = A 4 v
theorem frX.tr {A B C : Nat → Int → Int} (h : frX A B) (h' : frX B C) : frX A C := ⟨fun j i a b => (h'.1 j i a b).trans (h.1 j i a b), h'.2⟩
theorem rsX.tr {A B C : Nat → Int → Int} (h : rsX A B) (h' : rsX B C) : rsX A C := fun v a b => ⟨(h' v a b).1.trans (h v a b).1, (h' v a b).2.trans (h v a b).2⟩
theorem og_rs {A A' : Nat → Int → Int} {env : List Int} (h : rsX A A') (ho : og A env) : og A' env := fun v a b => by rw [(h v a b).1, (h v a b).2]; exact ho v a b
theorem og_bk {A A' : Nat → Int → Int} {env : List Int} (h : rsX A A') (ho : og A' env) : og A env := fun v a b => by rw [← (h v a b).1, ← (h v a b).2]; exact ho v a b
/-- the reader at p, k types so far -/
def xP (K : xk) (A : Nat → Int → Int) (cx : Int → Int) (len : Int) (env : List Int) (p k : Int) (t u : Nat) : Prop := xB A ∧ A 1 1 = len ∧ (∀ i, 0 ≤ i → i < len → A 2 i = cx i) ∧ (A 1 2 = p ∧ 0 ≤ p ∧ p ≤ len) ∧ (A 1 3 = k ∧ (env.length : Int) ≤ k ∧ k ≤ 30) ∧ og A env ∧ K.n + 62 ≤ t ∧ (t : Int) + (len - p) + 2 ≤ K.n + 600128 ∧ u + 7 * (K.n + 600128) ≤ 7301098 + 7 * t
theorem xP_h {K : xk} {A : Nat → Int → Int} {cx : Int → Int} {len : Int} {env : List Int} {p k : Int} {t u : Nat} (hx : ∀ i, len ≤ i → cx i = -1) (h : xP K A cx len env p k t u) : (xHere A = cx p ∧ p < len) ∨ (xHere A = 0 ∧ cx p = -1) := by
  obtain ⟨-, h1, h2, ⟨h3, h4, h5⟩, -⟩ := h
  unfold xHere
  rw [h1, h3]
  by_cases c : p < len
  · rw [if_pos c]; exact Or.inl ⟨h2 p h4 c, c⟩
  · rw [if_neg c]; exact Or.inr ⟨rfl, hx p (by omega)⟩
theorem xP_bud {K : xk} {A : Nat → Int → Int} {cx : Int → Int} {len : Int} {env : List Int} {p k : Int} {t u : Nat} (h : xP K A cx len env p k t u) : bud K t u 1 := by
  obtain ⟨-, -, -, ⟨-, h4, h5⟩, -, -, a, b, c⟩ := h
  exact ⟨a, by omega, c⟩
theorem xP_of {K : xk} {A A' : Nat → Int → Int} {cx : Int → Int} {len : Int} {env env' : List Int} {p k p' k' : Int} {t u t' u' : Nat} (h : xP K A cx len env p k t u) (hf : frX A A') (h2 : A' 1 2 = p') (p0 : 0 ≤ p') (p1 : p' ≤ len) (h3 : A' 1 3 = k') (k0 : (env'.length : Int) ≤ k') (k1 : k' ≤ 30) (ho : og A' env') (b0 : K.n + 62 ≤ t') (b1 : (t' : Int) + (len - p') + 2 ≤ K.n + 600128) (b2 : u' + 7 * (K.n + 600128) ≤ 7301098 + 7 * t') : xP K A' cx len env' p' k' t' u' := by
  obtain ⟨⟨q1, q2, q3, q4⟩, h1, h4, -⟩ := h
  have e1 : A' 1 1 = A 1 1 := hf.1 1 1 (by omega) (by omega)
  have e2 : ∀ i, A' 2 i = A 2 i := fun i => hf.1 2 i (by omega) (by omega)
  exact ⟨⟨hf.2, by omega, by omega, fun i i0 i1 => by rw [e2]; exact q4 i i0 (by omega)⟩, e1.trans h1, fun i i0 i1 => by rw [e2]; exact h4 i i0 i1, ⟨h2, p0, p1⟩, ⟨h3, k0, k1⟩, ho, b0, b1, b2⟩
theorem frX_sc {A : Nat → Int → Int} (hA : rga A) {i x : Int} (hi : i = 2 ∨ i = 3) (hx : rg x) : frX A (au A 1 i x) := ⟨fun j i' a b => by rw [au_ite, if_neg (by omega)], rga_au hA hx⟩
theorem frX_ar {A : Nat → Int → Int} (hA : rga A) {j : Nat} {i x : Int} (hj : j = 3 ∨ j = 4) (h0 : 0 ≤ i) (h1 : i < 3) (hx : rg x) : frX A (au A j i x) := ⟨fun j' i' a b => by rw [au_ite, if_neg (by omega)], rga_au hA hx⟩
/-- a letter was read -/
theorem xP_adv {K : xk} {A : Nat → Int → Int} {cx : Int → Int} {len : Int} {env : List Int} {p k : Int} {t u : Nat} (h : xP K A cx len env p k t u) (hp' : p < len) : xP K (xAdv A) cx len env (p + 1) k t u ∧ frX A (xAdv A) ∧ rsX A (xAdv A) := by
  have h' := h
  obtain ⟨⟨q1, q2, q3, q4⟩, h1, h4, ⟨h5, h6, h7⟩, ⟨h8, h9, h10⟩, h11, b0, b1, b2⟩ := h'
  have hf : frX A (xAdv A) := by unfold xAdv; exact frX_sc q1 (Or.inl rfl) ⟨by omega, by omega⟩
  have hs : rsX A (xAdv A) := fun v _ _ => by unfold xAdv; exact ⟨au_ne _ _ _ _ (by decide), au_ne _ _ _ _ (by decide)⟩
  exact ⟨xP_of h hf (by unfold xAdv; rw [au_same, h5]) (by omega) (by omega) (by unfold xAdv; rw [au_ni _ _ _ (by decide)]; exact h8) h9 h10 (og_rs hs h11) b0 (by omega) b2, hf, hs⟩
/-- cells were made -/
theorem xP_t {K : xk} {A : Nat → Int → Int} {cx : Int → Int} {len : Int} {env : List Int} {p k : Int} {t u t' u' : Nat} (h : xP K A cx len env p k t u) (b0 : t ≤ t') (b1 : (t' : Int) + (len - p) + 2 ≤ K.n + 600128) (b2 : u' + 7 * (K.n + 600128) ≤ 7301098 + 7 * t') : xP K A cx len env p k t' u' := by
  obtain ⟨a, b, c, e, f, i, q, -, -⟩ := h
  exact ⟨a, b, c, e, f, i, by omega, b1, b2⟩
/-- labels before -/
def bz (bef : Int → Bool) (z : Nat) : Prop := z < 64 ∧ ∀ x : Nat, x < 6 → (bef x = true ↔ z / 2 ^ x % 2 = 1)
def pop6 (z : Nat) : Nat := z % 2 + z / 2 % 2 + z / 4 % 2 + z / 8 % 2 + z / 16 % 2 + z / 32 % 2
theorem pop6_le (z : Nat) : pop6 z ≤ 6 := by unfold pop6; omega
theorem bz_a : ∀ z : Nat, z < 64 → ∀ c : Nat, c < 6 → (z ||| 2 ^ c) < 64 := by decide +kernel
theorem bz_b : ∀ z : Nat, z < 64 → ∀ c : Nat, c < 6 → z / 2 ^ c % 2 = 0 → pop6 (z ||| 2 ^ c) = pop6 z + 1 := by
  unfold pop6
  decide +kernel
theorem bz_c : ∀ z : Nat, z < 64 → ∀ c : Nat, c < 6 → ∀ x : Nat, x < 6 → decide ((z ||| 2 ^ c) / 2 ^ x % 2 = 1) = (decide (x = c) || decide (z / 2 ^ x % 2 = 1)) := by decide +kernel
theorem bz_i (z : Nat) (hz : z < 64) (c : Nat) (hc : c < 6) (h0 : z / 2 ^ c % 2 = 0) : (z ||| 2 ^ c) < 64 ∧ pop6 (z ||| 2 ^ c) = pop6 z + 1 ∧ ∀ x : Nat, x < 6 → ((z ||| 2 ^ c) / 2 ^ x % 2 = 1 ↔ x = c ∨ z / 2 ^ x % 2 = 1) := by
  refine ⟨bz_a z hz c hc, bz_b z hz c hc h0, fun x hx => ?_⟩
  have := bz_c z hz c hc x hx
  rw [← decide_eq_decide (p := (z ||| 2 ^ c) / 2 ^ x % 2 = 1), this, Bool.decide_or]
theorem bz_add {bef : Int → Bool} {z c : Nat} (h : bz bef z) (hc : c < 6) (h0 : z / 2 ^ c % 2 = 0) : bz (fun x => decide (x = (c : Int)) || bef x) (z ||| 2 ^ c) ∧ pop6 (z ||| 2 ^ c) = pop6 z + 1 := by
  obtain ⟨a, b, e⟩ := bz_i z h.1 c hc h0
  refine ⟨⟨a, fun x hx => ?_⟩, b⟩
  rw [e x hx, Bool.or_eq_true, decide_eq_true_eq, h.2 x hx]
  constructor
  · rintro (h | h)
    · exact Or.inl (by omega)
    · exact Or.inr h
  · rintro (h | h)
    · exact Or.inl (by omega)
    · exact Or.inr h

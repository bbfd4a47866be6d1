/-! merging: what waits, what comes of it -/
def qI (A : Nat → Int → Int) (U : Int) : Int → List (Tr × Tr × Int × Int) → Prop
  | _, [] => True
  | q, (α, β, a, b) :: r => (A 119 q = a ∧ A 120 q = b ∧ A 121 q = U + q) ∧ ((tR A α).1 a ∧ (tR A β).1 b ∧ (wfP α).1 ∧ (wfP β).1 ∧ (lkP α).1 ∧ (lkP β).1) ∧ (∀ x, (ct A α).1 a x ≠ 0 ∨ (ct A β).1 b x ≠ 0 → 0 ≤ x ∧ x < U) ∧ (A 105 (U + q) = A 105 a ∧ A 106 (U + q) = A 106 a ∧ A 107 (U + q) = 0 ∧ ∀ l, 0 ≤ l → l < 6 → A 108 (6 * (U + q) + l) = 0) ∧ qI A U (q + 1) r
/-- done -/
def finI (A : Nat → Int → Int) (U : Int) : Int → List (Tr × Tr × Int × Int) → Prop
  | _, [] => True
  | q, (α, β, _, _) :: r => (tR A (gm α β)).1 (U + q) ∧ finI A U (q + 1) r
def cs (A : Nat → Int → Int) (U : Int) : Int → List (Tr × Tr × Int × Int) → Int → Nat
  | _, [], _ => 0
  | q, (α, β, _, _) :: r, x => (ct A (gm α β)).1 (U + q) x + cs A U (q + 1) r x
def cI (A : Nat → Int → Int) : List (Tr × Tr × Int × Int) → Int → Nat
  | [], _ => 0
  | (α, β, a, b) :: r, x => (ct A α).1 a x + (ct A β).1 b x + cI A r x
def sa : List (Tr × Tr × Int × Int) → Nat
  | [] => 0
  | (α, _, _, _) :: r => szT α + sa r
def sb : List (Tr × Tr × Int × Int) → Nat
  | [] => 0
  | (_, β, _, _) :: r => szT β + sb r
theorem qI_app (A : Nat → Int → Int) (U : Int) : ∀ (l r : List (Tr × Tr × Int × Int)) (q : Int), qI A U q l → qI A U (q + l.length) r → qI A U q (l ++ r)
  | [], r, q, _, h => by simpa using h
  | (α, β, a, b) :: l, r, q, h, h2 => ⟨h.1, h.2.1, h.2.2.1, h.2.2.2.1, qI_app A U l r (q + 1) h.2.2.2.2 (by rw [List.length_cons] at h2; rw [show q + 1 + (l.length : Int) = q + ((l.length + 1 : Nat) : Int) by omega]; exact h2)⟩
theorem finI_app (A : Nat → Int → Int) (U : Int) : ∀ (l r : List (Tr × Tr × Int × Int)) (q : Int), finI A U q (l ++ r) → finI A U q l ∧ finI A U (q + l.length) r
  | [], r, q, h => ⟨trivial, by simpa using h⟩
  | (α, β, a, b) :: l, r, q, h => by
    obtain ⟨h1, h2⟩ := finI_app A U l r (q + 1) h.2
    refine ⟨⟨h.1, h1⟩, ?_⟩
    rw [List.length_cons, show q + ((l.length + 1 : Nat) : Int) = q + 1 + (l.length : Int) by omega]
    exact h2
theorem cs_app (A : Nat → Int → Int) (U : Int) : ∀ (l r : List (Tr × Tr × Int × Int)) (q x : Int), cs A U q (l ++ r) x = cs A U q l x + cs A U (q + l.length) r x
  | [], r, q, x => by simp [cs]
  | (α, β, a, b) :: l, r, q, x => by
    show (ct A (gm α β)).1 (U + q) x + cs A U (q + 1) (l ++ r) x = (ct A (gm α β)).1 (U + q) x + cs A U (q + 1) l x + cs A U (q + ((l.length + 1 : Nat) : Int)) r x
    rw [cs_app A U l r (q + 1) x, show q + ((l.length + 1 : Nat) : Int) = q + 1 + (l.length : Int) by omega]
    omega
theorem cI_app (A : Nat → Int → Int) : ∀ (l r : List (Tr × Tr × Int × Int)) (x : Int), cI A (l ++ r) x = cI A l x + cI A r x
  | [], r, x => by simp [cI]
  | (α, β, a, b) :: l, r, x => by
    show _ + cI A (l ++ r) x = _ + cI A l x + _
    rw [cI_app A l r x]
    omega
theorem sa_app : ∀ (l r : List (Tr × Tr × Int × Int)), sa (l ++ r) = sa l + sa r
  | [], r => by simp [sa]
  | (α, β, a, b) :: l, r => by show szT α + sa (l ++ r) = szT α + sa l + sa r; rw [sa_app l r]; omega
theorem sb_app : ∀ (l r : List (Tr × Tr × Int × Int)), sb (l ++ r) = sb l + sb r
  | [], r => by simp [sb]
  | (α, β, a, b) :: l, r => by show szT β + sb (l ++ r) = szT β + sb l + sb r; rw [sb_app l r]; omega
theorem siB_sz (A : Nat → Int → Int) (bs : Tr) (a b : Int) : ∀ l : Tr, sa (siB A bs a b l) ≤ szB l ∧ sb (siB A bs a b l) = sF (fun _ τ => szT τ) bs l
  | .leaf _ => ⟨Nat.le_refl 0, rfl⟩
  | .branch k τ r => by
    obtain ⟨h1, h2⟩ := siB_sz A bs a b r
    rw [siB_br, szB_br, sF_br]
    cases hf : fdL bs (k / 3) with
    | none => dsimp only; exact ⟨by omega, by omega⟩
    | some q =>
      obtain ⟨k', τ'⟩ := q
      dsimp only
      show szT τ + sa _ ≤ _ ∧ szT τ' + sb _ = _
      exact ⟨by omega, by omega⟩
theorem si_sz (A : Nat → Int → Int) (α β : Tr) (a b : Int) (hw : (wfP α).1) (ho : o1 α β ≠ none) : sa (si A α β a b) + 1 ≤ szT α ∧ sb (si A α β a b) + 1 ≤ szT β := by
  cases α with
  | leaf k => cases β <;> exact ⟨szT_pos _, szT_pos _⟩
  | branch k l r =>
    cases β with
    | leaf k' => exact ⟨szT_pos _, szT_pos _⟩
    | branch k' l' r' =>
      rw [o1_br] at ho
      rw [wfT_br] at hw
      by_cases ek : k = k'
      case neg => rw [if_pos ek] at ho; exact absurd rfl ho
      subst ek
      by_cases h3 : k < 3
      · have e : si A (.branch k l r) (.branch k l' r') a b = [(l, l', A 110 (6 * a), A 110 (6 * b))] := if_pos h3
        rw [e, szT_br, szT_br, if_pos h3, if_pos h3]
        show szT l + 0 + 1 ≤ _ ∧ szT l' + 0 + 1 ≤ _
        omega
      · have e : si A (.branch k l r) (.branch k l' r') a b = siB A l' a b l := if_neg h3
        rw [e, szT_br, szT_br, if_neg h3, if_neg h3]
        rw [if_neg h3] at hw
        obtain ⟨h1, h2⟩ := siB_sz A l' a b l
        have := sF_le (fun _ τ => szT τ) l hw.2.1 l'
        rw [wF_sz, wF_sz] at this
        omega
theorem siB_o1 (A : Nat → Int → Int) (s : Bool) (bs : Tr) (a b : Int) : ∀ (l : Tr) (subs : List (Tr × Tr)), o1B s bs l = some subs → subs = (siB A bs a b l).map (fun it => (it.1, it.2.1))
  | .leaf _, subs, h => by cases h; rfl
  | .branch k τ r, subs, h => by
    rw [o1B_br] at h
    rw [siB_br]
    cases hf : fdL bs (k / 3) with
    | none =>
      rw [hf] at h
      dsimp only at h ⊢
      split at h
      · cases h
      · exact siB_o1 A s bs a b r subs h
    | some q =>
      obtain ⟨k', τ'⟩ := q
      rw [hf] at h
      dsimp only at h ⊢
      split at h
      · cases h
      cases hr : o1B s bs r with
      | none => rw [hr] at h; cases h
      | some subs' =>
        rw [hr] at h
        cases h
        rw [List.map_cons, ← siB_o1 A s bs a b r subs' hr]
theorem mg_si (A : Nat → Int → Int) (α β : Tr) (a b : Int) (ho : o1 α β ≠ none) : (mg α).1 β = none ↔ ∃ it ∈ si A α β a b, (mg it.1).1 it.2.1 = none := by
  rw [mg_o1]
  cases hs : o1 α β with
  | none => exact absurd hs ho
  | some subs =>
    have e : subs = (si A α β a b).map (fun it => (it.1, it.2.1)) := by
      cases α with
      | leaf k =>
        cases β with
        | leaf k' => unfold o1 at hs; dsimp only at hs; split at hs; cases hs; rfl; cases hs
        | branch _ _ _ => cases hs
      | branch k l r =>
        cases β with
        | leaf _ => cases hs
        | branch k' l' r' =>
          rw [o1_br] at hs
          split at hs
          · cases hs
          by_cases h3 : k < 3
          · rw [if_pos h3] at hs
            cases hs
            have e : si A (.branch k l r) (.branch k' l' r') a b = [(l, l', A 110 (6 * a), A 110 (6 * b))] := if_pos h3
            rw [e]; rfl
          · rw [if_neg h3] at hs
            split at hs
            · cases hs
            have e : si A (.branch k l r) (.branch k' l' r') a b = siB A l' a b l := if_neg h3
            rw [e]
            exact siB_o1 A _ l' a b l subs hs
    constructor
    · rintro (h | ⟨subs', h1, p, h2, h3⟩)
      · cases h
      · cases h1
        rw [e, List.mem_map] at h2
        obtain ⟨it, h4, h5⟩ := h2
        subst h5
        exact ⟨it, h4, h3⟩
    · rintro ⟨it, h1, h2⟩
      exact Or.inr ⟨subs, rfl, (it.1, it.2.1), by rw [e, List.mem_map]; exact ⟨it, h1, rfl⟩, h2⟩
/-- the trees below b's labels -/
def tC (A : Nat → Int → Int) (b : Int) : Tr → Prop
  | .leaf _ => True
  | .branch k τ r => (tR A τ).1 (A 110 (6 * b + (k / 3 : Nat))) ∧ tC A b r
theorem tC_of (A : Nat → Int → Int) (b : Int) : ∀ (l : Tr) (i : Int), (tR A l).2 b i → tC A b l
  | .leaf _, _, _ => trivial
  | .branch k τ r, i, h => by rw [tR_brB] at h; exact ⟨h.2.2.1, tC_of A b r (i + 1) h.2.2.2⟩
theorem tC_flt (A : Nat → Int → Int) (b : Int) (a : Tr) : ∀ (l : Tr), tC A b l → tC A b (flt a l)
  | .leaf _, _ => trivial
  | .branch k τ r, h => by
    rw [flt_br]
    split
    · exact tC_flt A b a r h.2
    · exact ⟨h.1, tC_flt A b a r h.2⟩
def fC (A : Nat → Int → Int) (b y : Int) : Nat → Tr → Nat := fun k τ => (ct A τ).1 (A 110 (6 * b + (k / 3 : Nat))) y
theorem fC_w (A : Nat → Int → Int) (b y : Int) : ∀ l : Tr, wF (fC A b y) l = (ct A l).2 b y
  | .leaf _ => rfl
  | .branch k τ r => by rw [wF_br, ct_brB, fC_w A b y r]; rfl
theorem asmF (A A1 A' : Nat → Int → Int) {U b n : Int} (hlow : ∀ x, x < U → sameN A A' x) (h7 : A' 107 n = A1 107 n) (hn : ∀ y, 0 ≤ y → y < 6 → A' 108 (6 * n + y) = A1 108 (6 * n + y) ∧ A' 109 (6 * n + y) = A1 109 (6 * n + y) ∧ A' 110 (6 * n + y) = A1 110 (6 * n + y)) : ∀ (z : Tr) (i : Int), tC A b z → (wfP z).2 → (∀ y, (ct A z).2 b y ≠ 0 → y < U) → skF A A1 b n z i → (tR A' z).2 n i ∧ ∀ y, (ct A' z).2 n y = (ct A z).2 b y
  | .leaf _, i, _, _, _, h => ⟨by rw [tR_lfB, h7]; exact h, fun y => rfl⟩
  | .branch k τ r, i, ht, hw, hy, h => by
    rw [wfB_br] at hw
    rw [skF_br] at h
    obtain ⟨v1, v2, v3⟩ := hn (k / 3 : Nat) (by omega) (by omega)
    obtain ⟨i1, i2⟩ := asmF A A1 A' hlow h7 hn r (i + 1) ht.2 hw.2.2.2 (fun y hh => hy y (by rw [ct_brB]; omega)) h.2.2.2
    obtain ⟨j1, j2⟩ := (tR_frame A A' τ).1 _ hw.2.2.1 (fun x hx => hlow x (hy x (by rw [ct_brB]; omega))) ht.1
    rw [tR_brB, v1, v2, v3]
    refine ⟨⟨h.1, h.2.1, by rw [h.2.2.1]; exact j1, i1⟩, fun y => ?_⟩
    rw [ct_brB, ct_brB, v3, h.2.2.1, j2, i2]
theorem fdL_lab : ∀ (l : Tr) (x k' : Nat) (τ' : Tr), fdL l x = some (k', τ') → k' / 3 = x
  | .leaf _, _, _, _, h => by cases h
  | .branch k τ r, x, k', τ', h => by
    rw [fdL_br] at h
    split at h
    · cases h; assumption
    · exact fdL_lab r x k' τ' h
theorem asmA (A A1 A' : Nat → Int → Int) {U a b n : Int} {l' : Tr} {s : Bool} (hlow : ∀ x, x < U → sameN A A' x) (hn : ∀ y, 0 ≤ y → y < 6 → A' 108 (6 * n + y) = A1 108 (6 * n + y) ∧ A' 109 (6 * n + y) = A1 109 (6 * n + y) ∧ A' 110 (6 * n + y) = A1 110 (6 * n + y)) (z : Tr) : ∀ (r : Tr) (i q : Int) (x : Tr), tC A a r → (wfP r).2 → (∀ y, (ct A r).2 a y ≠ 0 → y < U) → (mg r).2 s l' = some x → skA A A1 l' a n r i (U + q) → finI A' U q (siB A l' a b r) → (tR A' z).2 n (i + lenB r) →
    (tR A' (apL x z)).2 n i ∧ ∀ y, (ct A' (apL x z)).2 n y + cI A (siB A l' a b r) y ≤ cs A' U q (siB A l' a b r) y + (ct A r).2 a y + sF (fC A b y) l' r + (ct A' z).2 n y
  | .leaf kk, i, q, x, _, _, _, hm, _, _, hz => by
    rw [mg_lfB] at hm
    cases hm
    refine ⟨?_, fun y => ?_⟩
    · show (tR A' z).2 n i
      rw [show i + ((lenB (.leaf kk) : Nat) : Int) = i from by show i + 0 = i; omega] at hz
      exact hz
    · show (ct A' z).2 n y + 0 ≤ 0 + 0 + 0 + (ct A' z).2 n y
      omega
  | .branch k τ r, i, q, x, ht, hw, hy, hm, hsk, hfi, hz => by
    rw [wfB_br] at hw
    rw [skA_br] at hsk
    rw [mg_brB] at hm
    obtain ⟨v1, v2, v3⟩ := hn (k / 3 : Nat) (by omega) (by omega)
    have hz' : (tR A' z).2 n (i + 1 + lenB r) := by
      rw [lenB_br, show i + ((1 + lenB r : Nat) : Int) = i + 1 + lenB r by omega] at hz
      exact hz
    obtain ⟨hs1, hs2, hs3⟩ := hsk
    have ih := asmA A A1 A' (a := a) (b := b) (l' := l') (s := s) hlow hn z r (i + 1)
    cases hf : fdL l' (k / 3) with
    | none =>
      rw [hf] at hm hs3
      dsimp only at hm hs3
      split at hm
      · cases hm
      cases hr : (mg r).2 s l' with
      | none => rw [hr] at hm; cases hm
      | some x' =>
        rw [hr] at hm
        cases hm
        rw [siB_br, hf] at hfi ⊢
        dsimp only at hfi ⊢
        obtain ⟨i1, i2⟩ := ih q x' ht.2 hw.2.2.2 (fun y hh => hy y (by rw [ct_brB]; omega)) hr hs3.2 hfi hz'
        obtain ⟨j1, j2⟩ := (tR_frame A A' τ).1 _ hw.2.2.1 (fun x hx => hlow x (hy x (by rw [ct_brB]; omega))) ht.1
        rw [apL_br, tR_brB, v1, v2, v3, hs3.1]
        refine ⟨⟨hs1, hs2, j1, i1⟩, fun y => ?_⟩
        have := i2 y
        rw [ct_brB, ct_brB, v3, hs3.1, j2, sF_br, hf]
        dsimp only
        omega
    | some p =>
      obtain ⟨k', τ'⟩ := p
      have hlab := fdL_lab l' (k / 3) k' τ' hf
      rw [hf] at hm hs3
      dsimp only at hm hs3
      split at hm
      · cases hm
      split at hm
      · cases hm
      rename_i m hm1
      cases hr : (mg r).2 s l' with
      | none => rw [hr] at hm; cases hm
      | some x' =>
        rw [hr] at hm
        cases hm
        rw [siB_br, hf] at hfi ⊢
        dsimp only at hfi ⊢
        obtain ⟨fi1, fi2⟩ := hfi
        have egm : gm τ τ' = m := by unfold gm; rw [hm1]; rfl
        rw [egm] at fi1
        obtain ⟨i1, i2⟩ := ih (q + 1) x' ht.2 hw.2.2.2 (fun y hh => hy y (by rw [ct_brB]; omega)) hr (by rw [show U + (q + 1) = U + q + 1 by omega]; exact hs3.2) fi2 hz'
        rw [apL_br, tR_brB, v1, v2, v3, hs3.1]
        refine ⟨⟨hs1, hs2, fi1, i1⟩, fun y => ?_⟩
        have := i2 y
        have hF : fC A b y k' τ' = (ct A τ').1 (A 110 (6 * b + (k / 3 : Nat))) y := by unfold fC; rw [hlab]
        show _ + ((ct A τ).1 _ y + (ct A τ').1 _ y + cI A _ y) ≤ ((ct A' (gm τ τ')).1 (U + q) y + cs A' U (q + 1) _ y) + _ + _ + _
        rw [ct_brB, ct_brB, v3, hs3.1, sF_br, hf, egm]
        dsimp only
        rw [hF]
        omega
/-- the new place, when what it waits for is done -/
theorem asm (A A1 A' : Nat → Int → Int) {U a b n q : Int} {α β γ : Tr} (hlow : ∀ x, x < U → sameN A A' x) (hn : sameN A1 A' n) (ta : (tR A α).1 a) (tb : (tR A β).1 b) (wa : (wfP α).1) (wb : (wfP β).1)
    (hnod : ∀ x, (ct A α).1 a x ≠ 0 ∨ (ct A β).1 b x ≠ 0 → x < U) (h5 : A1 105 n = A 105 a) (h6 : A1 106 n = A 106 a) (hU : A 100 4 = U + q) (hsk : skT A A1 a b n α β) (hm : (mg α).1 β = some γ) (hfi : finI A' U q (si A α β a b)) :
    (tR A' γ).1 n ∧ ∀ y, (ct A' γ).1 n y + cI A (si A α β a b) y ≤ (if y = n then 1 else 0) + cs A' U q (si A α β a b) y + (ct A α).1 a y + (ct A β).1 b y := by
  obtain ⟨n5, n6, n7, n8⟩ := hn
  cases α with
  | leaf k =>
    cases β with
    | leaf k' =>
      rw [mg_lf] at hm
      dsimp only at hm
      split at hm
      · cases hm
        rw [tR_lf] at ta ⊢
        replace hsk : A1 107 n = 0 := hsk
        rw [n5, n6, n7, h5, h6]
        refine ⟨⟨hsk, ta.2.1, ta.2.2⟩, fun y => ?_⟩
        rw [ct_lf]
        show _ + 0 ≤ _ + 0 + _ + _
        omega
      · cases hm
    | branch _ _ _ => cases hm
  | branch k l r =>
    cases β with
    | leaf _ => cases hm
    | branch k' l' r' =>
      rw [mg_br] at hm
      by_cases ek : k = k'
      case neg => rw [if_pos ek] at hm; cases hm
      subst ek
      rw [if_neg (fun h => h rfl)] at hm
      rw [tR_br] at ta tb
      rw [wfT_br] at wa wb
      by_cases h3 : k < 3
      · rw [if_pos h3] at ta tb wa wb hm
        have e : si A (.branch k l r) (.branch k l' r') a b = [(l, l', A 110 (6 * a), A 110 (6 * b))] := if_pos h3
        rw [e] at hfi ⊢
        have hs : A1 110 (6 * n) = A 100 4 := by
          have : (if k < 3 then A1 110 (6 * n) = A 100 4 else _) := hsk
          rw [if_pos h3] at this; exact this
        cases hml : (mg l).1 l' with
        | none => rw [hml] at hm; cases hm
        | some m =>
          rw [hml] at hm
          cases hm
          have egm : gm l l' = m := by unfold gm; rw [hml]; rfl
          have f1 : (tR A' m).1 (U + q) := by have := hfi.1; rw [egm] at this; exact this
          have e10 : A' 110 (6 * n) = U + q := by
            have := (n8 0 (by omega) (by omega)).2.2
            rw [Int.add_zero] at this
            rw [this, hs, hU]
          rw [tR_br, if_pos h3, n5, n6, h5, h6, e10]
          refine ⟨⟨ta.1, ta.2.1, f1⟩, fun y => ?_⟩
          show _ + ((ct A l).1 (A 110 (6 * a)) y + (ct A l').1 (A 110 (6 * b)) y + 0) ≤ _ + ((ct A' (gm l l')).1 (U + q) y + 0) + _ + _
          rw [ct_br, ct_br, ct_br, if_pos h3, if_pos h3, if_pos h3, e10, egm]
          omega
      · rw [if_neg h3] at ta tb wa wb hm
        split at hm
        · cases hm
        have e : si A (.branch k l r) (.branch k l' r') a b = siB A l' a b l := if_neg h3
        rw [e] at hfi ⊢
        have hs : skA A A1 l' a n l 0 (A 100 4) ∧ skF A A1 b n (flt l l') (lenB l) ∧ ∀ x, 0 ≤ x → x < 6 → hasL l x = false → hasL (flt l l') x = false → A1 108 (6 * n + x) = 0 := by
          have : (if k < 3 then A1 110 (6 * n) = A 100 4 else _) := hsk
          rw [if_neg h3] at this; exact this
        cases hml : (mg l).2 (decide (k < 7)) l' with
        | none => rw [hml] at hm; cases hm
        | some x =>
          rw [hml] at hm
          cases hm
          have hna : ∀ y, (ct A l).2 a y ≠ 0 → y < U := fun y hy => hnod y (Or.inl (by rw [ct_br, if_neg h3]; omega))
          have hfl : ∀ y, sF (fC A b y) l' l + (ct A (flt l l')).2 b y ≤ (ct A l').2 b y := fun y => by
            have := sF_le (fC A b y) l wa.2.1 l'
            rw [fC_w, fC_w] at this
            exact this
          have hnb : ∀ y, (ct A (flt l l')).2 b y ≠ 0 → y < U := fun y hy => hnod y (Or.inr (by rw [ct_br, if_neg h3]; have := hfl y; omega))
          obtain ⟨z1, z2⟩ := asmF A A1 A' (n := n) hlow n7 n8 (flt l l') (lenB l) (tC_flt A b l l' (tC_of A b l' 0 tb.2.1)) (flt_wf l l' wb.2.1) hnb hs.2.1
          obtain ⟨i1, i2⟩ := asmA A A1 A' (b := b) (s := decide (k < 7)) hlow n8 (flt l l') l 0 q x (tC_of A a l 0 ta.2.1) wa.2.1 hna hml (by rw [← hU]; exact hs.1) hfi (by rw [Int.zero_add]; exact z1)
          obtain ⟨m1, m2, -⟩ := (mg_ok l).2 _ l' x wa.2.1 wb.2.1 hml
          rw [tR_br, if_neg h3, n5, n6, h5, h6]
          refine ⟨⟨ta.1, i1, fun y y0 y1 hy => ?_⟩, fun y => ?_⟩
          · rw [apL_has, Bool.or_eq_false_iff, m2] at hy
            rw [(n8 y y0 y1).1]
            exact hs.2.2 y y0 y1 hy.1 hy.2
          · have h1 := i2 y
            have h2 := hfl y
            rw [z2] at h1
            rw [ct_br, ct_br, ct_br, if_neg h3, if_neg h3, if_neg h3]
            omega

/-! PURE: parts of global types -/
/-- a role is named -/
def nmP (r : Int) : Tr → Bool × Bool
  | .leaf _ => (false, false)
  | .branch k l q => (if k < 3 then (nmP r l).1 else decide ((((k - 3) % 4 : Nat) : Int) = r) || decide ((((k - 3) / 4 : Nat) : Int) = r) || (nmP r l).2, (nmP r l).1 || (nmP r q).2)
/-- a variable is used and not bound within -/
def lsP : Tr → (Nat → Bool) × (Nat → Bool)
  | .leaf k => (fun v => decide (k = v + 1), fun _ => false)
  | .branch k l q => (fun v => if k < 3 then !decide (v = k) && (lsP l).1 v else (lsP l).2 v, fun v => (lsP l).1 v || (lsP q).2 v)
theorem nmT_br (r : Int) (k : Nat) (l q : Tr) : (nmP r (.branch k l q)).1 = if k < 3 then (nmP r l).1 else decide ((((k - 3) % 4 : Nat) : Int) = r) || decide ((((k - 3) / 4 : Nat) : Int) = r) || (nmP r l).2 := rfl
theorem nmB_br (r : Int) (k : Nat) (l q : Tr) : (nmP r (.branch k l q)).2 = ((nmP r l).1 || (nmP r q).2) := rfl
theorem lsT_br (k : Nat) (l q : Tr) (v : Nat) : (lsP (.branch k l q)).1 v = if k < 3 then !decide (v = k) && (lsP l).1 v else (lsP l).2 v := rfl
theorem lsB_br (k : Nat) (l q : Tr) (v : Nat) : (lsP (.branch k l q)).2 v = ((lsP l).1 v || (lsP q).2 v) := rfl
/-- a loop's part is a loop -/
def tch (r : Int) (τ : Tr) : Bool := (nmP r τ).1 || (lsP τ).1 0 || (lsP τ).1 1 || (lsP τ).1 2
/-- the part; of the branches, each for itself; merged to what is before; merged -/
def pt (r : Int) : Tr → Option Tr × Option Tr × (Tr → Option Tr) × Option Tr
  | .leaf k => (some (.leaf k), some (.leaf 0), fun a => some a, none)
  | .branch k l q => (if k < 3 then (if tch r (.branch k l q) = true then (pt r l).1.map (fun x => .branch k x (.leaf 0)) else some (.leaf 0))
      else if (((k - 3) % 4 : Nat) : Int) = r then (pt r l).2.1.map (fun x => .branch (3 + (k - 3) / 4) x (.leaf 0))
      else if (((k - 3) / 4 : Nat) : Int) = r then (pt r l).2.1.map (fun x => .branch (7 + (k - 3) % 4) x (.leaf 0))
      else (pt r l).2.2.2,
    (pt r l).1.bind (fun a => (pt r q).2.1.map (fun b => .branch k a b)),
    fun a => (pt r l).1.bind (fun b => ((mg a).1 b).bind (pt r q).2.2.1),
    (pt r l).1.bind (pt r q).2.2.1)
theorem pt_lf (r : Int) (k : Nat) : (pt r (.leaf k)).1 = some (.leaf k) := rfl
theorem pt_br (r : Int) (k : Nat) (l q : Tr) : (pt r (.branch k l q)).1 = if k < 3 then (if tch r (.branch k l q) = true then (pt r l).1.map (fun x => .branch k x (.leaf 0)) else some (.leaf 0))
      else if (((k - 3) % 4 : Nat) : Int) = r then (pt r l).2.1.map (fun x => .branch (3 + (k - 3) / 4) x (.leaf 0))
      else if (((k - 3) / 4 : Nat) : Int) = r then (pt r l).2.1.map (fun x => .branch (7 + (k - 3) % 4) x (.leaf 0))
      else (pt r l).2.2.2 := rfl
theorem ptM_lf (r : Int) (k : Nat) : (pt r (.leaf k)).2.1 = some (.leaf 0) := rfl
theorem ptM_br (r : Int) (k : Nat) (l q : Tr) : (pt r (.branch k l q)).2.1 = (pt r l).1.bind (fun a => (pt r q).2.1.map (fun b => .branch k a b)) := rfl
theorem ptA_lf (r : Int) (k : Nat) (a : Tr) : (pt r (.leaf k)).2.2.1 a = some a := rfl
theorem ptA_br (r : Int) (k : Nat) (l q a : Tr) : (pt r (.branch k l q)).2.2.1 a = (pt r l).1.bind (fun b => ((mg a).1 b).bind (pt r q).2.2.1) := rfl
theorem ptF_br (r : Int) (k : Nat) (l q : Tr) : (pt r (.branch k l q)).2.2.2 = (pt r l).1.bind (pt r q).2.2.1 := rfl
/-- parts: well-made, local, no larger -/
theorem pt_ok (r : Int) (τ : Tr) : ((wfP τ).1 → ∀ σ, (pt r τ).1 = some σ → (wfP σ).1 ∧ (lkP σ).1 ∧ szT σ ≤ szT τ) ∧
    ((wfP τ).2 → (∀ x, (pt r τ).2.1 = some x → (wfP x).2 ∧ (lkP x).2 ∧ szB x ≤ szB τ ∧ lenB x = lenB τ ∧ ∀ y, hasL x y = hasL τ y) ∧
      (∀ a σ, (wfP a).1 → (lkP a).1 → (pt r τ).2.2.1 a = some σ → (wfP σ).1 ∧ (lkP σ).1 ∧ szT σ ≤ szT a + szB τ) ∧
      (∀ σ, (pt r τ).2.2.2 = some σ → (wfP σ).1 ∧ (lkP σ).1 ∧ szT σ ≤ szB τ)) := by
  induction τ with
  | leaf k =>
    refine ⟨fun hw σ h => ?_, fun hw => ⟨fun x h => ?_, fun a σ ha hl h => ?_, fun σ h => ?_⟩⟩
    · cases h; exact ⟨hw, trivial, Nat.le_refl _⟩
    · cases h; exact ⟨trivial, trivial, Nat.le_refl _, rfl, fun _ => rfl⟩
    · cases h; exact ⟨ha, hl, by omega⟩
    · cases h
  | branch k l q ihl ihq =>
    refine ⟨fun hw σ h => ?_, fun hw => ⟨fun x h => ?_, fun a σ ha hl h => ?_, fun σ h => ?_⟩⟩
    · rw [wfT_br] at hw
      rw [pt_br] at h
      rw [szT_br]
      by_cases h3 : k < 3
      · rw [if_pos h3] at hw h ⊢
        split at h
        · cases hp : (pt r l).1 with
          | none => rw [hp] at h; cases h
          | some x =>
            rw [hp] at h
            cases h
            obtain ⟨i1, i2, i3⟩ := ihl.1 hw x hp
            exact ⟨by rw [wfT_br, if_pos h3]; exact i1, by rw [lkT_br, if_pos h3]; exact i2, by rw [szT_br, if_pos h3]; omega⟩
        · cases h
          exact ⟨by rw [wfT_leaf]; omega, trivial, by rw [szT_leaf]; omega⟩
      · rw [if_neg h3] at hw h ⊢
        obtain ⟨w1, w2, w3⟩ := hw
        have hmine : ∀ kk, 3 ≤ kk → kk < 11 → ∀ σ, (pt r l).2.1.map (fun x => (.branch kk x (.leaf 0) : Tr)) = some σ → (wfP σ).1 ∧ (lkP σ).1 ∧ szT σ ≤ 1 + szB l := by
          intro kk h1 h2 σ h
          cases hp : (pt r l).2.1 with
          | none => rw [hp] at h; cases h
          | some x =>
            rw [hp] at h
            cases h
            obtain ⟨i1, i2, i3, i4, i5⟩ := (ihl.2 w2).1 x hp
            exact ⟨by rw [wfT_br, if_neg (by omega)]; exact ⟨by omega, i1, by omega⟩, by rw [lkT_br, if_neg (by omega)]; exact ⟨h2, i2⟩, by rw [szT_br, if_neg (by omega)]; omega⟩
        split at h
        · exact hmine _ (by omega) (by omega) σ h
        split at h
        · exact hmine _ (by omega) (by omega) σ h
        · obtain ⟨i1, i2, i3⟩ := (ihl.2 w2).2.2 σ h
          exact ⟨i1, i2, by omega⟩
    · rw [wfB_br] at hw
      rw [ptM_br] at h
      cases hp : (pt r l).1 with
      | none => rw [hp] at h; cases h
      | some a =>
        cases hp2 : (pt r q).2.1 with
        | none => rw [hp, hp2] at h; cases h
        | some b =>
          rw [hp, hp2] at h
          cases h
          obtain ⟨i1, i2, i3⟩ := ihl.1 hw.2.2.1 a hp
          obtain ⟨j1, j2, j3, j4, j5⟩ := (ihq.2 hw.2.2.2).1 b hp2
          exact ⟨by rw [wfB_br]; exact ⟨hw.1, by rw [j5]; exact hw.2.1, i1, j1⟩, by rw [lkB_br]; exact ⟨i2, j2⟩, by rw [szB_br, szB_br]; omega, by rw [lenB_br, lenB_br, j4], fun y => by rw [hasL_br, hasL_br, j5]⟩
    · rw [wfB_br] at hw
      rw [ptA_br] at h
      rw [szB_br]
      cases hp : (pt r l).1 with
      | none => rw [hp] at h; cases h
      | some b =>
        rw [hp] at h
        replace h : ((mg a).1 b).bind (pt r q).2.2.1 = some σ := h
        cases hm : (mg a).1 b with
        | none => rw [hm] at h; cases h
        | some c =>
          rw [hm] at h
          replace h : (pt r q).2.2.1 c = some σ := h
          obtain ⟨i1, i2, i3⟩ := ihl.1 hw.2.2.1 b hp
          obtain ⟨m1, m2, m3⟩ := (mg_ok a).1 b c ha i1 hm
          obtain ⟨j1, j2, j3⟩ := (ihq.2 hw.2.2.2).2.1 c σ m1 (m3 hl i2) h
          exact ⟨j1, j2, by omega⟩
    · rw [wfB_br] at hw
      rw [ptF_br] at h
      rw [szB_br]
      cases hp : (pt r l).1 with
      | none => rw [hp] at h; cases h
      | some b =>
        rw [hp] at h
        replace h : (pt r q).2.2.1 b = some σ := h
        obtain ⟨i1, i2, i3⟩ := ihl.1 hw.2.2.1 b hp
        obtain ⟨j1, j2, j3⟩ := (ihq.2 hw.2.2.2).2.1 b σ i1 i2 h
        exact ⟨j1, j2, by omega⟩
/-- how many new places a part takes at most: of a type, of a list, of the rest of a list -/
def wP : Tr → Nat × Nat × Nat
  | .leaf _ => (1, 0, 0)
  | .branch k l q => (1 + (if k < 3 then (wP l).1 else (wP l).2.1), (wP l).1 + (wP q).2.2, szT l + (wP l).1 + (wP q).2.2)
theorem wP_br (k : Nat) (l q : Tr) : wP (.branch k l q) = (1 + (if k < 3 then (wP l).1 else (wP l).2.1), (wP l).1 + (wP q).2.2, szT l + (wP l).1 + (wP q).2.2) := rfl
theorem chT_pos (md : Bool) (τ : Tr) : 1 ≤ chT md τ := by
  cases τ with
  | leaf k => exact Nat.le_refl 1
  | branch k l r => rw [chT_br]; split <;> (try split) <;> omega
theorem wP_le (τ : Tr) : (∀ D, chT false τ ≤ 13 * D + 13 → (wP τ).1 ≤ (D + 1) * szT τ) ∧ (∀ D, chB false τ + 4 ≤ 13 * D + 13 → (wP τ).2.1 ≤ (D + 1) * szB τ) ∧ (∀ D, chB false τ + 9 ≤ 13 * D + 13 → (wP τ).2.2 ≤ (D + 1) * szB τ) := by
  induction τ with
  | leaf k =>
    refine ⟨fun D _ => ?_, fun D _ => ?_, fun D _ => ?_⟩
    · show 1 ≤ (D + 1) * 1; omega
    · exact Nat.zero_le _
    · exact Nat.zero_le _
  | branch k l q ihl ihq =>
    rw [wP_br]
    refine ⟨fun D h => ?_, fun D h => ?_, fun D h => ?_⟩
    · rw [chT_br] at h
      rw [szT_br]
      dsimp only
      by_cases h3 : k < 3
      · rw [if_pos h3] at h ⊢
        rw [if_pos h3]
        have := ihl.1 D (by omega)
        rw [Nat.mul_add]; omega
      · rw [if_neg h3] at h ⊢
        rw [if_neg h3]
        have := ihl.2.1 D (by simp at h; omega)
        rw [Nat.mul_add]; omega
    · rw [chB_br] at h
      rw [szB_br]
      dsimp only
      have h0 := chT_pos false l
      have h1 := ihl.1 D (by omega)
      have h2 := ihq.2.2 D (by omega)
      rw [Nat.mul_add]; omega
    · rw [chB_br] at h
      rw [szB_br]
      dsimp only
      have h0 := chT_pos false l
      have h2 := ihq.2.2 D (by omega)
      cases D with
      | zero => omega
      | succ D =>
        have h1 := ihl.1 D (by omega)
        rw [Nat.mul_add, show (D + 1 + 1) * szT l = (D + 1) * szT l + szT l by rw [Nat.add_mul (D + 1) 1]; omega]; omega

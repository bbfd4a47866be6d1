/-! PURE: machines, and when one refines another -/
/-- a state of a machine of N states -/
def okS (M : Nat → Int → Int → Int) (N s : Int) : Prop := (0 ≤ M 0 s 0 ∧ M 0 s 0 ≤ 2) ∧ (M 0 s 0 = 0 → M 1 s 0 = -1 ∧ M 2 s 0 = 0) ∧ (M 0 s 0 ≠ 0 → 0 ≤ M 1 s 0 ∧ M 1 s 0 < 4) ∧ (0 ≤ M 2 s 0 ∧ M 2 s 0 ≤ 6) ∧ (∀ j, 0 ≤ j → j < M 2 s 0 → (0 ≤ M 3 s j ∧ M 3 s j < 6) ∧ (0 ≤ M 4 s j ∧ M 4 s j < 3) ∧ 0 ≤ M 5 s j ∧ M 5 s j < N) ∧ ∀ j j', 0 ≤ j → j < M 2 s 0 → 0 ≤ j' → j' < M 2 s 0 → M 3 s j = M 3 s j' → j = j'
def mOK (M : Nat → Int → Int → Int) (N : Int) : Prop := ∀ s, 0 ≤ s → s < N → okS M N s
theorem nS_hd (τ : Tr) (h : hdv τ = 0 ∨ hdv τ = 100) (hw : (wfP τ).1) : 1 ≤ (nS τ).1 := by
  induction τ with
  | leaf k =>
    rw [wfT_leaf] at hw
    replace h : k = 0 ∨ k = 100 := h
    show 1 ≤ if k = 0 then 1 else 0
    rw [if_pos (by omega)]
    exact Nat.le_refl 1
  | branch k l q ihl _ =>
    rw [hdv_br] at h
    rw [wfT_br] at hw
    rw [nS_br]
    by_cases h3 : k < 3
    · rw [if_pos h3] at h hw ⊢; exact ihl h hw
    · rw [if_neg h3]; omega
theorem st_rg (N : Int) : ∀ (τ : Tr) (env : Nat → Int) (s : Int) (bs : Nat → Bool), (wfP τ).1 → (gdd τ).1 bs → (∀ v, v < 3 → (lsP τ).1 v = true → 0 ≤ env v ∧ env v < N) → 0 ≤ s → s + (nS τ).1 ≤ N → 0 ≤ st τ env s ∧ st τ env s < N
  | .leaf k, env, s, bs, hw, hg, he, s0, s1 => by
    rw [wfT_leaf] at hw
    show 0 ≤ (if k = 0 then s else env (k - 1)) ∧ (if k = 0 then s else env (k - 1)) < N
    by_cases e : k = 0
    · have e1 : ((nS (.leaf k)).1 : Int) = 1 := by show (((if k = 0 then 1 else 0 : Nat)) : Int) = 1; rw [if_pos e]; rfl
      rw [if_pos e]; omega
    · rw [if_neg e]
      exact he (k - 1) (by omega) (by show decide (k = k - 1 + 1) = true; rw [decide_eq_true_eq]; omega)
  | .branch k l q, env, s, bs, hw, hg, he, s0, s1 => by
    have hw0 := hw
    have hg0 := hg
    rw [wfT_br] at hw
    rw [gdd_br] at hg
    rw [nS_br] at s1
    rw [st_br]
    by_cases h3 : k < 3
    · rw [if_pos h3] at hw hg s1 ⊢
      refine st_rg N l (ue env k s) s _ hw hg.2 (fun v hv hl => ?_) s0 s1
      by_cases e : v = k
      · subst e
        have := nS_hd l (hd_msg h3 hw0 hg0 hl) hw
        have eu : ue env v s v = s := if_pos rfl
        rw [eu]; omega
      · have eu : ue env k s v = env v := if_neg e
        rw [eu]
        exact he v hv (by rw [lsT_br, if_pos h3, hl, decide_eq_false e]; rfl)
    · rw [if_neg h3] at s1 ⊢
      omega
theorem mR_ok (M : Nat → Int → Int → Int) (N : Int) (τ : Tr) :
    (∀ (env : Nat → Int) (s : Int) (bs : Nat → Bool), (wfP τ).1 → (lkP τ).1 → (gdd τ).1 bs → (∀ v, v < 3 → (lsP τ).1 v = true → 0 ≤ env v ∧ env v < N) → 0 ≤ s → s + (nS τ).1 ≤ N → (mR M τ).1 env s → ∀ i, s ≤ i → i < s + (nS τ).1 → okS M N i) ∧
    (∀ (env : Nat → Int) (ms j s : Int) (bs : Nat → Bool), (wfP τ).2 → (lkP τ).2 → (gdd τ).2 bs → (∀ v, v < 3 → (lsP τ).2 v = true → 0 ≤ env v ∧ env v < N) → 0 ≤ s → s + (nS τ).2 ≤ N → (mR M τ).2 env ms j s → (∀ i, s ≤ i → i < s + (nS τ).2 → okS M N i) ∧ (∀ i, j ≤ i → i < j + lenB τ → ((0 ≤ M 3 ms i ∧ M 3 ms i < 6) ∧ (0 ≤ M 4 ms i ∧ M 4 ms i < 3) ∧ 0 ≤ M 5 ms i ∧ M 5 ms i < N) ∧ hasL τ (M 3 ms i) = true) ∧ ∀ i i', j ≤ i → i < j + lenB τ → j ≤ i' → i' < j + lenB τ → M 3 ms i = M 3 ms i' → i = i') := by
  induction τ with
  | leaf k =>
    refine ⟨fun env s bs hw hl hg he s0 s1 hm i i0 i1 => ?_, fun env ms j s bs hw hl hg he s0 s1 hm => ⟨fun i i0 i1 => ?_, fun i i0 i1 => ?_, fun i i' i0 i1 => ?_⟩⟩
    · by_cases e : k = 0
      · have e1 : ((nS (.leaf k)).1 : Int) = 1 := by show (((if k = 0 then 1 else 0 : Nat)) : Int) = 1; rw [if_pos e]; rfl
        obtain ⟨m1, m2, m3⟩ := hm e
        have ei : i = s := by omega
        unfold okS
        rw [ei, m1, m2, m3]
        exact ⟨⟨by omega, by omega⟩, fun _ => ⟨rfl, rfl⟩, fun h => absurd rfl h, ⟨by omega, by omega⟩, fun j a b => by omega, fun j j' a b => by omega⟩
      · have e1 : ((nS (.leaf k)).1 : Int) = 0 := by show (((if k = 0 then 1 else 0 : Nat)) : Int) = 0; rw [if_neg e]; rfl
        omega
    · have e1 : ((nS (.leaf k)).2 : Int) = 0 := rfl
      omega
    · have e1 : ((lenB (.leaf k) : Nat) : Int) = 0 := rfl
      omega
    · have e1 : ((lenB (.leaf k) : Nat) : Int) = 0 := rfl
      omega
  | branch k l q ihl ihq =>
    refine ⟨fun env s bs hw hl hg he s0 s1 hm i i0 i1 => ?_, fun env ms j s bs hw hl hg he s0 s1 hm => ?_⟩
    · have hw0 := hw
      have hg0 := hg
      rw [wfT_br] at hw
      rw [lkT_br] at hl
      rw [gdd_br] at hg
      rw [mR_br] at hm
      by_cases h3 : k < 3
      · rw [nS_br, if_pos h3] at s1 i1
        rw [if_pos h3] at hw hl hg hm
        refine ihl.1 _ s _ hw hl hg.2 (fun v hv hv2 => ?_) s0 s1 hm i i0 i1
        by_cases e : v = k
        · subst e
          have := nS_hd l (hd_msg h3 hw0 hg0 hv2) hw
          have eu : ue env v s v = s := if_pos rfl
          rw [eu]; omega
        · have eu : ue env k s v = env v := if_neg e
          rw [eu]
          exact he v hv (by rw [lsT_br, if_pos h3, hv2, decide_eq_false e]; rfl)
      · have e1 : ((nS (.branch k l q)).1 : Int) = 1 + (nS l).2 := by rw [nS_br, if_neg h3]; omega
        rw [if_neg h3] at hw hl hg hm
        obtain ⟨g1, g2, g3⟩ := ihl.2 env s 0 (s + 1) bs hw.2.1 hl.2 hg (fun v hv hv2 => he v hv (by rw [lsT_br, if_neg h3]; exact hv2)) (by omega) (by omega) hm.2
        by_cases ei : i = s
        · obtain ⟨m1, m2, m3⟩ := hm.1
          have hle := lenB_le l hw.2.1
          unfold okS
          rw [ei, m2, m3]
          have hk : M 0 s 0 = 1 ∨ M 0 s 0 = 2 := by rw [m1]; split <;> omega
          exact ⟨by omega, fun h => by omega, fun _ => by omega, by omega, fun j a b => (g2 j a (by omega)).1, fun j j' a b a' b' => g3 j j' a (by omega) a' (by omega)⟩
        · exact g1 i (by omega) (by omega)
    · rw [wfB_br] at hw
      rw [lkB_br] at hl
      rw [gdd_brB] at hg
      rw [mR_brB] at hm
      have hns : ((nS (.branch k l q)).2 : Int) = (nS l).1 + (nS q).2 := by rw [nS_brB]; omega
      have hlen := lenB_br k l q
      have he1 : ∀ v, v < 3 → (lsP l).1 v = true → 0 ≤ env v ∧ env v < N := fun v hv h => he v hv (by rw [lsB_br, h]; rfl)
      have he2 : ∀ v, v < 3 → (lsP q).2 v = true → 0 ≤ env v ∧ env v < N := fun v hv h => he v hv (by rw [lsB_br, h, Bool.or_true])
      obtain ⟨⟨m1, m2, m3⟩, m4, m5⟩ := hm
      obtain ⟨j1, j2, j3⟩ := ihq.2 env ms (j + 1) (s + (nS l).1) bs hw.2.2.2 hl.2 hg.2 he2 (by omega) (by omega) m5
      have i1' := ihl.1 env s bs hw.2.2.1 hl.1 hg.1 he1 s0 (by omega) m4
      have hst := st_rg N l env s bs hw.2.2.1 hg.1 he1 s0 (by omega)
      refine ⟨fun i i0 i1 => ?_, fun i i0 i1 => ?_, fun i i' i0 i1 i0' i1' he => ?_⟩
      · by_cases h : i < s + (nS l).1
        · exact i1' i i0 h
        · exact j1 i (by omega) (by omega)
      · by_cases h : i = j
        · rw [h, m1, m2, m3]
          exact ⟨⟨⟨by omega, by omega⟩, ⟨by omega, by omega⟩, hst⟩, by rw [hasL_br, decide_eq_true rfl]; rfl⟩
        · obtain ⟨a, b⟩ := j2 i (by omega) (by omega)
          exact ⟨a, by rw [hasL_br, b, Bool.or_true]⟩
      · by_cases h : i = j
        · by_cases h' : i' = j
          · omega
          · have b := (j2 i' (by omega) (by omega)).2
            rw [← he, h, m1, hw.2.1] at b; cases b
        · by_cases h' : i' = j
          · have b := (j2 i (by omega) (by omega)).2
            rw [he, h', m1, hw.2.1] at b; cases b
          · exact j3 i i' (by omega) (by omega) (by omega) (by omega) he
/-- the first label of a state that is l, with sort so: where it leads; -1 -/
def sam (P : Nat → Int → Int → Int) (y l so : Int) : Nat → Int → Int
  | 0, _ => -1
  | c + 1, j => if P 3 y j = l ∧ P 4 y j = so then P 5 y j else sam P y l so c (j + 1)
/-- what is to be met then: pairs (of the one that gives, of the one that has) -/
def nxL (G H : Nat → Int → Int → Int) (x y : Int) : Nat → Int → Option (List (Int × Int))
  | 0, _ => some []
  | c + 1, j => if sam H y (G 3 x j) (G 4 x j) (H 2 y 0).toNat 0 < 0 then none else (nxL G H x y c (j + 1)).map (fun l => (G 5 x j, sam H y (G 3 x j) (G 4 x j) (H 2 y 0).toNat 0) :: l)
def swp (p : Int × Int) : Int × Int := (p.2, p.1)
def suit (M P : Nat → Int → Int → Int) (a b : Int) : Option (List (Int × Int)) := if M 0 a 0 ≠ P 0 b 0 ∨ M 1 a 0 ≠ P 1 b 0 then none else if M 0 a 0 = 1 then nxL M P a b (M 2 a 0).toNat 0 else (nxL P M b a (P 2 b 0).toNat 0).map (List.map swp)
def addP (w : List (Int × Int)) : List (Int × Int) → List (Int × Int)
  | [] => w
  | p :: l => addP (if p ∈ w then w else w ++ [p]) l
def rfn (M P : Nat → Int → Int → Int) : Nat → List (Int × Int) → Nat → Bool
  | 0, _, _ => true
  | f + 1, w, k => match w[k]? with
    | none => true
    | some p => match suit M P p.1 p.2 with
      | none => false
      | some l => rfn M P f (addP w l) (k + 1)
def refP (M P : Nat → Int → Int → Int) : Bool := rfn M P 1000 [(0, 0)] 0
/-- a list of pairs to be looked at -/
def wok (N N' : Int) (w : List (Int × Int)) : Prop := w.Nodup ∧ ∀ p ∈ w, (0 ≤ p.1 ∧ p.1 < N) ∧ 0 ≤ p.2 ∧ p.2 < N'
theorem nd_len : ∀ (n : Nat) (l : List Nat), l.Nodup → (∀ x ∈ l, x < n) → l.length ≤ n
  | 0, l, _, h => by
    cases l with
    | nil => exact Nat.le_refl 0
    | cons a l => exact absurd (h a (List.mem_cons_self ..)) (by omega)
  | n + 1, l, hn, h => by
    have h1 := nd_len n (l.filter (fun x => decide (x ≠ n))) (List.Nodup.sublist List.filter_sublist hn) (fun x hx => by
      rw [List.mem_filter, decide_eq_true_eq] at hx
      have := h x hx.1
      omega)
    have h2 : l.length ≤ (l.filter (fun x => decide (x ≠ n))).length + 1 := by
      clear h1 h
      induction l with
      | nil => exact Nat.zero_le _
      | cons a l ih =>
        rw [List.nodup_cons] at hn
        have := ih hn.2
        rw [List.filter_cons]
        by_cases e : a = n
        · rw [if_neg (by rw [decide_eq_true_eq]; exact fun h => h e)]
          have : l.filter (fun x => decide (x ≠ n)) = l := by
            rw [List.filter_eq_self]
            intro x hx
            rw [decide_eq_true_eq]
            intro h
            exact hn.1 (by rw [e, ← h]; exact hx)
          rw [this, List.length_cons]
          exact Nat.le_refl _
        · rw [if_pos (by rw [decide_eq_true_eq]; exact e), List.length_cons, List.length_cons]
          omega
    omega
theorem wok_len {N N' : Int} {w : List (Int × Int)} (h : wok N N' w) (hN : N ≤ 30) (hN' : N' ≤ 30) : w.length ≤ 900 := by
  have := nd_len 900 (w.map (fun p => (30 * p.1 + p.2).toNat)) ?_ ?_
  · rw [List.length_map] at this; exact this
  · rw [List.Nodup, List.pairwise_map]
    refine List.Pairwise.imp_of_mem (R := fun a b => a ≠ b) (fun {a b} ha hb hne => ?_) h.1
    intro he
    have h1 := h.2 a ha
    have h2 := h.2 b hb
    exact hne (Prod.ext (by omega) (by omega))
  · intro x hx
    obtain ⟨p, hp, rfl⟩ := List.mem_map.mp hx
    have h1 := h.2 p hp
    omega
theorem wok_add {N N' : Int} {w : List (Int × Int)} {p : Int × Int} (h : wok N N' w) (h1 : 0 ≤ p.1 ∧ p.1 < N) (h2 : 0 ≤ p.2 ∧ p.2 < N') (hp : p ∉ w) : wok N N' (w ++ [p]) := by
  refine ⟨?_, fun q hq => ?_⟩
  · rw [List.nodup_append]
    exact ⟨h.1, by simp, fun a ha b hb => by rw [List.mem_singleton] at hb; intro e; exact hp (by rw [← hb, ← e]; exact ha)⟩
  · rw [List.mem_append, List.mem_singleton] at hq
    rcases hq with hq | hq
    · exact h.2 q hq
    · rw [hq]; exact ⟨h1, h2⟩
theorem sam_rg {P : Nat → Int → Int → Int} {N y l so : Int} (hk : okS P N y) : ∀ (c : Nat) (j : Int), 0 ≤ j → j + c ≤ P 2 y 0 → sam P y l so c j = -1 ∨ (0 ≤ sam P y l so c j ∧ sam P y l so c j < N)
  | 0, j, _, _ => Or.inl rfl
  | c + 1, j, j0, j1 => by
    have e : sam P y l so (c + 1) j = if P 3 y j = l ∧ P 4 y j = so then P 5 y j else sam P y l so c (j + 1) := rfl
    rw [e]
    split
    · exact Or.inr (hk.2.2.2.2.1 j j0 (by omega)).2.2
    · exact sam_rg hk c (j + 1) (by omega) (by omega)
/-- a closed, well-made local type -/
def gT (σ : Tr) : Prop := (wfP σ).1 ∧ (lkP σ).1 ∧ (gdd σ).1 (fun _ => false) ∧ szT σ ≤ 30
/-- machine m is the one of a type, or there is none -/
def mch (A : Nat → Int → Int) (m : Int) (o : Option Tr) : Prop := match o with
  | none => A 122 m = 0
  | some σ => gT σ ∧ A 122 m = (nS σ).1 ∧ ∀ env, (mR (tM A m) σ).1 env 0
def sameM (A B : Nat → Int → Int) (m : Int) : Prop := B 122 m = A 122 m ∧ ∀ f s j, f ≤ 5 → 0 ≤ s → s < 31 → 0 ≤ j → j < 6 → tM B m f s j = tM A m f s j
theorem sameM.tr {A B C : Nat → Int → Int} {m : Int} (h : sameM A B m) (h' : sameM B C m) : sameM A C m := ⟨h'.1.trans h.1, fun f s j a b c e k => (h'.2 f s j a b c e k).trans (h.2 f s j a b c e k)⟩
theorem mR_cg {M M' : Nat → Int → Int → Int} {N : Int} (hM : ∀ f s j, f ≤ 5 → 0 ≤ s → s < N → 0 ≤ j → j < 6 → M' f s j = M f s j) (τ : Tr) :
    (∀ (env : Nat → Int) (s : Int), (wfP τ).1 → 0 ≤ s → s + (nS τ).1 ≤ N → (mR M τ).1 env s → (mR M' τ).1 env s) ∧
    (∀ (env : Nat → Int) (ms j s : Int), (wfP τ).2 → 0 ≤ ms → ms < N → 0 ≤ j → j + lenB τ ≤ 6 → 0 ≤ s → s + (nS τ).2 ≤ N → (mR M τ).2 env ms j s → (mR M' τ).2 env ms j s) := by
  induction τ with
  | leaf k =>
    refine ⟨fun env s hw s0 s1 h hk => ?_, fun _ _ _ _ _ _ _ _ _ _ _ _ => trivial⟩
    have e1 : ((nS (.leaf k)).1 : Int) = 1 := by show (((if k = 0 then 1 else 0 : Nat)) : Int) = 1; rw [if_pos hk]; rfl
    rw [hM 0 s 0 (by decide) s0 (by omega) (by omega) (by omega), hM 1 s 0 (by decide) s0 (by omega) (by omega) (by omega), hM 2 s 0 (by decide) s0 (by omega) (by omega) (by omega)]
    exact h hk
  | branch k l q ihl ihq =>
    refine ⟨fun env s hw s0 s1 h => ?_, fun env ms j s hw m0 m1 j0 j1 s0 s1 h => ?_⟩
    · rw [wfT_br] at hw
      rw [mR_br] at h ⊢
      by_cases h3 : k < 3
      · rw [nS_br, if_pos h3] at s1
        rw [if_pos h3] at hw h ⊢
        exact ihl.1 _ s hw s0 s1 h
      · have e1 : ((nS (.branch k l q)).1 : Int) = 1 + (nS l).2 := by rw [nS_br, if_neg h3]; omega
        rw [if_neg h3] at hw h ⊢
        have hle := lenB_le l hw.2.1
        rw [hM 0 s 0 (by decide) s0 (by omega) (by omega) (by omega), hM 1 s 0 (by decide) s0 (by omega) (by omega) (by omega), hM 2 s 0 (by decide) s0 (by omega) (by omega) (by omega)]
        exact ⟨h.1, ihl.2 env s 0 (s + 1) hw.2.1 s0 (by omega) (by omega) (by omega) (by omega) (by omega) h.2⟩
    · rw [wfB_br] at hw
      rw [mR_brB] at h ⊢
      have hlen := lenB_br k l q
      have hns : ((nS (.branch k l q)).2 : Int) = (nS l).1 + (nS q).2 := by rw [nS_brB]; omega
      rw [hM 3 ms j (by decide) m0 m1 j0 (by omega), hM 4 ms j (by decide) m0 m1 j0 (by omega), hM 5 ms j (by decide) m0 m1 j0 (by omega)]
      exact ⟨h.1, ihl.1 env s hw.2.2.1 s0 (by omega) h.2.1, ihq.2 env ms (j + 1) (s + (nS l).1) hw.2.2.2 m0 m1 (by omega) (by omega) (by omega) (by omega) h.2.2⟩
theorem mch_fr {A B : Nat → Int → Int} {m : Int} {o : Option Tr} (hs : sameM A B m) (h : mch A m o) : mch B m o := by
  cases o with
  | none => exact hs.1.trans h
  | some σ =>
    obtain ⟨h1, h2, h3⟩ := h
    have hle := (nS_le σ).1
    have h4 := h1.2.2.2
    exact ⟨h1, hs.1.trans h2, fun env => (mR_cg (N := 31) hs.2 σ).1 env 0 h1.1 (by omega) (by omega) (h3 env)⟩
theorem mch_ok {A : Nat → Int → Int} {m : Int} {o : Option Tr} (h : mch A m o) : mOK (tM A m) (A 122 m) ∧ 0 ≤ A 122 m ∧ A 122 m ≤ 30 := by
  cases o with
  | none =>
    replace h : A 122 m = 0 := h
    rw [h]
    exact ⟨fun s a b => by omega, by omega, by omega⟩
  | some σ =>
    obtain ⟨⟨w, l, g, z⟩, h2, h3⟩ := h
    have hle := (nS_le σ).1
    rw [h2]
    exact ⟨fun s a b => (mR_ok (tM A m) (nS σ).1 σ).1 (fun _ => 0) 0 _ w l g (fun v _ hl => by have := (gd_ls σ).1 _ v g hl; cases this) (by omega) (by omega) (h3 _) s a (by omega), by omega, by omega⟩
/-- a text that was read -/
theorem pr_le (cx : Int → Int) (md : Bool) (len : Int) (hx : ∀ i, len ≤ i → cx i = -1) : ∀ (f : Nat) (env : List Int) (p k : Int) (bef : Int → Bool), (∀ τ p' k', pr cx md f false env p k bef = .inr (τ, p', k') → p' ≤ len) ∧ (∀ bs p' k', pr cx md f true env p k bef = .inr (bs, p', k') → p' ≤ len) := by
  have hlt : ∀ i, 0 ≤ cx i → i < len := fun i h => Decidable.byContradiction fun h2 => by have := hx i (by omega); omega
  intro f
  induction f with
  | zero =>
    intro env p k bef
    exact ⟨fun τ p' k' h => by simp [pr] at h, fun τ p' k' h => by simp [pr] at h⟩
  | succ f ih =>
    intro env p k bef
    constructor
    · intro τ p' k' h
      rw [pr_T] at h
      split at h
      · cases h
      split at h
      · rename_i hc
        cases h
        have := hlt p (by omega); omega
      split at h
      · split at h
        · cases h
        split at h
        · cases h
        split at h
        · cases h
        · rename_i hr
          cases h
          exact (ih _ _ _ _).1 _ _ _ hr
      split at h
      · rename_i hc
        split at h
        · cases h
          have := hlt p (by omega); omega
        · cases h
      split at h
      · split at h
        · split at h
          · cases h
          split at h
          · cases h
          split at h
          · cases h
          · rename_i hr
            cases h
            exact (ih _ _ _ _).2 _ _ _ hr
        · split at h
          · cases h
          split at h
          · cases h
          split at h
          · cases h
          split at h
          · cases h
          · rename_i hr
            cases h
            exact (ih _ _ _ _).2 _ _ _ hr
      · cases h
    · intro bs p' k' h
      rw [pr_B] at h
      split at h
      · cases h
      split at h
      · cases h
      split at h
      · cases h
      split at h
      · cases h
      · rename_i τ p1 k2 hr
        split at h
        · split at h
          · cases h
          · rename_i bs2 p2 k3 hr2
            cases h
            exact (ih _ _ _ _).2 _ _ _ hr2
        · split at h
          · rename_i hc
            cases h
            have := hlt p1 (by omega); omega
          · cases h
theorem pr_lk (cx : Int → Int) : ∀ (f : Nat) (env : List Int) (p k : Int) (bef : Int → Bool), (∀ τ p' k', pr cx true f false env p k bef = .inr (τ, p', k') → (lkP τ).1) ∧ (∀ bs p' k', pr cx true f true env p k bef = .inr (bs, p', k') → (lkP bs).2) := by
  intro f
  induction f with
  | zero =>
    intro env p k bef
    exact ⟨fun τ p' k' h => by simp [pr] at h, fun τ p' k' h => by simp [pr] at h⟩
  | succ f ih =>
    intro env p k bef
    constructor
    · intro τ p' k' h
      rw [pr_T] at h
      split at h
      · cases h
      split at h
      · cases h
        trivial
      split at h
      · split at h
        · cases h
        rename_i hv
        split at h
        · cases h
        split at h
        · cases h
        · rename_i hr
          cases h
          rw [lkT_br, if_pos (by omega)]
          exact (ih _ _ _ _).1 _ _ _ hr
      split at h
      · split at h
        · cases h
          trivial
        · cases h
      split at h
      · rename_i hc
        split at h
        · split at h
          · cases h
          split at h
          · cases h
          split at h
          · cases h
          · rename_i hr
            cases h
            rw [lkT_br, if_neg (by split <;> omega)]
            exact ⟨by split <;> omega, (ih _ _ _ _).2 _ _ _ hr⟩
        · rename_i hh
          exact absurd rfl hh
      · cases h
    · intro bs p' k' h
      rw [pr_B] at h
      split at h
      · cases h
      split at h
      · cases h
      split at h
      · cases h
      split at h
      · cases h
      · rename_i τ p1 k2 hr
        split at h
        · split at h
          · cases h
          · rename_i bs2 p2 k3 hr2
            cases h
            rw [lkB_br]
            exact ⟨(ih _ _ _ _).1 _ _ _ hr, (ih _ _ _ _).2 _ _ _ hr2⟩
        · split at h
          · cases h
            rw [lkB_br]
            exact ⟨(ih _ _ _ _).1 _ _ _ hr, trivial⟩
          · cases h
/-- what reading a whole text tells -/
theorem rdR_ok {cx : Int → Int} {md : Bool} {len k : Int} {τ : Tr} (hx : ∀ i, len ≤ i → cx i = -1) (h : rdR cx md len = .inr (τ, k)) : (wfP τ).1 ∧ k = szT τ ∧ k ≤ 30 ∧ chT md τ ≤ len ∧ (gdd τ).1 (fun _ => false) ∧ (∀ v, v < 3 → (lsP τ).1 v = false) ∧ (md = true → (lkP τ).1) := by
  unfold rdR at h
  split at h
  · cases h
  · rename_i τ' p k' hr
    split at h
    · cases h
    · cases h
      obtain ⟨a1, a2, a3, a4⟩ := (pr_ok cx md 100 [] 0 0 (fun _ => false) (by omega) (by omega)).1 _ _ _ hr
      obtain ⟨b1, b2, b3⟩ := (pr_gd cx md 100 [] 0 0 (fun _ => false) (by omega) (by omega)).1 _ _ _ hr
      have c := (pr_le cx md len hx 100 [] 0 0 (fun _ => false)).1 _ _ _ hr
      have e : be [] = fun _ => false := by funext v; unfold be; simp
      rw [e] at b1
      refine ⟨a3, by omega, a4, by omega, b1, fun v hv => ?_, fun hm => ?_⟩
      · cases hl : (lsP τ).1 v with
        | false => rfl
        | true => exact absurd (b3 v hv hl) (by simp)
      · subst hm
        exact (pr_lk cx 100 [] 0 0 (fun _ => false)).1 _ _ _ hr
theorem pr_er (cx : Int → Int) (md : Bool) (len : Int) (hx : ∀ i, len ≤ i → cx i = -1) : ∀ (f : Nat) (env : List Int) (p k : Int) (bef : Int → Bool), p ≤ len → (∀ e, pr cx md f false env p k bef = .inl e → e ≤ len) ∧ (∀ e, pr cx md f true env p k bef = .inl e → e ≤ len) := by
  have hlt : ∀ i, 0 ≤ cx i → i < len := fun i h => Decidable.byContradiction fun h2 => by have := hx i (by omega); omega
  intro f
  induction f with
  | zero =>
    intro env p k bef hp'
    exact ⟨fun e h => by simp only [pr] at h; cases h; exact hp', fun e h => by simp only [pr] at h; cases h; exact hp'⟩
  | succ f ih =>
    intro env p k bef hp'
    constructor
    · intro e h
      rw [pr_T] at h
      split at h
      · cases h; exact hp'
      split at h
      · cases h
      split at h
      · rename_i hm
        have q0 := hlt p (by omega)
        split at h
        · cases h; omega
        have q1 := hlt (p + 1) (by omega)
        split at h
        · cases h; omega
        have q2 := hlt (p + 2) (by omega)
        split at h
        · rename_i hr
          cases h
          exact (ih _ _ _ _ (by omega)).1 _ hr
        · cases h
      split at h
      · split at h
        · cases h
        · cases h; exact hp'
      split at h
      · rename_i hc
        have q0 := hlt p (by omega)
        split at h
        · split at h
          · cases h; omega
          have q1 := hlt (p + 1) (by omega)
          split at h
          · cases h; omega
          have q2 := hlt (p + 2) (by omega)
          split at h
          · rename_i hr
            cases h
            exact (ih _ _ _ _ (by omega)).2 _ hr
          · cases h
        · split at h
          · cases h; omega
          have q1 := hlt (p + 1) (by omega)
          split at h
          · cases h; omega
          have q2 := hlt (p + 2) (by omega)
          split at h
          · cases h; omega
          have q3 := hlt (p + 3) (by omega)
          split at h
          · rename_i hr
            cases h
            exact (ih _ _ _ _ (by omega)).2 _ hr
          · cases h
      · cases h; exact hp'
    · intro e h
      rw [pr_B] at h
      split at h
      · cases h; exact hp'
      have q0 := hlt p (by omega)
      split at h
      · cases h; omega
      have q1 := hlt (p + 1) (by omega)
      split at h
      · cases h; omega
      have q2 := hlt (p + 2) (by omega)
      split at h
      · rename_i hr
        cases h
        exact (ih _ _ _ _ (by omega)).1 _ hr
      · rename_i τ p1 k2 hr
        have q3 := (pr_le cx md len hx f _ _ _ _).1 _ _ _ hr
        split at h
        · rename_i hc
          have q4 := hlt p1 (by omega)
          split at h
          · rename_i hr2
            cases h
            exact (ih _ _ _ _ (by omega)).2 _ hr2
          · cases h
        · split at h
          · cases h
          · cases h; exact q3
theorem rdR_er {cx : Int → Int} {md : Bool} {len e : Int} (hx : ∀ i, len ≤ i → cx i = -1) (l0 : 0 ≤ len) (h : rdR cx md len = .inl e) : e ≤ len := by
  unfold rdR at h
  split at h
  · rename_i hr
    cases h
    exact (pr_er cx md len hx 100 [] 0 0 (fun _ => false) l0).1 _ hr
  · split at h
    · cases h; omega
    · cases h
/-- it depends on the states alone -/
def eqM (M M' : Nat → Int → Int → Int) (N : Int) : Prop := ∀ s, 0 ≤ s → s < N → M' 0 s 0 = M 0 s 0 ∧ M' 1 s 0 = M 1 s 0 ∧ M' 2 s 0 = M 2 s 0 ∧ ∀ j, 0 ≤ j → j < M 2 s 0 → M' 3 s j = M 3 s j ∧ M' 4 s j = M 4 s j ∧ M' 5 s j = M 5 s j
theorem sam_cg {P P' : Nat → Int → Int → Int} {N y l so : Int} (h : eqM P P' N) (y0 : 0 ≤ y) (y1 : y < N) : ∀ (c : Nat) (j : Int), 0 ≤ j → j + c ≤ P 2 y 0 → sam P' y l so c j = sam P y l so c j
  | 0, j, _, _ => rfl
  | c + 1, j, j0, j1 => by
    show (if P' 3 y j = l ∧ P' 4 y j = so then P' 5 y j else sam P' y l so c (j + 1)) = if P 3 y j = l ∧ P 4 y j = so then P 5 y j else sam P y l so c (j + 1)
    obtain ⟨h3, h4, h5⟩ := (h y y0 y1).2.2.2 j j0 (by omega)
    rw [h3, h4, h5, sam_cg h y0 y1 c (j + 1) (by omega) (by omega)]
theorem nxL_cg {G G' H H' : Nat → Int → Int → Int} {N N' x y : Int} (hG : eqM G G' N) (hH : eqM H H' N') (x0 : 0 ≤ x) (x1 : x < N) (y0 : 0 ≤ y) (y1 : y < N') (c0 : 0 ≤ H 2 y 0) : ∀ (c : Nat) (j : Int), 0 ≤ j → j + c ≤ G 2 x 0 → nxL G' H' x y c j = nxL G H x y c j
  | 0, j, _, _ => rfl
  | c + 1, j, j0, j1 => by
    have e2 := (hH y y0 y1).2.2.1
    obtain ⟨h3, h4, h5⟩ := (hG x x0 x1).2.2.2 j j0 (by omega)
    show (if sam H' y (G' 3 x j) (G' 4 x j) (H' 2 y 0).toNat 0 < 0 then none else (nxL G' H' x y c (j + 1)).map (fun l => (G' 5 x j, sam H' y (G' 3 x j) (G' 4 x j) (H' 2 y 0).toNat 0) :: l)) = if sam H y (G 3 x j) (G 4 x j) (H 2 y 0).toNat 0 < 0 then none else (nxL G H x y c (j + 1)).map (fun l => (G 5 x j, sam H y (G 3 x j) (G 4 x j) (H 2 y 0).toNat 0) :: l)
    rw [h3, h4, h5, e2, sam_cg hH y0 y1 _ 0 (by omega) (by omega), nxL_cg hG hH x0 x1 y0 y1 c0 c (j + 1) (by omega) (by omega)]
theorem nxL_rg {G H : Nat → Int → Int → Int} {Ng Nh x y : Int} (hG : okS G Ng x) (hH : okS H Nh y) : ∀ (c : Nat) (j : Int) (l : List (Int × Int)), 0 ≤ j → j + c ≤ G 2 x 0 → nxL G H x y c j = some l → ∀ q ∈ l, (0 ≤ q.1 ∧ q.1 < Ng) ∧ 0 ≤ q.2 ∧ q.2 < Nh
  | 0, j, l, _, _, h => by cases h; exact fun q hq => by cases hq
  | c + 1, j, l, j0, j1, h => by
    replace h : (if sam H y (G 3 x j) (G 4 x j) (H 2 y 0).toNat 0 < 0 then none else (nxL G H x y c (j + 1)).map (fun l => (G 5 x j, sam H y (G 3 x j) (G 4 x j) (H 2 y 0).toNat 0) :: l)) = some l := h
    have hh := hH.2.2.2.1
    have hs := sam_rg (l := G 3 x j) (so := G 4 x j) hH (H 2 y 0).toNat 0 (by omega) (by omega)
    split at h
    · cases h
    · cases hn : nxL G H x y c (j + 1) with
      | none => rw [hn] at h; cases h
      | some l' =>
        rw [hn] at h
        cases h
        intro q hq
        rcases List.mem_cons.mp hq with e | e
        · rw [e]
          exact ⟨(hG.2.2.2.2.1 j j0 (by omega)).2.2, by rcases hs with hs | hs; omega; exact hs⟩
        · exact nxL_rg hG hH c (j + 1) l' (by omega) (by omega) hn q e
theorem suit_cg {M M' P P' : Nat → Int → Int → Int} {N N' a b : Int} (hM : eqM M M' N) (hP : eqM P P' N') (oM : mOK M N) (oP : mOK P N') (a0 : 0 ≤ a) (a1 : a < N) (b0 : 0 ≤ b) (b1 : b < N') : suit M' P' a b = suit M P a b := by
  have ha := oM a a0 a1
  have hb := oP b b0 b1
  obtain ⟨-, -, -, ⟨ha0, ha1⟩, -, -⟩ := ha
  obtain ⟨-, -, -, ⟨hb0, hb1⟩, -, -⟩ := hb
  obtain ⟨m0, m1, m2, -⟩ := hM a a0 a1
  obtain ⟨p0, p1, p2, -⟩ := hP b b0 b1
  unfold suit
  rw [m0, m1, m2, p0, p1, p2, nxL_cg hM hP a0 a1 b0 b1 hb0 _ 0 (by omega) (by omega), nxL_cg hP hM b0 b1 a0 a1 ha0 _ 0 (by omega) (by omega)]
theorem suit_rg {M P : Nat → Int → Int → Int} {N N' a b : Int} {l : List (Int × Int)} (ha : okS M N a) (hb : okS P N' b) (h : suit M P a b = some l) : ∀ q ∈ l, (0 ≤ q.1 ∧ q.1 < N) ∧ 0 ≤ q.2 ∧ q.2 < N' := by
  unfold suit at h
  have h1 := ha.2.2.2.1
  have h2 := hb.2.2.2.1
  split at h
  · cases h
  split at h
  · exact nxL_rg ha hb _ 0 l (by omega) (by omega) h
  · cases hn : nxL P M b a (P 2 b 0).toNat 0 with
    | none => rw [hn] at h; cases h
    | some l' =>
      rw [hn] at h
      cases h
      intro q hq
      obtain ⟨q', h3, rfl⟩ := List.mem_map.mp hq
      have := nxL_rg hb ha _ 0 l' (by omega) (by omega) hn q' h3
      exact ⟨this.2, this.1⟩
theorem wok_addP {N N' : Int} : ∀ (l w : List (Int × Int)), wok N N' w → (∀ q ∈ l, (0 ≤ q.1 ∧ q.1 < N) ∧ 0 ≤ q.2 ∧ q.2 < N') → wok N N' (addP w l)
  | [], w, h, _ => h
  | p :: l, w, h, hl => by
    show wok N N' (addP (if p ∈ w then w else w ++ [p]) l)
    refine wok_addP l _ ?_ (fun q hq => hl q (List.mem_cons_of_mem _ hq))
    have hp' := hl p (List.mem_cons_self ..)
    by_cases e : p ∈ w
    · rw [if_pos e]; exact h
    · rw [if_neg e]; exact wok_add h hp'.1 hp'.2 e
theorem rfn_cg {M M' P P' : Nat → Int → Int → Int} {N N' : Int} (hM : eqM M M' N) (hP : eqM P P' N') (oM : mOK M N) (oP : mOK P N') : ∀ (f : Nat) (w : List (Int × Int)) (k : Nat), wok N N' w → rfn M' P' f w k = rfn M P f w k
  | 0, w, k, _ => rfl
  | f + 1, w, k, hw => by
    show (match w[k]? with
      | none => true
      | some p => match suit M' P' p.1 p.2 with
        | none => false
        | some l => rfn M' P' f (addP w l) (k + 1)) = match w[k]? with
      | none => true
      | some p => match suit M P p.1 p.2 with
        | none => false
        | some l => rfn M P f (addP w l) (k + 1)
    cases hk : w[k]? with
    | none => rfl
    | some p =>
      have hp' := hw.2 p (List.mem_of_getElem? hk)
      show (match suit M' P' p.1 p.2 with
        | none => false
        | some l => rfn M' P' f (addP w l) (k + 1)) = match suit M P p.1 p.2 with
        | none => false
        | some l => rfn M P f (addP w l) (k + 1)
      rw [suit_cg hM hP oM oP hp'.1.1 hp'.1.2 hp'.2.1 hp'.2.2]
      cases hs : suit M P p.1 p.2 with
      | none => rfl
      | some l => exact rfn_cg hM hP oM oP f _ _ (wok_addP l w hw (suit_rg (oM _ hp'.1.1 hp'.1.2) (oP _ hp'.2.1 hp'.2.2) hs))
theorem refP_cg {M M' P P' : Nat → Int → Int → Int} {N N' : Int} (hM : eqM M M' N) (hP : eqM P P' N') (oM : mOK M N) (oP : mOK P N') (h0 : 0 < N) (h0' : 0 < N') : refP M' P' = refP M P :=
  rfn_cg hM hP oM oP 1000 [(0, 0)] 0 ⟨by simp, fun q hq => by rw [List.mem_singleton] at hq; rw [hq]; exact ⟨⟨by decide, h0⟩, by decide, h0'⟩⟩
/-- the machine of a type is what the type says -/
theorem mR_u (M M' : Nat → Int → Int → Int) (τ : Tr) :
    (∀ (env : Nat → Int) (s : Int), (mR M τ).1 env s → (mR M' τ).1 env s → ∀ i, s ≤ i → i < s + (nS τ).1 → M' 0 i 0 = M 0 i 0 ∧ M' 1 i 0 = M 1 i 0 ∧ M' 2 i 0 = M 2 i 0 ∧ ∀ j, 0 ≤ j → j < M 2 i 0 → M' 3 i j = M 3 i j ∧ M' 4 i j = M 4 i j ∧ M' 5 i j = M 5 i j) ∧
    (∀ (env : Nat → Int) (ms j s : Int), (mR M τ).2 env ms j s → (mR M' τ).2 env ms j s → (∀ i, s ≤ i → i < s + (nS τ).2 → M' 0 i 0 = M 0 i 0 ∧ M' 1 i 0 = M 1 i 0 ∧ M' 2 i 0 = M 2 i 0 ∧ ∀ j, 0 ≤ j → j < M 2 i 0 → M' 3 i j = M 3 i j ∧ M' 4 i j = M 4 i j ∧ M' 5 i j = M 5 i j) ∧ ∀ i, j ≤ i → i < j + lenB τ → M' 3 ms i = M 3 ms i ∧ M' 4 ms i = M 4 ms i ∧ M' 5 ms i = M 5 ms i) := by
  induction τ with
  | leaf k =>
    refine ⟨fun env s h h' i i0 i1 => ?_, fun env ms j s _ _ => ⟨fun i i0 i1 => ?_, fun i i0 i1 => ?_⟩⟩
    · by_cases e : k = 0
      · have e1 : ((nS (.leaf k)).1 : Int) = 1 := by show (((if k = 0 then 1 else 0 : Nat)) : Int) = 1; rw [if_pos e]; rfl
        obtain ⟨a, b, c⟩ := h e
        obtain ⟨a', b', c'⟩ := h' e
        rw [show i = s by omega, a, b, c, a', b', c']
        exact ⟨rfl, rfl, rfl, fun j j0 j1 => by omega⟩
      · have e1 : ((nS (.leaf k)).1 : Int) = 0 := by show (((if k = 0 then 1 else 0 : Nat)) : Int) = 0; rw [if_neg e]; rfl
        omega
    · have e1 : ((nS (.leaf k)).2 : Int) = 0 := rfl
      omega
    · have e1 : ((lenB (.leaf k) : Nat) : Int) = 0 := rfl
      omega
  | branch k l q ihl ihq =>
    refine ⟨fun env s h h' i i0 i1 => ?_, fun env ms j s h h' => ?_⟩
    · rw [mR_br] at h h'
      by_cases h3 : k < 3
      · rw [nS_br, if_pos h3] at i1
        rw [if_pos h3] at h h'
        exact ihl.1 _ s h h' i i0 i1
      · have e1 : ((nS (.branch k l q)).1 : Int) = 1 + (nS l).2 := by rw [nS_br, if_neg h3]; omega
        rw [if_neg h3] at h h'
        obtain ⟨g1, g2⟩ := ihl.2 env s 0 (s + 1) h.2 h'.2
        by_cases ei : i = s
        · rw [ei]
          obtain ⟨⟨a, b, c⟩, -⟩ := h
          obtain ⟨⟨a', b', c'⟩, -⟩ := h'
          exact ⟨a'.trans a.symm, b'.trans b.symm, c'.trans c.symm, fun j j0 j1 => g2 j j0 (by omega)⟩
        · exact g1 i (by omega) (by omega)
    · rw [mR_brB] at h h'
      have hns : ((nS (.branch k l q)).2 : Int) = (nS l).1 + (nS q).2 := by rw [nS_brB]; omega
      have hlen := lenB_br k l q
      obtain ⟨⟨a, b, c⟩, h1, h2⟩ := h
      obtain ⟨⟨a', b', c'⟩, h1', h2'⟩ := h'
      have i1 := ihl.1 env s h1 h1'
      obtain ⟨j1, j2⟩ := ihq.2 env ms (j + 1) _ h2 h2'
      refine ⟨fun i i0 i2 => ?_, fun i i0 i2 => ?_⟩
      · by_cases e : i < s + (nS l).1
        · exact i1 i i0 e
        · exact j1 i (by omega) (by omega)
      · by_cases e : i = j
        · rw [e]
          exact ⟨a'.trans a.symm, b'.trans b.symm, c'.trans c.symm⟩
        · exact j2 i (by omega) (by omega)
theorem sameM_eq {A B : Nat → Int → Int} {m N : Int} (h : ∀ f s j, f ≤ 5 → 0 ≤ s → s < 31 → 0 ≤ j → j < 6 → tM B m f s j = tM A m f s j) (hN : N ≤ 31) (ho : mOK (tM A m) N) : eqM (tM A m) (tM B m) N := fun s s0 s1 => by
  have hc := (ho s s0 s1).2.2.2.1
  exact ⟨h 0 s 0 (by decide) s0 (by omega) (by omega) (by omega), h 1 s 0 (by decide) s0 (by omega) (by omega) (by omega), h 2 s 0 (by decide) s0 (by omega) (by omega) (by omega), fun j j0 j1 => ⟨h 3 s j (by decide) s0 (by omega) j0 (by omega), h 4 s j (by decide) s0 (by omega) j0 (by omega), h 5 s j (by decide) s0 (by omega) j0 (by omega)⟩⟩
theorem eqM.sy {M M' : Nat → Int → Int → Int} {N : Int} (h : eqM M M' N) : eqM M' M N := fun s s0 s1 => by
  obtain ⟨a, b, c, e⟩ := h s s0 s1
  exact ⟨a.symm, b.symm, c.symm, fun j j0 j1 => by obtain ⟨x, y, z⟩ := e j j0 (by omega); exact ⟨x.symm, y.symm, z.symm⟩⟩
theorem mOK_cg {M M' : Nat → Int → Int → Int} {N : Int} (h : eqM M M' N) (ho : mOK M N) : mOK M' N := fun s s0 s1 => by
  obtain ⟨a, b, c, e⟩ := h s s0 s1
  obtain ⟨o1, o2, o3, o4, o5, o6⟩ := ho s s0 s1
  unfold okS
  rw [a, b, c]
  exact ⟨o1, o2, o3, o4, fun j j0 j1 => by obtain ⟨x, y, z⟩ := e j j0 j1; rw [x, y, z]; exact o5 j j0 j1, fun j j' j0 j1 j0' j1' h => o6 j j' j0 j1 j0' j1' (by rw [← (e j j0 j1).1, ← (e j' j0' j1').1]; exact h)⟩

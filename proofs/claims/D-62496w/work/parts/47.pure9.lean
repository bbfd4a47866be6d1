/-! PURE: types that were read are closed and guarded; machines -/
theorem gdd_mono (τ : Tr) : (∀ bs bs' : Nat → Bool, (wfP τ).1 → (∀ v, v < 3 → bs v = true → bs' v = true) → (gdd τ).1 bs → (gdd τ).1 bs') ∧ (∀ bs bs' : Nat → Bool, (wfP τ).2 → (∀ v, v < 3 → bs v = true → bs' v = true) → (gdd τ).2 bs → (gdd τ).2 bs') := by
  induction τ with
  | leaf k =>
    refine ⟨fun bs bs' hw hb h => ?_, fun _ _ _ _ _ => trivial⟩
    rw [wfT_leaf] at hw
    rw [gdd_lf] at h ⊢
    exact fun hk => hb _ (by omega) (h hk)
  | branch k l q ihl ihq =>
    refine ⟨fun bs bs' hw hb h => ?_, fun bs bs' hw hb h => ?_⟩
    · rw [wfT_br] at hw
      rw [gdd_br] at h ⊢
      by_cases h3 : k < 3
      · rw [if_pos h3] at h hw ⊢
        refine ⟨h.1, ihl.1 _ _ hw (fun v hv hh => ?_) h.2⟩
        unfold ub at hh ⊢
        by_cases e : v = k
        · rw [decide_eq_true e]; rfl
        · rw [decide_eq_false e, Bool.false_or] at hh ⊢; exact hb v hv hh
      · rw [if_neg h3] at h hw ⊢
        exact ihl.2 _ _ hw.2.1 hb h
    · rw [wfB_br] at hw
      rw [gdd_brB] at h ⊢
      exact ⟨ihl.1 _ _ hw.2.2.1 hb h.1, ihq.2 _ _ hw.2.2.2 hb h.2⟩
theorem std_mem : ∀ (env : List Int) (v : Int) (m : Bool), v ≠ 3 → std env v m = true → v ∈ env
  | [], _, _, _, h => by cases h
  | e :: r, v, m, hv, h => by
    unfold std at h
    by_cases e3 : e = 3
    · rw [if_pos e3] at h
      exact List.mem_cons_of_mem _ (std_mem r v true hv h)
    · rw [if_neg e3] at h
      by_cases ev : e = v
      · rw [ev]; exact List.mem_cons_self ..
      · rw [if_neg ev] at h
        exact List.mem_cons_of_mem _ (std_mem r v m hv h)
def be (env : List Int) : Nat → Bool := fun v => decide ((v : Int) ∈ env)
theorem pr_gd (cx : Int → Int) (md : Bool) : ∀ (f : Nat) (env : List Int) (p k : Int) (bef : Int → Bool), 0 ≤ k → k ≤ 30 →
    (∀ τ p' k', pr cx md f false env p k bef = .inr (τ, p', k') → (gdd τ).1 (be env) ∧ (∀ v, hdv τ = v + 1 → v < 3 → std env v false = true) ∧ ∀ v, v < 3 → (lsP τ).1 v = true → (v : Int) ∈ env) ∧
    (∀ bs p' k', pr cx md f true env p k bef = .inr (bs, p', k') → (gdd bs).2 (be env) ∧ ∀ v, v < 3 → (lsP bs).2 v = true → (v : Int) ∈ env) := by
  intro f
  induction f with
  | zero =>
    intro env p k bef k0 k1
    exact ⟨fun τ p' k' h => by simp [pr] at h, fun τ p' k' h => by simp [pr] at h⟩
  | succ f ih =>
    intro env p k bef k0 k1
    constructor
    · intro τ p' k' h
      rw [pr_T] at h
      split at h
      · cases h
      rename_i hk30
      split at h
      · cases h
        exact ⟨fun h => absurd rfl h, fun v e => (by cases e), fun v _ e => (by replace e : decide (0 = v + 1) = true := e; rw [decide_eq_true_eq] at e; omega)⟩
      split at h
      · split at h
        · cases h
        split at h
        · cases h
        rename_i hv _
        split at h
        · cases h
        · rename_i τ1 p1 k2 hr
          cases h
          obtain ⟨i1, i2, i3⟩ := (ih _ _ _ _ (by omega) (by omega)).1 _ _ _ hr
          obtain ⟨-, -, w3, -⟩ := (pr_ok cx md f _ _ _ _ (by omega) (by omega)).1 _ _ _ hr
          have h3 : (cx (p + 1) - 88).toNat < 3 := by omega
          generalize hx : cx (p + 1) - 88 = x at *
          have x0 : 0 ≤ x := by omega
          have hst : ∀ v : Nat, v < 3 → std (x :: env) v false = true → x ≠ v ∧ std env v false = true := fun v hv3 hs => by
            unfold std at hs
            rw [if_neg (by omega)] at hs
            by_cases e : x = v
            · rw [if_pos e] at hs; cases hs
            · rw [if_neg e] at hs; exact ⟨e, hs⟩
          refine ⟨?_, fun v e hv3 => ?_, fun v hv3 e => ?_⟩
          · rw [gdd_br, if_pos h3]
            refine ⟨fun e => (hst x.toNat h3 (i2 _ e h3)).1 (by omega), (gdd_mono τ1).1 _ _ w3 (fun v hv hh => ?_) i1⟩
            unfold be at hh
            rw [decide_eq_true_eq] at hh
            unfold ub be
            rcases List.mem_cons.mp hh with e | e
            · rw [decide_eq_true (show v = x.toNat by omega)]; rfl
            · rw [decide_eq_true e]; simp
          · rw [hdv_br, if_pos h3] at e
            exact (hst v hv3 (i2 v e hv3)).2
          · rw [lsT_br, if_pos h3, Bool.and_eq_true] at e
            rcases List.mem_cons.mp (i3 v hv3 e.2) with e1 | e1
            · rw [decide_eq_true (show v = x.toNat by omega)] at e; cases e.1
            · exact e1
      split at h
      · rename_i hc
        split at h
        · rename_i hs
          cases h
          have hm := std_mem env _ false (by omega) hs
          refine ⟨fun _ => ?_, fun v e hv3 => ?_, fun v hv3 e => ?_⟩
          · unfold be
            rw [decide_eq_true_eq, show (((cx p - 88 + 1).toNat - 1 : Nat) : Int) = cx p - 88 by omega]
            exact hm
          · replace e : (cx p - 88 + 1).toNat = v + 1 := e
            rw [show (v : Int) = cx p - 88 by omega]; exact hs
          · replace e : decide ((cx p - 88 + 1).toNat = v + 1) = true := e
            rw [decide_eq_true_eq] at e
            rw [show (v : Int) = cx p - 88 by omega]; exact hm
        · cases h
      split at h
      · have msg : ∀ (kk : Nat) (bs : Tr) (p1 p2 k2 : Int), 3 ≤ kk → pr cx md f true (3 :: env) p1 (k + 1) (fun _ => false) = .inr (bs, p2, k2) → (gdd (.branch kk bs (.leaf 0))).1 (be env) ∧ (∀ v, hdv (.branch kk bs (.leaf 0)) = v + 1 → v < 3 → std env v false = true) ∧ ∀ v, v < 3 → (lsP (.branch kk bs (.leaf 0))).1 v = true → (v : Int) ∈ env := by
          intro kk bs p1 p2 k2 hkk hr
          obtain ⟨i1, i2⟩ := (ih _ _ _ _ (by omega) (by omega)).2 _ _ _ hr
          obtain ⟨-, -, w3, -⟩ := (pr_ok cx md f _ _ _ _ (by omega) (by omega)).2 _ _ _ hr
          have hm : ∀ v : Nat, v < 3 → (v : Int) ∈ (3 :: env) → (v : Int) ∈ env := fun v hv hh => by
            rcases List.mem_cons.mp hh with e | e
            · omega
            · exact e
          refine ⟨?_, fun v e hv3 => ?_, fun v hv3 e => ?_⟩
          · rw [gdd_br, if_neg (by omega)]
            refine (gdd_mono bs).2 _ _ w3 (fun v hv hh => ?_) i1
            unfold be at hh ⊢
            rw [decide_eq_true_eq] at hh ⊢
            exact hm v hv hh
          · rw [hdv_br, if_neg (by omega)] at e; omega
          · rw [lsT_br, if_neg (by omega)] at e
            exact hm v hv3 (i2 v hv3 e)
        split at h
        · split at h
          · cases h
          split at h
          · cases h
          split at h
          · cases h
          · rename_i hr
            cases h
            exact msg _ _ _ _ _ (by split <;> omega) hr
        · split at h
          · cases h
          split at h
          · cases h
          split at h
          · cases h
          split at h
          · cases h
          · rename_i hr
            cases h
            exact msg _ _ _ _ _ (by omega) hr
      · cases h
    · intro bs p' k' h
      rw [pr_B] at h
      split at h
      · cases h
      split at h
      · cases h
      split at h
      · cases h
      split at h
      · cases h
      · rename_i τ p1 k2 hr
        obtain ⟨i1, i2, i3⟩ := (ih _ _ _ _ k0 k1).1 _ _ _ hr
        obtain ⟨o1, -, -, o4⟩ := (pr_ok cx md f _ _ _ _ k0 k1).1 _ _ _ hr
        split at h
        · split at h
          · cases h
          · rename_i bs2 p2 k3 hr2
            cases h
            obtain ⟨j1, j2⟩ := (ih _ _ _ _ (by omega) o4).2 _ _ _ hr2
            refine ⟨by rw [gdd_brB]; exact ⟨i1, j1⟩, fun v hv e => ?_⟩
            rw [lsB_br, Bool.or_eq_true] at e
            rcases e with e | e
            · exact i3 v hv e
            · exact j2 v hv e
        · split at h
          · cases h
            refine ⟨by rw [gdd_brB]; exact ⟨i1, trivial⟩, fun v hv e => ?_⟩
            rw [lsB_br, Bool.or_eq_true] at e
            rcases e with e | e
            · exact i3 v hv e
            · cases e
          · cases h
/-! machines -/
def nS : Tr → Nat × Nat
  | .leaf k => (if k = 0 then 1 else 0, 0)
  | .branch k l q => (if k < 3 then (nS l).1 else 1 + (nS l).2, (nS l).1 + (nS q).2)
def ue (env : Nat → Int) (v : Nat) (x : Int) : Nat → Int := fun w => if w = v then x else env w
/-- the number of the state that a type begins with -/
def st : Tr → (Nat → Int) → Int → Int
  | .leaf k, env, s => if k = 0 then s else env (k - 1)
  | .branch k l _, env, s => if k < 3 then st l (ue env k s) s else s
/-- the machine M (fields: 0 kind, 1 partner, 2 labels, 3 label, 4 sort, 5 to) has the states of τ from s on -/
def mR (M : Nat → Int → Int → Int) : Tr → ((Nat → Int) → Int → Prop) × ((Nat → Int) → Int → Int → Int → Prop)
  | .leaf k => (fun _ s => k = 0 → M 0 s 0 = 0 ∧ M 1 s 0 = -1 ∧ M 2 s 0 = 0, fun _ _ _ _ => True)
  | .branch k l q => (fun env s => if k < 3 then (mR M l).1 (ue env k s) s else (M 0 s 0 = (if k < 7 then 1 else 2) ∧ M 1 s 0 = ((k - 3) % 4 : Nat) ∧ M 2 s 0 = lenB l) ∧ (mR M l).2 env s 0 (s + 1),
    fun env m j s => (M 3 m j = (k / 3 : Nat) ∧ M 4 m j = (k % 3 : Nat) ∧ M 5 m j = st l env s) ∧ (mR M l).1 env s ∧ (mR M q).2 env m (j + 1) (s + (nS l).1))
theorem nS_br (k : Nat) (l q : Tr) : (nS (.branch k l q)).1 = if k < 3 then (nS l).1 else 1 + (nS l).2 := rfl
theorem nS_brB (k : Nat) (l q : Tr) : (nS (.branch k l q)).2 = (nS l).1 + (nS q).2 := rfl
theorem st_br (k : Nat) (l q : Tr) (env : Nat → Int) (s : Int) : st (.branch k l q) env s = if k < 3 then st l (ue env k s) s else s := rfl
theorem mR_br (M : Nat → Int → Int → Int) (k : Nat) (l q : Tr) (env : Nat → Int) (s : Int) : (mR M (.branch k l q)).1 env s = (if k < 3 then (mR M l).1 (ue env k s) s else (M 0 s 0 = (if k < 7 then 1 else 2) ∧ M 1 s 0 = ((k - 3) % 4 : Nat) ∧ M 2 s 0 = lenB l) ∧ (mR M l).2 env s 0 (s + 1)) := rfl
theorem mR_brB (M : Nat → Int → Int → Int) (k : Nat) (l q : Tr) (env : Nat → Int) (m j s : Int) : (mR M (.branch k l q)).2 env m j s = ((M 3 m j = (k / 3 : Nat) ∧ M 4 m j = (k % 3 : Nat) ∧ M 5 m j = st l env s) ∧ (mR M l).1 env s ∧ (mR M q).2 env m (j + 1) (s + (nS l).1)) := rfl
theorem nS_le (τ : Tr) : (nS τ).1 ≤ szT τ ∧ (nS τ).2 ≤ szB τ := by
  induction τ with
  | leaf k => exact ⟨by show (if k = 0 then 1 else 0) ≤ 1; split <;> omega, Nat.le_refl 0⟩
  | branch k l q ihl ihq =>
    rw [nS_br, nS_brB, szT_br, szB_br]
    refine ⟨?_, by omega⟩
    split <;> omega

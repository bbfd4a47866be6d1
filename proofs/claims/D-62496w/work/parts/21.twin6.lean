/-! the twin: ready, begin, copyMachine -/
def sm (f : Int → Int) : Nat → Int
  | 0 => 0
  | k + 1 => sm f k + f k
theorem sm_fu (f : Int → Int) (x : Int) : ∀ (k m : Nat), m ≤ k → sm (fu f k x) m = sm f m
  | _, 0, _ => rfl
  | k, m + 1, h => by
    unfold sm
    rw [sm_fu f x k m (by omega)]
    unfold fu
    rw [if_neg (by omega)]
section TW6
variable {K : xk} {M : xm} {d : Nat} {Q : Outcome → xh → Prop} {A : Nat → Int → Int} {R : Nat → Int → Value} {g : Nat → Nat × List Value} {t u : Nat}
def tCan (A : Nat → Int → Int) (r : Int) : Prop := (A 123 (tso A r) = 1 ∧ A 137 (4 * r + A 124 (tso A r)) < 4) ∨ (A 123 (tso A r) = 2 ∧ 0 < A 137 (tGotQ A r) ∧ ∃ i, 0 ≤ i ∧ i < A 125 (tso A r) ∧ tMat A (tso A r) (A 138 (4 * tGotQ A r) / 3) (A 138 (4 * tGotQ A r) % 3) i)
def tCanF (A : Nat → Int → Int) (r b : Int) : Prop := (b = 1 ∧ tCan A r) ∨ (b = 0 ∧ ¬ tCan A r)
theorem c_T_ready (hA : rga A) (hS : A 100 32 ≠ 0 → ∀ r, 0 ≤ r → r < 4 → tS A r)
    (hn : A 100 32 = 0 → Q (.returned (some (iv (-1)))) (hp K.n A R g t u))
    (hq : ∀ f, A 100 32 ≠ 0 → (∀ r, 0 ≤ r → r < 4 → tCanF A r (f r)) → Q (.returned (some (iv (sm f 4)))) (hp K.n A R g t u)) : mx K M_T_ready (d + 3) [.ref (xa K.n 32)] (hp K.n A R g t u) Q := by
  refine mx_in ok_T_ready rfl (Nat.le_of_ble_eq_true rfl) ?_
  by_cases hz : A 100 32 = 0
  · refine r_iconst 0 rfl ?_
    refine r_istore_n 1 rfl (Nat.le_of_ble_eq_true rfl) ?_
    refine r_iconst 2 rfl ?_
    refine r_istore_n 3 rfl (Nat.le_of_ble_eq_true rfl) ?_
    refine r_iload_n 4 rfl rfl ?_
    refine r_iconst 5 rfl ?_
    refine r_icmp_ge (t := 165) 6 rfl (by decide) (by first | exact hA _ _ | exact ⟨by decide, by decide⟩ | assumption | exact ⟨by omega, by omega⟩) (by first | exact hA _ _ | exact ⟨by decide, by decide⟩ | assumption | exact ⟨by omega, by omega⟩) (fun c_6 => by omega) (fun c_6 => ?_)
    refine r_aload_n 7 rfl rfl ?_
    refine r_get 8 rfl f_T_207 (hp_at rfl) rfl ?_
    refine r_if_eq (t := 165) 9 rfl (by decide) (by first | exact hA _ _ | exact ⟨by decide, by decide⟩ | assumption | exact ⟨by omega, by omega⟩) (fun c_13 => ?_) (fun c_13 => by omega)
    refine r_aload_n 101 rfl rfl ?_
    refine r_get 102 rfl f_T_207 (hp_at rfl) rfl ?_
    refine r_if_eq (t := 176) 103 rfl (by decide) (by first | exact hA _ _ | exact ⟨by decide, by decide⟩ | assumption | exact ⟨by omega, by omega⟩) (fun c_169 => ?_) (fun c_169 => by omega)
    refine r_iconst 106 rfl ?_
    refine r_iret 107 rfl rfl rfl ?_
    exact hn hz
  have loop : ∀ (m r : Nat) (f : Int → Int) (l3 l4 l5 l6 : Option Value), r ≤ 4 → 4 - r < m → (∀ i : Int, 0 ≤ i → i < r → tCanF A i (f i)) → 0 ≤ sm f r → sm f r ≤ r → (∀ v, l3 = some v ∨ l4 = some v ∨ l5 = some v ∨ l6 = some v → v.category = 1) → wx K M_T_ready (d + 3) Q 4 [some (.ref (xa K.n 32)), some (iv (sm f r)), some (iv r), l3, l4, l5, l6] [] (hp K.n A R g t u) := by
    intro m
    induction m with
    | zero => intro r f _ _ _ _ _ h; omega
    | succ m ih =>
      intro r f l3 l4 l5 l6 hr4 hm hf hs0 hs1 hcat
      by_cases hr : r = 4
      · subst hr
        refine r_iload_n 4 rfl rfl ?_
        refine r_iconst 5 rfl ?_
        refine r_icmp_ge (t := 165) 6 rfl (by decide) (by first | exact hA _ _ | exact ⟨by decide, by decide⟩ | assumption | exact ⟨by omega, by omega⟩) (by first | exact hA _ _ | exact ⟨by decide, by decide⟩ | assumption | exact ⟨by omega, by omega⟩) (fun c_6 => ?_) (fun c_6 => by omega)
        refine r_aload_n 101 rfl rfl ?_
        refine r_get 102 rfl f_T_207 (hp_at rfl) rfl ?_
        refine r_if_eq (t := 176) 103 rfl (by decide) (by first | exact hA _ _ | exact ⟨by decide, by decide⟩ | assumption | exact ⟨by omega, by omega⟩) (fun c_169 => by omega) (fun c_169 => ?_)
        refine r_iload_n 104 rfl rfl ?_
        refine r_goto (t := 177) 105 rfl (by decide) ?_
        refine r_iret 107 rfl rfl rfl ?_
        exact hq f hz (fun i i0 i1 => hf i i0 (by omega))
      have hr3 : (r : Int) < 4 := by omega
      obtain ⟨⟨s0, s1⟩, ⟨c0, c1⟩, hp1, hq1, hl1⟩ := hS hz r (by omega) (by omega)
      have fin : ∀ (b : Int) (k3 k4 k5 k6 : Option Value), tCanF A r b → (∀ v, k3 = some v ∨ k4 = some v ∨ k5 = some v ∨ k6 = some v → v.category = 1) → wx K M_T_ready (d + 3) Q 4 [some (.ref (xa K.n 32)), some (iv (sm f r + b)), some (iv ((r : Int) + 1)), k3, k4, k5, k6] [] (hp K.n A R g t u) := by
        intro b k3 k4 k5 k6 hb hc
        have e1 : sm f r + b = sm (fu f r b) (r + 1) := by
          show _ = sm (fu f r b) r + fu f r b r
          rw [sm_fu f b r r (Nat.le_refl r)]
          simp [fu]
        have hb01 : b = 1 ∨ b = 0 := by unfold tCanF at hb; omega
        rw [e1]
        refine ih (r + 1) (fu f r b) k3 k4 k5 k6 (by omega) (by omega) (fun i i0 i1 => ?_) (by rw [← e1]; omega) (by rw [← e1]; push_cast; omega) hc
        unfold fu
        by_cases e : i = r
        · rw [if_pos e, e]; exact hb
        · rw [if_neg e]; exact hf i i0 (by omega)
      have hcc : ∀ (a b c e : Int), ∀ v, some (iv a) = some v ∨ some (iv b) = some v ∨ some (iv c) = some v ∨ some (iv e) = some v → v.category = 1 := by
        intro a b c e v hv
        rcases hv with hv | hv | hv | hv <;> (cases hv; rfl)
      by_cases k0 : A 123 (tso A r) = 1
      · have hpp := hp1 (by omega)
        have hqq := hq1 (4 * r + A 124 (tso A r)) (by omega) (by omega)
        by_cases kq : A 137 (4 * r + A 124 (tso A r)) < 4
        · refine r_iload_n 4 rfl rfl ?_
          refine r_iconst 5 rfl ?_
          refine r_icmp_ge (t := 165) 6 rfl (by decide) (by first | exact hA _ _ | exact ⟨by decide, by decide⟩ | assumption | exact ⟨by omega, by omega⟩) (by first | exact hA _ _ | exact ⟨by decide, by decide⟩ | assumption | exact ⟨by omega, by omega⟩) (fun c_6 => by omega) (fun c_6 => ?_)
          refine r_aload_n 7 rfl rfl ?_
          refine r_get 8 rfl f_T_207 (hp_at rfl) rfl ?_
          refine r_if_eq (t := 165) 9 rfl (by decide) (by first | exact hA _ _ | exact ⟨by decide, by decide⟩ | assumption | exact ⟨by omega, by omega⟩) (fun c_13 => by omega) (fun c_13 => ?_)
          refine r_aload_n 10 rfl rfl ?_
          refine r_iload_n 11 rfl rfl ?_
          refine r_callv1 12 rfl l_T_232 (hp_at rfl) (Nat.le_of_ble_eq_true rfl) ?_
          refine c_T_stateOf hA (by omega) (by omega) (cp1 ?_)
          refine r_istore_n 13 rfl (Nat.le_of_ble_eq_true rfl) ?_
          refine r_aload_n 14 rfl rfl ?_
          refine r_get 15 rfl f_T_56 (hp_at rfl) rfl ?_
          refine r_iload_n 16 rfl rfl ?_
          refine r_iaload 17 rfl (hp_at rfl) (by decide) (by omega) (by omega) ?_
          refine r_iconst 18 rfl ?_
          refine r_icmp_ne (t := 55) 19 rfl (by decide) (by first | exact hA _ _ | exact ⟨by decide, by decide⟩ | assumption | exact ⟨by omega, by omega⟩) (by first | exact hA _ _ | exact ⟨by decide, by decide⟩ | assumption | exact ⟨by omega, by omega⟩) (fun c_29 => by omega) (fun c_29 => ?_)
          refine r_aload_n 20 rfl rfl ?_
          refine r_get 21 rfl f_T_93 (hp_at rfl) rfl ?_
          refine r_iconst 22 rfl ?_
          refine r_iload_n 23 rfl rfl ?_
          refine r_imul 24 rfl ?_
          refine r_aload_n 25 rfl rfl ?_
          refine r_get 26 rfl f_T_59 (hp_at rfl) rfl ?_
          refine r_iload_n 27 rfl rfl ?_
          refine r_iaload 28 rfl (hp_at rfl) (by decide) (by omega) (by omega) ?_
          refine r_iadd 29 rfl ?_
          refine r_iaload 30 rfl (hp_at rfl) (by decide) (by omega) (by omega) ?_
          refine r_iconst 31 rfl ?_
          refine r_icmp_ge (t := 55) 32 rfl (by decide) (by first | exact hA _ _ | exact ⟨by decide, by decide⟩ | assumption | exact ⟨by omega, by omega⟩) (by first | exact hA _ _ | exact ⟨by decide, by decide⟩ | assumption | exact ⟨by omega, by omega⟩) (fun c_48 => by omega) (fun c_48 => ?_)
          refine r_iconst 33 rfl ?_
          refine r_goto (t := 56) 34 rfl (by decide) ?_
          refine r_istore 36 rfl (Nat.le_of_ble_eq_true rfl) ?_
          refine r_aload_n 37 rfl rfl ?_
          refine r_get 38 rfl f_T_56 (hp_at rfl) rfl ?_
          refine r_iload_n 39 rfl rfl ?_
          refine r_iaload 40 rfl (hp_at rfl) (by decide) (by omega) (by omega) ?_
          refine r_iconst 41 rfl ?_
          refine r_icmp_ne (t := 81) 42 rfl (by decide) (by first | exact hA _ _ | exact ⟨by decide, by decide⟩ | assumption | exact ⟨by omega, by omega⟩) (by first | exact hA _ _ | exact ⟨by decide, by decide⟩ | assumption | exact ⟨by omega, by omega⟩) (fun c_65 => ?_) (fun c_65 => by omega)
          refine r_iconst 52 rfl ?_
          refine r_istore 53 rfl (Nat.le_of_ble_eq_true rfl) ?_
          refine r_aload_n 54 rfl rfl ?_
          refine r_get 55 rfl f_T_56 (hp_at rfl) rfl ?_
          refine r_iload_n 56 rfl rfl ?_
          refine r_iaload 57 rfl (hp_at rfl) (by decide) (by omega) (by omega) ?_
          refine r_iconst 58 rfl ?_
          refine r_icmp_ne (t := 138) 59 rfl (by decide) (by first | exact hA _ _ | exact ⟨by decide, by decide⟩ | assumption | exact ⟨by omega, by omega⟩) (by first | exact hA _ _ | exact ⟨by decide, by decide⟩ | assumption | exact ⟨by omega, by omega⟩) (fun c_91 => ?_) (fun c_91 => by omega)
          refine r_iconst 87 rfl ?_
          refine r_istore 88 rfl (Nat.le_of_ble_eq_true rfl) ?_
          refine r_iload 89 rfl rfl ?_
          refine r_if_ne (t := 151) 90 rfl (by decide) (by first | exact hA _ _ | exact ⟨by decide, by decide⟩ | assumption | exact ⟨by omega, by omega⟩) (fun c_143 => ?_) (fun c_143 => by omega)
          refine r_iload_n 93 rfl rfl ?_
          refine r_iconst 94 rfl ?_
          refine r_iadd 95 rfl ?_
          refine r_goto (t := 158) 96 rfl (by decide) ?_
          refine r_istore_n 98 rfl (Nat.le_of_ble_eq_true rfl) ?_
          refine r_iinc 99 rfl rfl ?_
          refine r_goto (t := 4) 100 rfl (by decide) ?_
          exact fin 1 _ _ _ _ (Or.inl ⟨rfl, Or.inl ⟨k0, kq⟩⟩) (hcc _ _ _ _)
        · refine r_iload_n 4 rfl rfl ?_
          refine r_iconst 5 rfl ?_
          refine r_icmp_ge (t := 165) 6 rfl (by decide) (by first | exact hA _ _ | exact ⟨by decide, by decide⟩ | assumption | exact ⟨by omega, by omega⟩) (by first | exact hA _ _ | exact ⟨by decide, by decide⟩ | assumption | exact ⟨by omega, by omega⟩) (fun c_6 => by omega) (fun c_6 => ?_)
          refine r_aload_n 7 rfl rfl ?_
          refine r_get 8 rfl f_T_207 (hp_at rfl) rfl ?_
          refine r_if_eq (t := 165) 9 rfl (by decide) (by first | exact hA _ _ | exact ⟨by decide, by decide⟩ | assumption | exact ⟨by omega, by omega⟩) (fun c_13 => by omega) (fun c_13 => ?_)
          refine r_aload_n 10 rfl rfl ?_
          refine r_iload_n 11 rfl rfl ?_
          refine r_callv1 12 rfl l_T_232 (hp_at rfl) (Nat.le_of_ble_eq_true rfl) ?_
          refine c_T_stateOf hA (by omega) (by omega) (cp1 ?_)
          refine r_istore_n 13 rfl (Nat.le_of_ble_eq_true rfl) ?_
          refine r_aload_n 14 rfl rfl ?_
          refine r_get 15 rfl f_T_56 (hp_at rfl) rfl ?_
          refine r_iload_n 16 rfl rfl ?_
          refine r_iaload 17 rfl (hp_at rfl) (by decide) (by omega) (by omega) ?_
          refine r_iconst 18 rfl ?_
          refine r_icmp_ne (t := 55) 19 rfl (by decide) (by first | exact hA _ _ | exact ⟨by decide, by decide⟩ | assumption | exact ⟨by omega, by omega⟩) (by first | exact hA _ _ | exact ⟨by decide, by decide⟩ | assumption | exact ⟨by omega, by omega⟩) (fun c_29 => by omega) (fun c_29 => ?_)
          refine r_aload_n 20 rfl rfl ?_
          refine r_get 21 rfl f_T_93 (hp_at rfl) rfl ?_
          refine r_iconst 22 rfl ?_
          refine r_iload_n 23 rfl rfl ?_
          refine r_imul 24 rfl ?_
          refine r_aload_n 25 rfl rfl ?_
          refine r_get 26 rfl f_T_59 (hp_at rfl) rfl ?_
          refine r_iload_n 27 rfl rfl ?_
          refine r_iaload 28 rfl (hp_at rfl) (by decide) (by omega) (by omega) ?_
          refine r_iadd 29 rfl ?_
          refine r_iaload 30 rfl (hp_at rfl) (by decide) (by omega) (by omega) ?_
          refine r_iconst 31 rfl ?_
          refine r_icmp_ge (t := 55) 32 rfl (by decide) (by first | exact hA _ _ | exact ⟨by decide, by decide⟩ | assumption | exact ⟨by omega, by omega⟩) (by first | exact hA _ _ | exact ⟨by decide, by decide⟩ | assumption | exact ⟨by omega, by omega⟩) (fun c_48 => ?_) (fun c_48 => by omega)
          refine r_iconst 35 rfl ?_
          refine r_istore 36 rfl (Nat.le_of_ble_eq_true rfl) ?_
          refine r_aload_n 37 rfl rfl ?_
          refine r_get 38 rfl f_T_56 (hp_at rfl) rfl ?_
          refine r_iload_n 39 rfl rfl ?_
          refine r_iaload 40 rfl (hp_at rfl) (by decide) (by omega) (by omega) ?_
          refine r_iconst 41 rfl ?_
          refine r_icmp_ne (t := 81) 42 rfl (by decide) (by first | exact hA _ _ | exact ⟨by decide, by decide⟩ | assumption | exact ⟨by omega, by omega⟩) (by first | exact hA _ _ | exact ⟨by decide, by decide⟩ | assumption | exact ⟨by omega, by omega⟩) (fun c_65 => ?_) (fun c_65 => by omega)
          refine r_iconst 52 rfl ?_
          refine r_istore 53 rfl (Nat.le_of_ble_eq_true rfl) ?_
          refine r_aload_n 54 rfl rfl ?_
          refine r_get 55 rfl f_T_56 (hp_at rfl) rfl ?_
          refine r_iload_n 56 rfl rfl ?_
          refine r_iaload 57 rfl (hp_at rfl) (by decide) (by omega) (by omega) ?_
          refine r_iconst 58 rfl ?_
          refine r_icmp_ne (t := 138) 59 rfl (by decide) (by first | exact hA _ _ | exact ⟨by decide, by decide⟩ | assumption | exact ⟨by omega, by omega⟩) (by first | exact hA _ _ | exact ⟨by decide, by decide⟩ | assumption | exact ⟨by omega, by omega⟩) (fun c_91 => ?_) (fun c_91 => by omega)
          refine r_iconst 87 rfl ?_
          refine r_istore 88 rfl (Nat.le_of_ble_eq_true rfl) ?_
          refine r_iload 89 rfl rfl ?_
          refine r_if_ne (t := 151) 90 rfl (by decide) (by first | exact hA _ _ | exact ⟨by decide, by decide⟩ | assumption | exact ⟨by omega, by omega⟩) (fun c_143 => by omega) (fun c_143 => ?_)
          refine r_iload 91 rfl rfl ?_
          refine r_if_eq (t := 157) 92 rfl (by decide) (by first | exact hA _ _ | exact ⟨by decide, by decide⟩ | assumption | exact ⟨by omega, by omega⟩) (fun c_148 => ?_) (fun c_148 => by omega)
          refine r_iload_n 97 rfl rfl ?_
          refine r_istore_n 98 rfl (Nat.le_of_ble_eq_true rfl) ?_
          rw [show sm f r = sm f r + 0 by omega]
          refine r_iinc 99 rfl rfl ?_
          refine r_goto (t := 4) 100 rfl (by decide) ?_
          exact fin 0 _ _ _ _ (Or.inr ⟨rfl, fun h => by unfold tCan at h; omega⟩) (hcc _ _ _ _)
      by_cases k2 : A 123 (tso A r) = 2
      · have hpp := hp1 (by omega)
        have hqq := hq1 (4 * A 124 (tso A r) + r) (by omega) (by omega)
        have hll := hl1 (4 * (4 * A 124 (tso A r) + r)) (by omega) (by omega)
        by_cases kq : 0 < A 137 (4 * A 124 (tso A r) + r)
        · refine r_iload_n 4 rfl rfl ?_
          refine r_iconst 5 rfl ?_
          refine r_icmp_ge (t := 165) 6 rfl (by decide) (by first | exact hA _ _ | exact ⟨by decide, by decide⟩ | assumption | exact ⟨by omega, by omega⟩) (by first | exact hA _ _ | exact ⟨by decide, by decide⟩ | assumption | exact ⟨by omega, by omega⟩) (fun c_6 => by omega) (fun c_6 => ?_)
          refine r_aload_n 7 rfl rfl ?_
          refine r_get 8 rfl f_T_207 (hp_at rfl) rfl ?_
          refine r_if_eq (t := 165) 9 rfl (by decide) (by first | exact hA _ _ | exact ⟨by decide, by decide⟩ | assumption | exact ⟨by omega, by omega⟩) (fun c_13 => by omega) (fun c_13 => ?_)
          refine r_aload_n 10 rfl rfl ?_
          refine r_iload_n 11 rfl rfl ?_
          refine r_callv1 12 rfl l_T_232 (hp_at rfl) (Nat.le_of_ble_eq_true rfl) ?_
          refine c_T_stateOf hA (by omega) (by omega) (cp1 ?_)
          refine r_istore_n 13 rfl (Nat.le_of_ble_eq_true rfl) ?_
          refine r_aload_n 14 rfl rfl ?_
          refine r_get 15 rfl f_T_56 (hp_at rfl) rfl ?_
          refine r_iload_n 16 rfl rfl ?_
          refine r_iaload 17 rfl (hp_at rfl) (by decide) (by omega) (by omega) ?_
          refine r_iconst 18 rfl ?_
          refine r_icmp_ne (t := 55) 19 rfl (by decide) (by first | exact hA _ _ | exact ⟨by decide, by decide⟩ | assumption | exact ⟨by omega, by omega⟩) (by first | exact hA _ _ | exact ⟨by decide, by decide⟩ | assumption | exact ⟨by omega, by omega⟩) (fun c_29 => ?_) (fun c_29 => by omega)
          refine r_iconst 35 rfl ?_
          refine r_istore 36 rfl (Nat.le_of_ble_eq_true rfl) ?_
          refine r_aload_n 37 rfl rfl ?_
          refine r_get 38 rfl f_T_56 (hp_at rfl) rfl ?_
          refine r_iload_n 39 rfl rfl ?_
          refine r_iaload 40 rfl (hp_at rfl) (by decide) (by omega) (by omega) ?_
          refine r_iconst 41 rfl ?_
          refine r_icmp_ne (t := 81) 42 rfl (by decide) (by first | exact hA _ _ | exact ⟨by decide, by decide⟩ | assumption | exact ⟨by omega, by omega⟩) (by first | exact hA _ _ | exact ⟨by decide, by decide⟩ | assumption | exact ⟨by omega, by omega⟩) (fun c_65 => by omega) (fun c_65 => ?_)
          refine r_iconst 43 rfl ?_
          refine r_aload_n 44 rfl rfl ?_
          refine r_get 45 rfl f_T_59 (hp_at rfl) rfl ?_
          refine r_iload_n 46 rfl rfl ?_
          refine r_iaload 47 rfl (hp_at rfl) (by decide) (by omega) (by omega) ?_
          refine r_imul 48 rfl ?_
          refine r_iload_n 49 rfl rfl ?_
          refine r_iadd 50 rfl ?_
          refine r_goto (t := 82) 51 rfl (by decide) ?_
          refine r_istore 53 rfl (Nat.le_of_ble_eq_true rfl) ?_
          refine r_aload_n 54 rfl rfl ?_
          refine r_get 55 rfl f_T_56 (hp_at rfl) rfl ?_
          refine r_iload_n 56 rfl rfl ?_
          refine r_iaload 57 rfl (hp_at rfl) (by decide) (by omega) (by omega) ?_
          refine r_iconst 58 rfl ?_
          refine r_icmp_ne (t := 138) 59 rfl (by decide) (by first | exact hA _ _ | exact ⟨by decide, by decide⟩ | assumption | exact ⟨by omega, by omega⟩) (by first | exact hA _ _ | exact ⟨by decide, by decide⟩ | assumption | exact ⟨by omega, by omega⟩) (fun c_91 => by omega) (fun c_91 => ?_)
          refine r_aload_n 60 rfl rfl ?_
          refine r_get 61 rfl f_T_93 (hp_at rfl) rfl ?_
          refine r_iload 62 rfl rfl ?_
          refine r_iaload 63 rfl (hp_at rfl) (by decide) (by omega) (by omega) ?_
          refine r_if_le (t := 138) 64 rfl (by decide) (by first | exact hA _ _ | exact ⟨by decide, by decide⟩ | assumption | exact ⟨by omega, by omega⟩) (fun c_101 => by omega) (fun c_101 => ?_)
          refine r_aload_n 65 rfl rfl ?_
          refine r_iload_n 66 rfl rfl ?_
          refine r_aload_n 67 rfl rfl ?_
          refine r_get 68 rfl f_T_96 (hp_at rfl) rfl ?_
          refine r_iconst 69 rfl ?_
          refine r_iload 70 rfl rfl ?_
          refine r_imul 71 rfl ?_
          refine r_iaload 72 rfl (hp_at rfl) (by decide) (by omega) (by omega) ?_
          refine r_iconst 73 rfl ?_
          refine r_idiv 74 rfl (by omega) (by omega) (by omega) (by omega) ?_
          refine r_aload_n 75 rfl rfl ?_
          refine r_get 76 rfl f_T_96 (hp_at rfl) rfl ?_
          refine r_iconst 77 rfl ?_
          refine r_iload 78 rfl rfl ?_
          refine r_imul 79 rfl ?_
          refine r_iaload 80 rfl (hp_at rfl) (by decide) (by omega) (by omega) ?_
          refine r_iconst 81 rfl ?_
          refine r_irem 82 rfl (by omega) (by omega) (by omega) (by omega) ?_
          refine r_callv3 83 rfl l_T_235 (hp_at rfl) (Nat.le_of_ble_eq_true rfl) ?_
          refine c_T_found hA (by omega) (by omega) ⟨by omega, by omega⟩ ⟨by omega, by omega⟩ s0 s1 c1 (fun k hk => cp1 ?_)
          have hkr : -1 ≤ k ∧ k < 6 := by unfold tFnd at hk; omega
          have hkg : rg k := ⟨by omega, by omega⟩
          refine r_if_lt (t := 138) 84 rfl (by decide) (by first | exact hA _ _ | exact ⟨by decide, by decide⟩ | assumption | exact ⟨by omega, by omega⟩) (fun c_131 => ?_) (fun c_131 => ?_)
          · refine r_iconst 87 rfl ?_
            refine r_istore 88 rfl (Nat.le_of_ble_eq_true rfl) ?_
            refine r_iload 89 rfl rfl ?_
            refine r_if_ne (t := 151) 90 rfl (by decide) (by first | exact hA _ _ | exact ⟨by decide, by decide⟩ | assumption | exact ⟨by omega, by omega⟩) (fun c_143 => by omega) (fun c_143 => ?_)
            refine r_iload 91 rfl rfl ?_
            refine r_if_eq (t := 157) 92 rfl (by decide) (by first | exact hA _ _ | exact ⟨by decide, by decide⟩ | assumption | exact ⟨by omega, by omega⟩) (fun c_148 => ?_) (fun c_148 => by omega)
            refine r_iload_n 97 rfl rfl ?_
            refine r_istore_n 98 rfl (Nat.le_of_ble_eq_true rfl) ?_
            rw [show sm f r = sm f r + 0 by omega]
            refine r_iinc 99 rfl rfl ?_
            refine r_goto (t := 4) 100 rfl (by decide) ?_
            exact fin 0 _ _ _ _ (Or.inr ⟨rfl, fun h => by unfold tCan at h; rcases h with h | ⟨_, _, i, i0, i1, hi⟩; (exact absurd h.1 k0); rcases hk with hk | hk; (exact hk.2 i i0 i1 hi); omega⟩) (hcc _ _ _ _)
          · refine r_iconst 85 rfl ?_
            refine r_goto (t := 139) 86 rfl (by decide) ?_
            refine r_istore 88 rfl (Nat.le_of_ble_eq_true rfl) ?_
            refine r_iload 89 rfl rfl ?_
            refine r_if_ne (t := 151) 90 rfl (by decide) (by first | exact hA _ _ | exact ⟨by decide, by decide⟩ | assumption | exact ⟨by omega, by omega⟩) (fun c_143 => by omega) (fun c_143 => ?_)
            refine r_iload 91 rfl rfl ?_
            refine r_if_eq (t := 157) 92 rfl (by decide) (by first | exact hA _ _ | exact ⟨by decide, by decide⟩ | assumption | exact ⟨by omega, by omega⟩) (fun c_148 => by omega) (fun c_148 => ?_)
            refine r_iload_n 93 rfl rfl ?_
            refine r_iconst 94 rfl ?_
            refine r_iadd 95 rfl ?_
            refine r_goto (t := 158) 96 rfl (by decide) ?_
            refine r_istore_n 98 rfl (Nat.le_of_ble_eq_true rfl) ?_
            refine r_iinc 99 rfl rfl ?_
            refine r_goto (t := 4) 100 rfl (by decide) ?_
            exact fin 1 _ _ _ _ (Or.inl ⟨rfl, Or.inr ⟨k2, kq, k, by omega, by unfold tFnd at hk; omega, by unfold tFnd at hk; rcases hk with hk | hk; (exact absurd hk.1 (by omega)); exact hk.2.2⟩⟩) (hcc _ _ _ _)
        · refine r_iload_n 4 rfl rfl ?_
          refine r_iconst 5 rfl ?_
          refine r_icmp_ge (t := 165) 6 rfl (by decide) (by first | exact hA _ _ | exact ⟨by decide, by decide⟩ | assumption | exact ⟨by omega, by omega⟩) (by first | exact hA _ _ | exact ⟨by decide, by decide⟩ | assumption | exact ⟨by omega, by omega⟩) (fun c_6 => by omega) (fun c_6 => ?_)
          refine r_aload_n 7 rfl rfl ?_
          refine r_get 8 rfl f_T_207 (hp_at rfl) rfl ?_
          refine r_if_eq (t := 165) 9 rfl (by decide) (by first | exact hA _ _ | exact ⟨by decide, by decide⟩ | assumption | exact ⟨by omega, by omega⟩) (fun c_13 => by omega) (fun c_13 => ?_)
          refine r_aload_n 10 rfl rfl ?_
          refine r_iload_n 11 rfl rfl ?_
          refine r_callv1 12 rfl l_T_232 (hp_at rfl) (Nat.le_of_ble_eq_true rfl) ?_
          refine c_T_stateOf hA (by omega) (by omega) (cp1 ?_)
          refine r_istore_n 13 rfl (Nat.le_of_ble_eq_true rfl) ?_
          refine r_aload_n 14 rfl rfl ?_
          refine r_get 15 rfl f_T_56 (hp_at rfl) rfl ?_
          refine r_iload_n 16 rfl rfl ?_
          refine r_iaload 17 rfl (hp_at rfl) (by decide) (by omega) (by omega) ?_
          refine r_iconst 18 rfl ?_
          refine r_icmp_ne (t := 55) 19 rfl (by decide) (by first | exact hA _ _ | exact ⟨by decide, by decide⟩ | assumption | exact ⟨by omega, by omega⟩) (by first | exact hA _ _ | exact ⟨by decide, by decide⟩ | assumption | exact ⟨by omega, by omega⟩) (fun c_29 => ?_) (fun c_29 => by omega)
          refine r_iconst 35 rfl ?_
          refine r_istore 36 rfl (Nat.le_of_ble_eq_true rfl) ?_
          refine r_aload_n 37 rfl rfl ?_
          refine r_get 38 rfl f_T_56 (hp_at rfl) rfl ?_
          refine r_iload_n 39 rfl rfl ?_
          refine r_iaload 40 rfl (hp_at rfl) (by decide) (by omega) (by omega) ?_
          refine r_iconst 41 rfl ?_
          refine r_icmp_ne (t := 81) 42 rfl (by decide) (by first | exact hA _ _ | exact ⟨by decide, by decide⟩ | assumption | exact ⟨by omega, by omega⟩) (by first | exact hA _ _ | exact ⟨by decide, by decide⟩ | assumption | exact ⟨by omega, by omega⟩) (fun c_65 => by omega) (fun c_65 => ?_)
          refine r_iconst 43 rfl ?_
          refine r_aload_n 44 rfl rfl ?_
          refine r_get 45 rfl f_T_59 (hp_at rfl) rfl ?_
          refine r_iload_n 46 rfl rfl ?_
          refine r_iaload 47 rfl (hp_at rfl) (by decide) (by omega) (by omega) ?_
          refine r_imul 48 rfl ?_
          refine r_iload_n 49 rfl rfl ?_
          refine r_iadd 50 rfl ?_
          refine r_goto (t := 82) 51 rfl (by decide) ?_
          refine r_istore 53 rfl (Nat.le_of_ble_eq_true rfl) ?_
          refine r_aload_n 54 rfl rfl ?_
          refine r_get 55 rfl f_T_56 (hp_at rfl) rfl ?_
          refine r_iload_n 56 rfl rfl ?_
          refine r_iaload 57 rfl (hp_at rfl) (by decide) (by omega) (by omega) ?_
          refine r_iconst 58 rfl ?_
          refine r_icmp_ne (t := 138) 59 rfl (by decide) (by first | exact hA _ _ | exact ⟨by decide, by decide⟩ | assumption | exact ⟨by omega, by omega⟩) (by first | exact hA _ _ | exact ⟨by decide, by decide⟩ | assumption | exact ⟨by omega, by omega⟩) (fun c_91 => by omega) (fun c_91 => ?_)
          refine r_aload_n 60 rfl rfl ?_
          refine r_get 61 rfl f_T_93 (hp_at rfl) rfl ?_
          refine r_iload 62 rfl rfl ?_
          refine r_iaload 63 rfl (hp_at rfl) (by decide) (by omega) (by omega) ?_
          refine r_if_le (t := 138) 64 rfl (by decide) (by first | exact hA _ _ | exact ⟨by decide, by decide⟩ | assumption | exact ⟨by omega, by omega⟩) (fun c_101 => ?_) (fun c_101 => by omega)
          refine r_iconst 87 rfl ?_
          refine r_istore 88 rfl (Nat.le_of_ble_eq_true rfl) ?_
          refine r_iload 89 rfl rfl ?_
          refine r_if_ne (t := 151) 90 rfl (by decide) (by first | exact hA _ _ | exact ⟨by decide, by decide⟩ | assumption | exact ⟨by omega, by omega⟩) (fun c_143 => by omega) (fun c_143 => ?_)
          refine r_iload 91 rfl rfl ?_
          refine r_if_eq (t := 157) 92 rfl (by decide) (by first | exact hA _ _ | exact ⟨by decide, by decide⟩ | assumption | exact ⟨by omega, by omega⟩) (fun c_148 => ?_) (fun c_148 => by omega)
          refine r_iload_n 97 rfl rfl ?_
          refine r_istore_n 98 rfl (Nat.le_of_ble_eq_true rfl) ?_
          rw [show sm f r = sm f r + 0 by omega]
          refine r_iinc 99 rfl rfl ?_
          refine r_goto (t := 4) 100 rfl (by decide) ?_
          exact fin 0 _ _ _ _ (Or.inr ⟨rfl, fun h => by unfold tCan at h; rcases h with h | ⟨_, h, _⟩; (exact absurd h.1 k0); exact kq h⟩) (hcc _ _ _ _)
      · refine r_iload_n 4 rfl rfl ?_
        refine r_iconst 5 rfl ?_
        refine r_icmp_ge (t := 165) 6 rfl (by decide) (by first | exact hA _ _ | exact ⟨by decide, by decide⟩ | assumption | exact ⟨by omega, by omega⟩) (by first | exact hA _ _ | exact ⟨by decide, by decide⟩ | assumption | exact ⟨by omega, by omega⟩) (fun c_6 => by omega) (fun c_6 => ?_)
        refine r_aload_n 7 rfl rfl ?_
        refine r_get 8 rfl f_T_207 (hp_at rfl) rfl ?_
        refine r_if_eq (t := 165) 9 rfl (by decide) (by first | exact hA _ _ | exact ⟨by decide, by decide⟩ | assumption | exact ⟨by omega, by omega⟩) (fun c_13 => by omega) (fun c_13 => ?_)
        refine r_aload_n 10 rfl rfl ?_
        refine r_iload_n 11 rfl rfl ?_
        refine r_callv1 12 rfl l_T_232 (hp_at rfl) (Nat.le_of_ble_eq_true rfl) ?_
        refine c_T_stateOf hA (by omega) (by omega) (cp1 ?_)
        refine r_istore_n 13 rfl (Nat.le_of_ble_eq_true rfl) ?_
        refine r_aload_n 14 rfl rfl ?_
        refine r_get 15 rfl f_T_56 (hp_at rfl) rfl ?_
        refine r_iload_n 16 rfl rfl ?_
        refine r_iaload 17 rfl (hp_at rfl) (by decide) (by omega) (by omega) ?_
        refine r_iconst 18 rfl ?_
        refine r_icmp_ne (t := 55) 19 rfl (by decide) (by first | exact hA _ _ | exact ⟨by decide, by decide⟩ | assumption | exact ⟨by omega, by omega⟩) (by first | exact hA _ _ | exact ⟨by decide, by decide⟩ | assumption | exact ⟨by omega, by omega⟩) (fun c_29 => ?_) (fun c_29 => by omega)
        refine r_iconst 35 rfl ?_
        refine r_istore 36 rfl (Nat.le_of_ble_eq_true rfl) ?_
        refine r_aload_n 37 rfl rfl ?_
        refine r_get 38 rfl f_T_56 (hp_at rfl) rfl ?_
        refine r_iload_n 39 rfl rfl ?_
        refine r_iaload 40 rfl (hp_at rfl) (by decide) (by omega) (by omega) ?_
        refine r_iconst 41 rfl ?_
        refine r_icmp_ne (t := 81) 42 rfl (by decide) (by first | exact hA _ _ | exact ⟨by decide, by decide⟩ | assumption | exact ⟨by omega, by omega⟩) (by first | exact hA _ _ | exact ⟨by decide, by decide⟩ | assumption | exact ⟨by omega, by omega⟩) (fun c_65 => ?_) (fun c_65 => by omega)
        refine r_iconst 52 rfl ?_
        refine r_istore 53 rfl (Nat.le_of_ble_eq_true rfl) ?_
        refine r_aload_n 54 rfl rfl ?_
        refine r_get 55 rfl f_T_56 (hp_at rfl) rfl ?_
        refine r_iload_n 56 rfl rfl ?_
        refine r_iaload 57 rfl (hp_at rfl) (by decide) (by omega) (by omega) ?_
        refine r_iconst 58 rfl ?_
        refine r_icmp_ne (t := 138) 59 rfl (by decide) (by first | exact hA _ _ | exact ⟨by decide, by decide⟩ | assumption | exact ⟨by omega, by omega⟩) (by first | exact hA _ _ | exact ⟨by decide, by decide⟩ | assumption | exact ⟨by omega, by omega⟩) (fun c_91 => ?_) (fun c_91 => by omega)
        refine r_iconst 87 rfl ?_
        refine r_istore 88 rfl (Nat.le_of_ble_eq_true rfl) ?_
        refine r_iload 89 rfl rfl ?_
        refine r_if_ne (t := 151) 90 rfl (by decide) (by first | exact hA _ _ | exact ⟨by decide, by decide⟩ | assumption | exact ⟨by omega, by omega⟩) (fun c_143 => by omega) (fun c_143 => ?_)
        refine r_iload 91 rfl rfl ?_
        refine r_if_eq (t := 157) 92 rfl (by decide) (by first | exact hA _ _ | exact ⟨by decide, by decide⟩ | assumption | exact ⟨by omega, by omega⟩) (fun c_148 => ?_) (fun c_148 => by omega)
        refine r_iload_n 97 rfl rfl ?_
        refine r_istore_n 98 rfl (Nat.le_of_ble_eq_true rfl) ?_
        rw [show sm f r = sm f r + 0 by omega]
        refine r_iinc 99 rfl rfl ?_
        refine r_goto (t := 4) 100 rfl (by decide) ?_
        exact fin 0 _ _ _ _ (Or.inr ⟨rfl, fun h => by unfold tCan at h; rcases h with h | h; (exact absurd h.1 k0); exact absurd h.1 k2⟩) (hcc _ _ _ _)
  refine r_iconst 0 rfl ?_
  refine r_istore_n 1 rfl (Nat.le_of_ble_eq_true rfl) ?_
  refine r_iconst 2 rfl ?_
  refine r_istore_n 3 rfl (Nat.le_of_ble_eq_true rfl) ?_
  exact loop 5 0 (fun _ => 0) none none none none (by omega) (by omega) (fun i i0 i1 => by omega) (by decide) (by decide) (fun v hv => by rcases hv with hv | hv | hv | hv <;> cases hv)
end TW6


/-! the twin: sessions -/
section TW2
variable {K : xk} {M : xm} {d : Nat} {Q : Outcome → xh → Prop} {A : Nat → Int → Int} {R : Nat → Int → Value} {g : Nat → Nat × List Value} {t u : Nat}
theorem r_out_ne (j : Nat) {pc idx tt : Nat} {v w off : Int} {L : List (Option Value)} {st : List Value} {h : xh} (hd : M.t[j]? = some (pc, .invokestatic idx, 3)) (hk : lks M.y.cls idx M_T_outside 2) (hd2 : M.t[j + 1]? = some (pc + 3, .ifCond .ne off, 3)) (ht : ((pc + 3 : Nat) : Int) + off = (tt : Int)) (hv : rg v) (hw : rg w) (hsum : (st.map fun v => v.category).sum ≤ 8)
    (kt : v < 0 ∨ w < v → wx K M (d + 1) Q tt L st h) (kf : 0 ≤ v ∧ v ≤ w → wx K M (d + 1) Q (pc + 3 + 3) L st h) : wx K M (d + 1) Q pc L (iv w :: iv v :: st) h := by
  refine r_calls2 j hd hk hsum (c_T_outside hv hw (cp1 ?_))
  by_cases c : v < 0 ∨ w < v
  · rw [show tOut v w = 1 from if_pos c]
    exact r_if_ne (j + 1) hd2 ht ⟨by decide, by decide⟩ (fun _ => kt c) (fun e => absurd e (by decide))
  · rw [show tOut v w = 0 from if_neg c]
    exact r_if_ne (j + 1) hd2 ht ⟨by decide, by decide⟩ (fun e => absurd rfl e) (fun _ => kf ⟨by omega, by omega⟩)
theorem r_out_eq (j : Nat) {pc idx tt : Nat} {v w off : Int} {L : List (Option Value)} {st : List Value} {h : xh} (hd : M.t[j]? = some (pc, .invokestatic idx, 3)) (hk : lks M.y.cls idx M_T_outside 2) (hd2 : M.t[j + 1]? = some (pc + 3, .ifCond .eq off, 3)) (ht : ((pc + 3 : Nat) : Int) + off = (tt : Int)) (hv : rg v) (hw : rg w) (hsum : (st.map fun v => v.category).sum ≤ 8)
    (kt : 0 ≤ v ∧ v ≤ w → wx K M (d + 1) Q tt L st h) (kf : v < 0 ∨ w < v → wx K M (d + 1) Q (pc + 3 + 3) L st h) : wx K M (d + 1) Q pc L (iv w :: iv v :: st) h := by
  refine r_calls2 j hd hk hsum (c_T_outside hv hw (cp1 ?_))
  by_cases c : v < 0 ∨ w < v
  · rw [show tOut v w = 1 from if_pos c]
    exact r_if_eq (j + 1) hd2 ht ⟨by decide, by decide⟩ (fun e => absurd e (by decide)) (fun _ => kf c)
  · rw [show tOut v w = 0 from if_neg c]
    exact r_if_eq (j + 1) hd2 ht ⟨by decide, by decide⟩ (fun _ => kt ⟨by omega, by omega⟩) (fun e => absurd rfl e)
/-- place i of state s has the label l, and the sort so (any: negative) -/
def tMat (A : Nat → Int → Int) (s l so i : Int) : Prop := A 126 (6 * s + i) = l ∧ (so < 0 ∨ A 127 (6 * s + i) = so)
def tFnd (A : Nat → Int → Int) (s l so k : Int) : Prop := (k = -1 ∧ ∀ i, 0 ≤ i → i < A 125 s → ¬ tMat A s l so i) ∨ (0 ≤ k ∧ k < A 125 s ∧ tMat A s l so k)
theorem c_T_found {r l so : Int} (hA : rga A) (h0 : 0 ≤ r) (h1 : r < 4) (hl : rg l) (hso : rg so) (s0 : 0 ≤ tso A r) (s1 : tso A r < 279) (c1 : A 125 (tso A r) ≤ 6)
    (hq : ∀ k, tFnd A (tso A r) l so k → Q (.returned (some (iv k))) (hp K.n A R g t u)) : mx K M_T_found (d + 2) [.ref (xa K.n 32), iv r, iv l, iv so] (hp K.n A R g t u) Q := by
  refine mx_in ok_T_found rfl (Nat.le_of_ble_eq_true rfl) ?_
  generalize hs : tso A r = s at *
  have loop : ∀ (m : Nat) (i : Int), 0 ≤ i → i ≤ 6 → A 125 s - i < m → (∀ k, 0 ≤ k → k < i → ¬ tMat A s l so k) → wx K M_T_found (d + 2) Q 10 [some (.ref (xa K.n 32)), some (iv r), some (iv l), some (iv so), some (iv s), some (iv i)] [] (hp K.n A R g t u) := by
    intro m
    induction m with
    | zero =>
      intro i i0 i2 i1 hno
      refine r_iload 6 rfl rfl ?_
      refine r_aload_n 7 rfl rfl ?_
      refine r_get 8 rfl f_T_62 (hp_at rfl) rfl ?_
      refine r_iload 9 rfl rfl ?_
      refine r_iaload 10 rfl (hp_at rfl) (by decide) (by omega) (by omega) ?_
      refine r_icmp_ge (t := 69) 11 rfl (by decide) (by first | exact hA _ _ | exact ⟨by decide, by decide⟩ | assumption | exact ⟨by omega, by omega⟩) (by first | exact hA _ _ | exact ⟨by decide, by decide⟩ | assumption | exact ⟨by omega, by omega⟩) (fun c_19 => ?_) (fun c_19 => ?_)
      · refine r_iconst 38 rfl ?_
        refine r_iret 39 rfl rfl rfl ?_
        exact hq _ (Or.inl ⟨rfl, fun k k0 k1 => hno k k0 (by omega)⟩)
      · omega
    | succ m ih =>
      intro i i0 i2 i1 hno
      refine r_iload 6 rfl rfl ?_
      refine r_aload_n 7 rfl rfl ?_
      refine r_get 8 rfl f_T_62 (hp_at rfl) rfl ?_
      refine r_iload 9 rfl rfl ?_
      refine r_iaload 10 rfl (hp_at rfl) (by decide) (by omega) (by omega) ?_
      refine r_icmp_ge (t := 69) 11 rfl (by decide) (by first | exact hA _ _ | exact ⟨by decide, by decide⟩ | assumption | exact ⟨by omega, by omega⟩) (by first | exact hA _ _ | exact ⟨by decide, by decide⟩ | assumption | exact ⟨by omega, by omega⟩) (fun c_19 => ?_) (fun c_19 => ?_)
      · refine r_iconst 38 rfl ?_
        refine r_iret 39 rfl rfl rfl ?_
        exact hq _ (Or.inl ⟨rfl, fun k k0 k1 => hno k k0 (by omega)⟩)
      · refine r_aload_n 12 rfl rfl ?_
        refine r_get 13 rfl f_T_65 (hp_at rfl) rfl ?_
        refine r_bipush 14 rfl rfl ?_
        refine r_iload 15 rfl rfl ?_
        refine r_imul 16 rfl ?_
        refine r_iload 17 rfl rfl ?_
        refine r_iadd 18 rfl ?_
        refine r_iaload 19 rfl (hp_at rfl) (by decide) (by omega) (by omega) ?_
        refine r_iload_n 20 rfl rfl ?_
        refine r_icmp_ne (t := 63) 21 rfl (by decide) (by first | exact hA _ _ | exact ⟨by decide, by decide⟩ | assumption | exact ⟨by omega, by omega⟩) (by first | exact hA _ _ | exact ⟨by decide, by decide⟩ | assumption | exact ⟨by omega, by omega⟩) (fun c_36 => ?_) (fun c_36 => ?_)
        · refine r_iinc 36 rfl rfl ?_
          refine r_goto (t := 10) 37 rfl (by decide) ?_
          exact ih _ (by omega) (by omega) (by omega) (fun k k0 k1 hm => by by_cases e : k = i; (subst e; unfold tMat at hm; omega); exact hno k k0 (by omega) hm)
        · refine r_iload_n 22 rfl rfl ?_
          refine r_if_lt (t := 60) 23 rfl (by decide) (by first | exact hA _ _ | exact ⟨by decide, by decide⟩ | assumption | exact ⟨by omega, by omega⟩) (fun c_40 => ?_) (fun c_40 => ?_)
          · refine r_iload 34 rfl rfl ?_
            refine r_iret 35 rfl rfl rfl ?_
            exact hq _ (Or.inr ⟨by omega, by omega, by unfold tMat; omega⟩)
          · refine r_aload_n 24 rfl rfl ?_
            refine r_get 25 rfl f_T_68 (hp_at rfl) rfl ?_
            refine r_bipush 26 rfl rfl ?_
            refine r_iload 27 rfl rfl ?_
            refine r_imul 28 rfl ?_
            refine r_iload 29 rfl rfl ?_
            refine r_iadd 30 rfl ?_
            refine r_iaload 31 rfl (hp_at rfl) (by decide) (by omega) (by omega) ?_
            refine r_iload_n 32 rfl rfl ?_
            refine r_icmp_ne (t := 63) 33 rfl (by decide) (by first | exact hA _ _ | exact ⟨by decide, by decide⟩ | assumption | exact ⟨by omega, by omega⟩) (by first | exact hA _ _ | exact ⟨by decide, by decide⟩ | assumption | exact ⟨by omega, by omega⟩) (fun c_57 => ?_) (fun c_57 => ?_)
            · refine r_iinc 36 rfl rfl ?_
              refine r_goto (t := 10) 37 rfl (by decide) ?_
              exact ih _ (by omega) (by omega) (by omega) (fun k k0 k1 hm => by by_cases e : k = i; (subst e; unfold tMat at hm; omega); exact hno k k0 (by omega) hm)
            · refine r_iload 34 rfl rfl ?_
              refine r_iret 35 rfl rfl rfl ?_
              exact hq _ (Or.inr ⟨by omega, by omega, by unfold tMat; omega⟩)
  refine r_aload_n 0 rfl rfl ?_
  refine r_iload_n 1 rfl rfl ?_
  refine r_callv1 2 rfl l_T_232 (hp_at rfl) (Nat.le_of_ble_eq_true rfl) ?_
  refine c_T_stateOf hA h0 h1 (cp1 ?_)
  rw [hs]
  refine r_istore 3 rfl (Nat.le_of_ble_eq_true rfl) ?_
  refine r_iconst 4 rfl ?_
  refine r_istore 5 rfl (Nat.le_of_ble_eq_true rfl) ?_
  exact loop (A 125 s - 0 + 1).toNat 0 (by omega) (by omega) (by omega) (fun k k0 k1 => by omega)
/-- put(r, k): the queue q = 4 r + partner -/
def tPut (A : Nat → Int → Int) (r k : Int) : Nat → Int → Int :=
  au (au (au (au A 138 (4 * (4 * r + A 124 (tso A r)) + A 137 (4 * r + A 124 (tso A r))) (3 * A 126 (6 * tso A r + k) + A 127 (6 * tso A r + k))) 137 (4 * r + A 124 (tso A r)) (A 137 (4 * r + A 124 (tso A r)) + 1)) 100 33 (A 100 33 + 1)) 134 r (A 128 (6 * tso A r + k))
theorem c_T_put {r k : Int} (hA : rga A) (h0 : 0 ≤ r) (h1 : r < 4) (s0 : 0 ≤ tso A r) (s1 : tso A r < 279) (k0 : 0 ≤ k) (k1 : k < 6) (p0 : 0 ≤ A 124 (tso A r)) (p1 : A 124 (tso A r) < 4) (q0 : 0 ≤ A 137 (4 * r + A 124 (tso A r))) (q1 : A 137 (4 * r + A 124 (tso A r)) ≤ 4)
    (hw : A 137 (4 * r + A 124 (tso A r)) = 4 → Q (.returned (some (iv (-3)))) (hp K.n A R g t u))
    (hq : A 137 (4 * r + A 124 (tso A r)) < 4 → Q (.returned (some (iv (A 128 (6 * tso A r + k))))) (hp K.n (tPut A r k) R g t u)) : mx K M_T_put (d + 2) [.ref (xa K.n 32), iv r, iv k] (hp K.n A R g t u) Q := by
  unfold tPut at hq
  refine mx_in ok_T_put rfl (Nat.le_of_ble_eq_true rfl) ?_
  generalize hs : tso A r = s at *
  generalize hqq : 4 * r + A 124 s = q at *
  refine r_aload_n 0 rfl rfl ?_
  refine r_iload_n 1 rfl rfl ?_
  refine r_callv1 2 rfl l_T_232 (hp_at rfl) (Nat.le_of_ble_eq_true rfl) ?_
  refine c_T_stateOf hA h0 h1 (cp1 ?_)
  rw [hs]
  refine r_istore_n 3 rfl (Nat.le_of_ble_eq_true rfl) ?_
  refine r_iconst 4 rfl ?_
  refine r_iload_n 5 rfl rfl ?_
  refine r_imul 6 rfl ?_
  refine r_aload_n 7 rfl rfl ?_
  refine r_get 8 rfl f_T_59 (hp_at rfl) rfl ?_
  refine r_iload_n 9 rfl rfl ?_
  refine r_iaload 10 rfl (hp_at rfl) (by decide) (by omega) (by omega) ?_
  refine r_iadd 11 rfl ?_
  rw [hqq]
  refine r_istore 12 rfl (Nat.le_of_ble_eq_true rfl) ?_
  refine r_aload_n 13 rfl rfl ?_
  refine r_get 14 rfl f_T_93 (hp_at rfl) rfl ?_
  refine r_iload 15 rfl rfl ?_
  refine r_iaload 16 rfl (hp_at rfl) (by decide) (by omega) (by omega) ?_
  refine r_iconst 17 rfl ?_
  refine r_icmp_ne (t := 32) 18 rfl (by decide) (by first | exact hA _ _ | exact ⟨by decide, by decide⟩ | assumption | exact ⟨by omega, by omega⟩) (by first | exact hA _ _ | exact ⟨by decide, by decide⟩ | assumption | exact ⟨by omega, by omega⟩) (fun c_26 => ?_) (fun c_26 => ?_)
  · refine r_aload_n 21 rfl rfl ?_
    refine r_get 22 rfl f_T_96 (hp_at rfl) rfl ?_
    refine r_iconst 23 rfl ?_
    refine r_iload 24 rfl rfl ?_
    refine r_imul 25 rfl ?_
    refine r_aload_n 26 rfl rfl ?_
    refine r_get 27 rfl f_T_93 (hp_at rfl) rfl ?_
    refine r_iload 28 rfl rfl ?_
    refine r_iaload 29 rfl (hp_at rfl) (by decide) (by omega) (by omega) ?_
    refine r_iadd 30 rfl ?_
    refine r_iconst 31 rfl ?_
    refine r_aload_n 32 rfl rfl ?_
    refine r_get 33 rfl f_T_65 (hp_at rfl) rfl ?_
    refine r_bipush 34 rfl rfl ?_
    refine r_iload_n 35 rfl rfl ?_
    refine r_imul 36 rfl ?_
    refine r_iload_n 37 rfl rfl ?_
    refine r_iadd 38 rfl ?_
    refine r_iaload 39 rfl (hp_at rfl) (by decide) (by omega) (by omega) ?_
    refine r_imul 40 rfl ?_
    refine r_aload_n 41 rfl rfl ?_
    refine r_get 42 rfl f_T_68 (hp_at rfl) rfl ?_
    refine r_bipush 43 rfl rfl ?_
    refine r_iload_n 44 rfl rfl ?_
    refine r_imul 45 rfl ?_
    refine r_iload_n 46 rfl rfl ?_
    refine r_iadd 47 rfl ?_
    refine r_iaload 48 rfl (hp_at rfl) (by decide) (by omega) (by omega) ?_
    refine r_iadd 49 rfl ?_
    refine r_iastore 50 rfl (hp_at rfl) (by decide) (by omega) (by omega) ?_
    rw [ws_138]
    refine r_aload_n 51 rfl rfl ?_
    refine r_get 52 rfl f_T_93 (hp_at rfl) rfl ?_
    refine r_iload 53 rfl rfl ?_
    refine r_dup2 54 rfl rfl rfl ?_
    refine r_iaload 55 rfl (hp_at rfl) (by decide) (by omega) (by omega) ?_
    refine r_iconst 56 rfl ?_
    refine r_iadd 57 rfl ?_
    refine r_iastore 58 rfl (hp_at rfl) (by decide) (by omega) (by omega) ?_
    rw [ws_137]
    refine r_aload_n 59 rfl rfl ?_
    refine r_dup 60 rfl rfl ?_
    refine r_get 61 rfl f_T_229 (hp_at rfl) rfl ?_
    refine r_iconst 62 rfl ?_
    refine r_iadd 63 rfl ?_
    refine r_put 64 rfl f_T_229 (hp_at rfl) rfl rfl ?_
    rw [wT_33]
    refine r_aload_n 65 rfl rfl ?_
    refine r_get 66 rfl f_T_84 (hp_at rfl) rfl ?_
    refine r_iload_n 67 rfl rfl ?_
    refine r_aload_n 68 rfl rfl ?_
    refine r_get 69 rfl f_T_71 (hp_at rfl) rfl ?_
    refine r_bipush 70 rfl rfl ?_
    refine r_iload_n 71 rfl rfl ?_
    refine r_imul 72 rfl ?_
    refine r_iload_n 73 rfl rfl ?_
    refine r_iadd 74 rfl ?_
    refine r_iaload 75 rfl (hp_at rfl) (by decide) (by omega) (by omega) ?_
    refine r_iastore 76 rfl (hp_at rfl) (by decide) (by omega) (by omega) ?_
    rw [ws_134]
    refine r_aload_n 77 rfl rfl ?_
    refine r_get 78 rfl f_T_84 (hp_at rfl) rfl ?_
    refine r_iload_n 79 rfl rfl ?_
    refine r_iaload 80 rfl (hp_at rfl) (by decide) (by omega) (by omega) ?_
    refine r_iret 81 rfl rfl rfl ?_
    exact q_v (hq (by omega)) (by simp [au, fu])
  · refine r_bipush 19 rfl rfl ?_
    refine r_iret 20 rfl rfl rfl ?_
    exact hw c_26
end TW2


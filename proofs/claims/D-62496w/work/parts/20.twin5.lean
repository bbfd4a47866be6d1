/-! filling and copying parts of arrays -/
def fil (A : Nat → Int → Int) (j : Nat) (lo hi x : Int) : Nat → Int → Int := fun j' i => if j' = j ∧ lo ≤ i ∧ i < hi then x else A j' i
theorem fil_0 (A : Nat → Int → Int) (j : Nat) (lo x : Int) : fil A j lo lo x = A := by
  funext j' i
  unfold fil
  rw [if_neg (by omega)]
theorem au_ite (A : Nat → Int → Int) (j : Nat) (i x : Int) (j' : Nat) (i' : Int) : au A j i x j' i' = if j' = j ∧ i' = i then x else A j' i' := by
  unfold au fu
  by_cases h : j' = j
  · subst h
    simp
  · simp [h]
theorem fil_step (A : Nat → Int → Int) (j : Nat) {lo hi : Int} (x : Int) (h : lo ≤ hi) : au (fil A j lo hi x) j hi x = fil A j lo (hi + 1) x := by
  funext j' i
  rw [au_ite]
  unfold fil
  by_cases h1 : j' = j ∧ i = hi
  · rw [if_pos h1, if_pos (by omega)]
  · rw [if_neg h1]
    by_cases h2 : j' = j ∧ lo ≤ i ∧ i < hi
    · rw [if_pos h2, if_pos (by omega)]
    · rw [if_neg h2, if_neg (by omega)]
theorem au_fil (A : Nat → Int → Int) {j j1 : Nat} (lo hi x i y : Int) (h : j1 ≠ j) : au (fil A j lo hi x) j1 i y = fil (au A j1 i y) j lo hi x := by
  funext j' i'
  rw [au_ite]
  unfold fil
  rw [au_ite]
  by_cases h1 : j' = j1 ∧ i' = i
  · rw [if_pos h1, if_neg (by omega), if_pos h1]
  · rw [if_neg h1]
    by_cases h2 : j' = j ∧ lo ≤ i' ∧ i' < hi
    · rw [if_pos h2, if_pos h2]
    · rw [if_neg h2, if_neg h2, if_neg h1]
theorem rga_fil {A : Nat → Int → Int} (h : rga A) {j : Nat} {lo hi x : Int} (hx : rg x) : rga (fil A j lo hi x) := fun j' i => by
  unfold fil
  split
  · exact hx
  · exact h _ _
/-- n places of row j, from f on, copied to lo on -/
def cpy (A : Nat → Int → Int) (j : Nat) (lo f n : Int) : Nat → Int → Int := fun j' i => if j' = j ∧ lo ≤ i ∧ i < lo + n then A j (i - lo + f) else A j' i
theorem cpy_0 (A : Nat → Int → Int) (j : Nat) (lo f : Int) : cpy A j lo f 0 = A := by
  funext j' i
  unfold cpy
  rw [if_neg (by omega)]
theorem cpy_step (A : Nat → Int → Int) (j : Nat) {lo f n : Int} (h : 0 ≤ n) : au (cpy A j lo f n) j (lo + n) (A j (f + n)) = cpy A j lo f (n + 1) := by
  funext j' i
  rw [au_ite]
  unfold cpy
  by_cases h1 : j' = j ∧ i = lo + n
  · obtain ⟨rfl, rfl⟩ := h1
    rw [if_pos ⟨rfl, rfl⟩, if_pos (by omega), show lo + n - lo + f = f + n by omega]
  · rw [if_neg h1]
    by_cases h2 : j' = j ∧ lo ≤ i ∧ i < lo + n
    · rw [if_pos h2, if_pos (by omega)]
    · rw [if_neg h2, if_neg (by omega)]
theorem cpy_rd (A : Nat → Int → Int) (j : Nat) {lo f n i : Int} (h : i < lo ∨ lo + n ≤ i) : cpy A j lo f n j i = A j i := by
  unfold cpy
  rw [if_neg (by omega)]
theorem cpy_ne (A : Nat → Int → Int) {j j' : Nat} (lo f n i : Int) (h : j' ≠ j) : cpy A j lo f n j' i = A j' i := by
  unfold cpy
  rw [if_neg (by omega)]
theorem au_cpy (A : Nat → Int → Int) {j j1 : Nat} (lo f n i y : Int) (h : j1 ≠ j) : au (cpy A j lo f n) j1 i y = cpy (au A j1 i y) j lo f n := by
  funext j' i'
  rw [au_ite]
  unfold cpy
  rw [au_ite, au_ite]
  by_cases h1 : j' = j1 ∧ i' = i
  · rw [if_pos h1, if_neg (by omega), if_pos h1]
  · rw [if_neg h1]
    by_cases h2 : j' = j ∧ lo ≤ i' ∧ i' < lo + n
    · rw [if_pos h2, if_pos h2, if_neg (by omega)]
    · rw [if_neg h2, if_neg h2, if_neg h1]
theorem rga_cpy {A : Nat → Int → Int} (h : rga A) {j : Nat} {lo f n : Int} : rga (cpy A j lo f n) := fun j' i => by
  unfold cpy
  split
  · exact h _ _
  · exact h _ _
theorem au_self (A : Nat → Int → Int) (j : Nat) (i : Int) : au A j i (A j i) = A := by
  funext j' i'
  rw [au_ite]
  split
  · rename_i h
    rw [h.1, h.2]
  · rfl
section TW5
variable {K : xk} {M : xm} {d : Nat} {Q : Outcome → xh → Prop} {A : Nat → Int → Int} {R : Nat → Int → Value} {g : Nat → Nat × List Value} {t u : Nat}
/-- the tail of take: the answer v is in local 4's place on the stack -/
theorem t_take {r q s v : Int} {A' : Nat → Int → Int} (hA' : rga A') (hv : rg v) (h0 : 0 ≤ r) (h1 : r < 4)
    (hq1 : v = -4 → Q (.returned (some (iv v))) (hp K.n (au A' 136 r (A' 136 r + 1)) R g t u)) (hq2 : v ≠ -4 → Q (.returned (some (iv v))) (hp K.n A' R g t u)) :
    wx K M_T_take d Q 55 [some (.ref (xa K.n 32)), some (iv r), some (iv q), some (iv s), none] [iv v] (hp K.n A' R g t u) := by
  have hA := hA'
  refine r_istore 36 rfl (Nat.le_of_ble_eq_true rfl) ?_
  refine r_aload_n 37 rfl rfl ?_
  refine r_get 38 rfl f_T_90 (hp_at rfl) rfl ?_
  refine r_iload_n 39 rfl rfl ?_
  refine r_iload 40 rfl rfl ?_
  refine r_bipush 41 rfl rfl ?_
  refine r_icmp_ne (t := 80) 42 rfl (by decide) (by first | exact hA _ _ | exact ⟨by decide, by decide⟩ | assumption | exact ⟨by omega, by omega⟩) (by first | exact hA _ _ | exact ⟨by decide, by decide⟩ | assumption | exact ⟨by omega, by omega⟩) (fun c_66 => ?_) (fun c_66 => ?_)
  · refine r_aload_n 50 rfl rfl ?_
    refine r_get 51 rfl f_T_90 (hp_at rfl) rfl ?_
    refine r_iload_n 52 rfl rfl ?_
    refine r_iaload 53 rfl (hp_at rfl) (by decide) (by omega) (by omega) ?_
    refine r_iastore 54 rfl (hp_at rfl) (by decide) (by omega) (by omega) ?_
    rw [ws_136]
    refine r_iload 55 rfl rfl ?_
    refine r_iret 56 rfl rfl rfl ?_
    exact q_h (hq2 c_66) (by rw [au_self])
  · refine r_aload_n 43 rfl rfl ?_
    refine r_get 44 rfl f_T_90 (hp_at rfl) rfl ?_
    refine r_iload_n 45 rfl rfl ?_
    refine r_iaload 46 rfl (hp_at rfl) (by decide) (by omega) (by omega) ?_
    refine r_iconst 47 rfl ?_
    refine r_iadd 48 rfl ?_
    refine r_goto (t := 86) 49 rfl (by decide) ?_
    refine r_iastore 54 rfl (hp_at rfl) (by decide) (by omega) (by omega) ?_
    rw [ws_136]
    refine r_iload 55 rfl rfl ?_
    refine r_iret 56 rfl rfl rfl ?_
    exact hq1 c_66
theorem c_T_take {r q : Int} (hA : rga A) (hr : rg r) (hqr : rg q) (hS : A 100 32 ≠ 0 → ∀ r, 0 ≤ r → r < 4 → tS A r) (hF : 0 ≤ r → r < 4 → A 136 r < 2147483647) (hL : ∀ k, 0 ≤ k → k < A 125 (tso A r) → 0 ≤ A 128 (6 * tso A r + k))
    (hb : (A 100 32 = 0 ∨ r < 0 ∨ 3 < r ∨ q < 0 ∨ 3 < q ∨ r = q ∨ A 135 r = 0) → Q (.returned (some (iv (-1)))) (hp K.n A R g t u))
    (hn : ¬ (A 100 32 = 0 ∨ r < 0 ∨ 3 < r ∨ q < 0 ∨ 3 < q ∨ r = q ∨ A 135 r = 0) → (A 123 (tso A r) ≠ 2 ∨ A 124 (tso A r) ≠ q) → Q (.returned (some (iv (-2)))) (hp K.n (au A 136 r (A 136 r + 1)) R g t u))
    (hw : ¬ (A 100 32 = 0 ∨ r < 0 ∨ 3 < r ∨ q < 0 ∨ 3 < q ∨ r = q ∨ A 135 r = 0) → A 123 (tso A r) = 2 → A 124 (tso A r) = q → A 137 (tGotQ A r) = 0 → Q (.returned (some (iv (-3)))) (hp K.n A R g t u))
    (hm : ∀ k, ¬ (A 100 32 = 0 ∨ r < 0 ∨ 3 < r ∨ q < 0 ∨ 3 < q ∨ r = q ∨ A 135 r = 0) → A 123 (tso A r) = 2 → A 124 (tso A r) = q → A 137 (tGotQ A r) ≠ 0 → tFnd A (tso A r) (A 138 (4 * tGotQ A r) / 3) (A 138 (4 * tGotQ A r) % 3) k → k < 0 → Q (.returned (some (iv (-4)))) (hp K.n (au A 136 r (A 136 r + 1)) R g t u))
    (hq : ∀ k, ¬ (A 100 32 = 0 ∨ r < 0 ∨ 3 < r ∨ q < 0 ∨ 3 < q ∨ r = q ∨ A 135 r = 0) → A 123 (tso A r) = 2 → A 124 (tso A r) = q → A 137 (tGotQ A r) ≠ 0 → tFnd A (tso A r) (A 138 (4 * tGotQ A r) / 3) (A 138 (4 * tGotQ A r) % 3) k → 0 ≤ k → Q (.returned (some (iv (A 128 (6 * tso A r + k))))) (hp K.n (tGot A r k) R g t u)) : mx K M_T_take (d + 4) [.ref (xa K.n 32), iv r, iv q] (hp K.n A R g t u) Q := by
  refine mx_in ok_T_take rfl (Nat.le_of_ble_eq_true rfl) ?_
  refine r_aload_n 0 rfl rfl ?_
  refine r_iload_n 1 rfl rfl ?_
  refine r_iload_n 2 rfl rfl ?_
  refine r_callv2 3 rfl l_T_244 (hp_at rfl) (Nat.le_of_ble_eq_true rfl) ?_
  refine c_T_isStrange hA hr hqr (fun e => cp1 ?_) (fun e => cp1 ?_)
  · refine r_if_ne (t := 11) 4 rfl (by decide) ⟨by decide, by decide⟩ (fun e2 => absurd rfl e2) (fun _ => ?_)
    refine r_iconst 5 rfl ?_
    refine r_iret 6 rfl rfl rfl ?_
    exact hb (by omega)
  refine r_if_ne (t := 11) 4 rfl (by decide) ⟨by decide, by decide⟩ (fun _ => ?_) (fun e2 => absurd e2 (by decide))
  skip
  have hSr := hS (by omega) r (by omega) (by omega)
  obtain ⟨⟨s0, s1⟩, ⟨c0, c1⟩, hp1, hq1, hl1⟩ := id hSr
  refine r_aload_n 7 rfl rfl ?_
  refine r_iload_n 8 rfl rfl ?_
  refine r_callv1 9 rfl l_T_232 (hp_at rfl) (Nat.le_of_ble_eq_true rfl) ?_
  refine c_T_stateOf hA (by omega) (by omega) (cp1 ?_)
  refine r_istore_n 10 rfl (Nat.le_of_ble_eq_true rfl) ?_
  refine r_aload_n 11 rfl rfl ?_
  refine r_get 12 rfl f_T_56 (hp_at rfl) rfl ?_
  refine r_iload_n 13 rfl rfl ?_
  refine r_iaload 14 rfl (hp_at rfl) (by decide) (by omega) (by omega) ?_
  refine r_iconst 15 rfl ?_
  refine r_icmp_ne (t := 37) 16 rfl (by decide) (by first | exact hA _ _ | exact ⟨by decide, by decide⟩ | assumption | exact ⟨by omega, by omega⟩) (by first | exact hA _ _ | exact ⟨by decide, by decide⟩ | assumption | exact ⟨by omega, by omega⟩) (fun c_24 => ?_) (fun c_24 => ?_)
  · refine r_aload_n 23 rfl rfl ?_
    refine r_get 24 rfl f_T_90 (hp_at rfl) rfl ?_
    refine r_iload_n 25 rfl rfl ?_
    refine r_dup2 26 rfl rfl rfl ?_
    refine r_iaload 27 rfl (hp_at rfl) (by decide) (by omega) (by omega) ?_
    refine r_iconst 28 rfl ?_
    refine r_iadd 29 rfl ?_
    refine r_iastore 30 rfl (hp_at rfl) (by decide) (by omega) (by omega) ?_
    rw [ws_136]
    refine r_bipush 31 rfl rfl ?_
    refine r_iret 32 rfl rfl rfl ?_
    exact hn (by omega) (by omega)
  · refine r_aload_n 17 rfl rfl ?_
    refine r_get 18 rfl f_T_59 (hp_at rfl) rfl ?_
    refine r_iload_n 19 rfl rfl ?_
    refine r_iaload 20 rfl (hp_at rfl) (by decide) (by omega) (by omega) ?_
    refine r_iload_n 21 rfl rfl ?_
    refine r_icmp_eq (t := 50) 22 rfl (by decide) (by first | exact hA _ _ | exact ⟨by decide, by decide⟩ | assumption | exact ⟨by omega, by omega⟩) (by first | exact hA _ _ | exact ⟨by decide, by decide⟩ | assumption | exact ⟨by omega, by omega⟩) (fun c_34 => ?_) (fun c_34 => ?_)
    · refine r_aload_n 33 rfl rfl ?_
      refine r_iload_n 34 rfl rfl ?_
      refine r_callv1 35 rfl l_T_241 (hp_at rfl) (Nat.le_of_ble_eq_true rfl) ?_
      refine c_T_got hA (by omega) (by omega) hSr (by omega) (fun e => cp1 ?_) (fun k e1 e2 e3 => cp1 ?_) (fun k e1 e2 e3 => cp1 ?_)
      · exact t_take hA ⟨by decide, by decide⟩ (by omega) (by omega) (fun e2 => absurd e2 (by decide)) (fun _ => hw (by omega) (by omega) (by omega) e)
      · exact t_take hA ⟨by decide, by decide⟩ (by omega) (by omega) (fun _ => hm k (by omega) (by omega) (by omega) e1 e2 e3) (fun e4 => absurd rfl e4)
      · have hk6 : k < A 125 (tso A r) := by unfold tFnd at e2; omega
        have hl0 := hL k e3 hk6
        refine t_take ?_ (hA _ _) (by omega) (by omega) (fun e4 => by omega) (fun _ => hq k (by omega) (by omega) (by omega) e1 e2 e3)
        have hqq := hq1 (tGotQ A r) (by unfold tGotQ; have := hp1 (by omega); omega) (by unfold tGotQ; have := hp1 (by omega); omega)
        exact rga_au (rga_tSh (rga_au hA ⟨by omega, by omega⟩) _ _) (hA _ _)
    · refine r_aload_n 23 rfl rfl ?_
      refine r_get 24 rfl f_T_90 (hp_at rfl) rfl ?_
      refine r_iload_n 25 rfl rfl ?_
      refine r_dup2 26 rfl rfl rfl ?_
      refine r_iaload 27 rfl (hp_at rfl) (by decide) (by omega) (by omega) ?_
      refine r_iconst 28 rfl ?_
      refine r_iadd 29 rfl ?_
      refine r_iastore 30 rfl (hp_at rfl) (by decide) (by omega) (by omega) ?_
      rw [ws_136]
      refine r_bipush 31 rfl rfl ?_
      refine r_iret 32 rfl rfl rfl ?_
      exact hn (by omega) (by omega)
end TW5


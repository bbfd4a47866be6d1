/-! the twin: reading, as functions of the state -/
theorem fil_ne (A : Nat → Int → Int) {j j' : Nat} (lo hi x i : Int) (h : j' ≠ j) : fil A j lo hi x j' i = A j' i := by
  unfold fil
  rw [if_neg (by omega)]
section TW8
variable {K : xk} {M : xm} {d : Nat} {Q : Outcome → xh → Prop} {A : Nat → Int → Int} {R : Nat → Int → Value} {g : Nat → Nat × List Value} {t u : Nat}
/-- the ranges of what reading uses -/
def tB (A : Nat → Int → Int) : Prop := rga A ∧ (0 ≤ A 100 2 ∧ A 100 2 ≤ A 100 0) ∧ A 100 0 ≤ 100 ∧ ∀ i, 0 ≤ i → i < A 100 0 → 0 ≤ A 101 i ∧ A 101 i < 65536
theorem tB.to {A' : Nat → Int → Int} (h : tB A) (h1 : rga A') (h2 : 0 ≤ A' 100 2 ∧ A' 100 2 ≤ A' 100 0) (h3 : A' 100 0 = A 100 0) (h4 : ∀ i, A' 101 i = A 101 i) : tB A' := ⟨h1, h2, by rw [h3]; exact h.2.2.1, fun i i0 i1 => by rw [h4]; exact h.2.2.2 i i0 (by omega)⟩
theorem tB_au {j : Nat} {i x : Int} (h : tB A) (hx : rg x) (hj : j ≠ 100) (hj2 : j ≠ 101) : tB (au A j i x) := h.to (rga_au h.1 hx) (by rw [au_ne _ _ _ _ hj.symm, au_ne _ _ _ _ hj.symm]; exact h.2.1) (au_ne _ _ _ _ hj.symm) (fun i => au_ne _ _ _ _ hj2.symm)
theorem tB_sc {i x : Int} (h : tB A) (hx : rg x) (h0 : i ≠ 0) (h2 : i ≠ 2) : tB (au A 100 i x) := h.to (rga_au h.1 hx) (by rw [au_ni _ _ _ h0.symm, au_ni _ _ _ h2.symm]; exact h.2.1) (au_ni _ _ _ h0.symm) (fun i => au_ne _ _ _ _ (by decide))
theorem tB_wr {x : Int} (h : tB A) (hx : rg x) : tB (tWr A x) := tB_sc h (by split; exact hx; exact h.1 _ _) (by decide) (by decide)
theorem tB_pl (h : tB A) (hp : A 100 2 < A 100 0) : tB (au A 100 2 (A 100 2 + 1)) := h.to (rga_au h.1 ⟨by have := h.2.1; omega, by have := h.2.2.1; omega⟩) (by rw [au_same, au_ni _ _ _ (by decide)]; have := h.2.1; omega) (au_ni _ _ _ (by decide)) (fun i => au_ne _ _ _ _ (by decide))
theorem tHere_lt (h : 0 ≤ tHere A) : A 100 2 < A 100 0 := by
  unfold tHere at h
  split at h
  · assumption
  · omega
def muF (A : Nat → Int → Int) (c : Int) : Nat → Int → Int := if tHere A = c ∧ A 100 3 < 0 then au A 100 2 (A 100 2 + 1) else tWr A (A 100 2)
theorem tB_mu {c : Int} (h : tB A) (hc : 0 ≤ c) : tB (muF A c) := by
  unfold muF
  split
  · rename_i e; exact tB_pl h (tHere_lt (by omega))
  · exact tB_wr h (h.1 _ _)
theorem c_T_must {c : Int} (hB : tB A) (hc : rg c) (hq : Q (.returned none) (hp K.n (muF A c) R g t u)) : mx K M_T_must (d + 1) [.ref (xa K.n 32), iv c] (hp K.n A R g t u) Q := by
  obtain ⟨hA, h2, h3, -⟩ := hB
  have hth := rg_tHere hA
  unfold muF at hq
  refine mx_in ok_T_must rfl (Nat.le_of_ble_eq_true rfl) ?_
  refine r_aload_n 0 rfl rfl ?_
  refine r_callv0 1 rfl l_T_109 (hp_at rfl) (Nat.le_of_ble_eq_true rfl) ?_
  refine c_T_here hA (by omega) (by omega) (cp1 ?_)
  refine r_iload_n 2 rfl rfl ?_
  refine r_icmp_ne (t := 28) 3 rfl (by decide) (by first | exact hA _ _ | exact ⟨by decide, by decide⟩ | assumption | exact ⟨by omega, by omega⟩) (by first | exact hA _ _ | exact ⟨by decide, by decide⟩ | assumption | exact ⟨by omega, by omega⟩) (fun c_5 => ?_) (fun c_5 => ?_)
  · refine r_aload_n 14 rfl rfl ?_
    refine r_aload_n 15 rfl rfl ?_
    refine r_get 16 rfl f_T_103 (hp_at rfl) rfl ?_
    refine r_callv1 17 rfl l_T_113 (hp_at rfl) (Nat.le_of_ble_eq_true rfl) ?_
    refine c_T_wrong hA (cp0 ?_)
    refine r_ret 18 rfl rfl ?_
    exact q_h hq (by first | rw [if_pos (by omega)] | rw [if_neg (by omega)])
  · refine r_aload_n 4 rfl rfl ?_
    refine r_get 5 rfl f_T_106 (hp_at rfl) rfl ?_
    refine r_if_ge (t := 28) 6 rfl (by decide) (by first | exact hA _ _ | exact ⟨by decide, by decide⟩ | assumption | exact ⟨by omega, by omega⟩) (fun c_12 => ?_) (fun c_12 => ?_)
    · refine r_aload_n 14 rfl rfl ?_
      refine r_aload_n 15 rfl rfl ?_
      refine r_get 16 rfl f_T_103 (hp_at rfl) rfl ?_
      refine r_callv1 17 rfl l_T_113 (hp_at rfl) (Nat.le_of_ble_eq_true rfl) ?_
      refine c_T_wrong hA (cp0 ?_)
      refine r_ret 18 rfl rfl ?_
      exact q_h hq (by first | rw [if_pos (by omega)] | rw [if_neg (by omega)])
    · refine r_aload_n 7 rfl rfl ?_
      refine r_dup 8 rfl rfl ?_
      refine r_get 9 rfl f_T_103 (hp_at rfl) rfl ?_
      refine r_iconst 10 rfl ?_
      refine r_iadd 11 rfl ?_
      refine r_put 12 rfl f_T_103 (hp_at rfl) rfl rfl ?_
      rw [wT_2]
      refine r_goto (t := 36) 13 rfl (by decide) ?_
      refine r_ret 18 rfl rfl ?_
      exact q_h hq (by first | rw [if_pos (by omega)] | rw [if_neg (by omega)])
def onF (A : Nat → Int → Int) (low many : Int) : Int := if (tHere A - low < 0 ∨ many - 1 < tHere A - low) ∨ 0 ≤ A 100 3 then 0 else tHere A - low
def onA (A : Nat → Int → Int) (low many : Int) : Nat → Int → Int := if (tHere A - low < 0 ∨ many - 1 < tHere A - low) ∨ 0 ≤ A 100 3 then tWr A (A 100 2) else au A 100 2 (A 100 2 + 1)
theorem tHere_rg (hB : tB A) : -1 ≤ tHere A ∧ tHere A < 65536 := by
  unfold tHere
  split
  · have := hB.2.2.2 (A 100 2) (by have := hB.2.1; omega) (by omega); omega
  · omega
theorem tB_on {low many : Int} (h : tB A) (hl : 0 ≤ low) : tB (onA A low many) := by
  unfold onA
  split
  · exact tB_wr h (h.1 _ _)
  · exact tB_pl h (tHere_lt (by omega))
theorem c_T_one {low many : Int} (hB : tB A) (hl : 0 ≤ low ∧ low < 1000) (hm : 0 < many ∧ many < 1000) (hq : Q (.returned (some (iv (onF A low many)))) (hp K.n (onA A low many) R g t u)) : mx K M_T_one (d + 1) [.ref (xa K.n 32), iv low, iv many] (hp K.n A R g t u) Q := by
  have hth := tHere_rg hB
  obtain ⟨hA, h2, h3, -⟩ := hB
  unfold onF onA at hq
  refine mx_in ok_T_one rfl (Nat.le_of_ble_eq_true rfl) ?_
  refine r_aload_n 0 rfl rfl ?_
  refine r_callv0 1 rfl l_T_109 (hp_at rfl) (Nat.le_of_ble_eq_true rfl) ?_
  refine c_T_here hA (by omega) (by omega) (cp1 ?_)
  refine r_iload_n 2 rfl rfl ?_
  refine r_isub 3 rfl ?_
  refine r_istore_n 4 rfl (Nat.le_of_ble_eq_true rfl) ?_
  refine r_iload_n 5 rfl rfl ?_
  refine r_iload_n 6 rfl rfl ?_
  refine r_iconst 7 rfl ?_
  refine r_isub 8 rfl ?_
  refine r_out_ne (tt := 24) 9 rfl l_T_117 rfl (by decide) (by first | exact hA _ _ | exact ⟨by decide, by decide⟩ | assumption | exact ⟨by omega, by omega⟩) (by first | exact hA _ _ | exact ⟨by decide, by decide⟩ | assumption | exact ⟨by omega, by omega⟩) (Nat.le_of_ble_eq_true rfl) (fun c_11 => ?_) (fun c_11 => ?_)
  · refine r_aload_n 14 rfl rfl ?_
    refine r_aload_n 15 rfl rfl ?_
    refine r_get 16 rfl f_T_103 (hp_at rfl) rfl ?_
    refine r_callv1 17 rfl l_T_113 (hp_at rfl) (Nat.le_of_ble_eq_true rfl) ?_
    refine c_T_wrong hA (cp0 ?_)
    refine r_iconst 18 rfl ?_
    refine r_iret 19 rfl rfl rfl ?_
    exact q_v (q_h hq (by rw [if_pos (by omega)])) (by rw [if_pos (by omega)])
  · refine r_aload_n 11 rfl rfl ?_
    refine r_get 12 rfl f_T_106 (hp_at rfl) rfl ?_
    refine r_if_lt (t := 34) 13 rfl (by decide) (by first | exact hA _ _ | exact ⟨by decide, by decide⟩ | assumption | exact ⟨by omega, by omega⟩) (fun c_21 => ?_) (fun c_21 => ?_)
    · refine r_aload_n 20 rfl rfl ?_
      refine r_dup 21 rfl rfl ?_
      refine r_get 22 rfl f_T_103 (hp_at rfl) rfl ?_
      refine r_iconst 23 rfl ?_
      refine r_iadd 24 rfl ?_
      refine r_put 25 rfl f_T_103 (hp_at rfl) rfl rfl ?_
      rw [wT_2]
      refine r_iload_n 26 rfl rfl ?_
      refine r_iret 27 rfl rfl rfl ?_
      exact q_v (q_h hq (by rw [if_neg (by omega)])) (by rw [if_neg (by omega)])
    · refine r_aload_n 14 rfl rfl ?_
      refine r_aload_n 15 rfl rfl ?_
      refine r_get 16 rfl f_T_103 (hp_at rfl) rfl ?_
      refine r_callv1 17 rfl l_T_113 (hp_at rfl) (Nat.le_of_ble_eq_true rfl) ?_
      refine c_T_wrong hA (cp0 ?_)
      refine r_iconst 18 rfl ?_
      refine r_iret 19 rfl rfl rfl ?_
      exact q_v (q_h hq (by rw [if_pos (by omega)])) (by rw [if_pos (by omega)])
def frF (A : Nat → Int → Int) (k w : Int) : Nat → Int → Int := au (fil (au (au (au A 105 (A 100 4) k) 106 (A 100 4) w) 107 (A 100 4) 0) 108 (6 * A 100 4) (6 * A 100 4 + 6) 0) 100 4 (A 100 4 + 1)
theorem c_T_fresh {k w : Int} (hA : rga A) (hk : rg k) (hw : rg w) (u0 : 0 ≤ A 100 4) (u1 : A 100 4 < 300) (hq : Q (.returned (some (iv (A 100 4)))) (hp K.n (frF A k w) R g t u)) : mx K M_T_fresh d [.ref (xa K.n 32), iv k, iv w] (hp K.n A R g t u) Q := by
  unfold frF at hq
  refine mx_in ok_T_fresh rfl (Nat.le_of_ble_eq_true rfl) ?_
  have loop : ∀ (m : Nat) (i : Int), 0 ≤ i → i ≤ 6 → 6 - i < m → wx K M_T_fresh d Q 32 [some (.ref (xa K.n 32)), some (iv k), some (iv w), some (iv i)] [] (hp K.n (fil (au (au (au A 105 (A 100 4) k) 106 (A 100 4) w) 107 (A 100 4) 0) 108 (6 * A 100 4) (6 * A 100 4 + i) 0) R g t u) := by
    intro m
    induction m with
    | zero => intro i i0 i1 i2; omega
    | succ m ih =>
      intro i i0 i1 i2
      have hA : rga (fil (au (au (au A 105 (A 100 4) k) 106 (A 100 4) w) 107 (A 100 4) 0) 108 (6 * A 100 4) (6 * A 100 4 + i) 0) := rga_fil (rga_au (rga_au (rga_au hA hk) hw) rg_0) rg_0
      by_cases hi : i = 6
      · subst hi
        refine r_iload_n 20 rfl rfl ?_
        refine r_bipush 21 rfl rfl ?_
        refine r_icmp_ge (t := 59) 22 rfl (by decide) (by first | exact hA _ _ | exact ⟨by decide, by decide⟩ | assumption | exact ⟨by omega, by omega⟩) (by first | exact hA _ _ | exact ⟨by decide, by decide⟩ | assumption | exact ⟨by omega, by omega⟩) (fun c_35 => ?_) (fun c_35 => by omega)
        refine r_aload_n 35 rfl rfl ?_
        refine r_dup 36 rfl rfl ?_
        refine r_get 37 rfl f_T_121 (hp_at rfl) rfl ?_
        try simp +decide only [au_ne, au_same, fil_ne]
        refine r_iconst 38 rfl ?_
        refine r_iadd 39 rfl ?_
        refine r_put 40 rfl f_T_121 (hp_at rfl) rfl rfl ?_
        rw [wT_4]
        refine r_aload_n 41 rfl rfl ?_
        refine r_get 42 rfl f_T_121 (hp_at rfl) rfl ?_
        try simp +decide only [au_ne, au_same, fil_ne]
        refine r_iconst 43 rfl ?_
        refine r_isub 44 rfl ?_
        refine r_iret 45 rfl rfl rfl ?_
        exact q_v hq (by omega)
      · refine r_iload_n 20 rfl rfl ?_
        refine r_bipush 21 rfl rfl ?_
        refine r_icmp_ge (t := 59) 22 rfl (by decide) (by first | exact hA _ _ | exact ⟨by decide, by decide⟩ | assumption | exact ⟨by omega, by omega⟩) (by first | exact hA _ _ | exact ⟨by decide, by decide⟩ | assumption | exact ⟨by omega, by omega⟩) (fun c_35 => by omega) (fun c_35 => ?_)
        refine r_aload_n 23 rfl rfl ?_
        refine r_get 24 rfl f_T_23 (hp_at rfl) rfl ?_
        refine r_bipush 25 rfl rfl ?_
        refine r_aload_n 26 rfl rfl ?_
        refine r_get 27 rfl f_T_121 (hp_at rfl) rfl ?_
        try simp +decide only [au_ne, au_same, fil_ne]
        refine r_imul 28 rfl ?_
        refine r_iload_n 29 rfl rfl ?_
        refine r_iadd 30 rfl ?_
        refine r_iconst 31 rfl ?_
        refine r_iastore 32 rfl (hp_at rfl) (by decide) (by omega) (by omega) ?_
        rw [ws_108]
        rw [fil_step _ _ _ (by omega), show 6 * A 100 4 + i + 1 = 6 * A 100 4 + (i + 1) by omega]
        refine r_iinc 33 rfl rfl ?_
        refine r_goto (t := 32) 34 rfl (by decide) ?_
        exact ih _ (by omega) (by omega) (by omega)
  refine r_aload_n 0 rfl rfl ?_
  refine r_get 1 rfl f_T_13 (hp_at rfl) rfl ?_
  refine r_aload_n 2 rfl rfl ?_
  refine r_get 3 rfl f_T_121 (hp_at rfl) rfl ?_
  try simp +decide only [au_ne, au_same, fil_ne]
  refine r_iload_n 4 rfl rfl ?_
  refine r_iastore 5 rfl (hp_at rfl) (by decide) (by omega) (by omega) ?_
  rw [ws_105]
  refine r_aload_n 6 rfl rfl ?_
  refine r_get 7 rfl f_T_17 (hp_at rfl) rfl ?_
  refine r_aload_n 8 rfl rfl ?_
  refine r_get 9 rfl f_T_121 (hp_at rfl) rfl ?_
  try simp +decide only [au_ne, au_same, fil_ne]
  refine r_iload_n 10 rfl rfl ?_
  refine r_iastore 11 rfl (hp_at rfl) (by decide) (by omega) (by omega) ?_
  rw [ws_106]
  refine r_aload_n 12 rfl rfl ?_
  refine r_get 13 rfl f_T_20 (hp_at rfl) rfl ?_
  refine r_aload_n 14 rfl rfl ?_
  refine r_get 15 rfl f_T_121 (hp_at rfl) rfl ?_
  try simp +decide only [au_ne, au_same, fil_ne]
  refine r_iconst 16 rfl ?_
  refine r_iastore 17 rfl (hp_at rfl) (by decide) (by omega) (by omega) ?_
  rw [ws_107]
  refine r_iconst 18 rfl ?_
  refine r_istore_n 19 rfl (Nat.le_of_ble_eq_true rfl) ?_
  have e : au (au (au A 105 (A 100 4) k) 106 (A 100 4) w) 107 (A 100 4) 0 = fil (au (au (au A 105 (A 100 4) k) 106 (A 100 4) w) 107 (A 100 4) 0) 108 (6 * A 100 4) (6 * A 100 4 + 0) 0 := by rw [show 6 * A 100 4 + 0 = 6 * A 100 4 by omega, fil_0]
  refine Eq.mpr ?_ (loop 7 0 (by omega) (by omega) (by omega))
  rw [← e]
  rfl
theorem tB_fr {k w : Int} (h : tB A) (hk : rg k) (hw : rg w) (u0 : 0 ≤ A 100 4) (u1 : A 100 4 < 300) : tB (frF A k w) := by
  unfold frF
  have h1 : tB (au (au (au A 105 (A 100 4) k) 106 (A 100 4) w) 107 (A 100 4) 0) := tB_au (tB_au (tB_au h hk (by decide) (by decide)) hw (by decide) (by decide)) rg_0 (by decide) (by decide)
  have h2 : tB (fil (au (au (au A 105 (A 100 4) k) 106 (A 100 4) w) 107 (A 100 4) 0) 108 (6 * A 100 4) (6 * A 100 4 + 6) 0) := h1.to (rga_fil h1.1 rg_0) (by rw [fil_ne _ _ _ _ _ (by decide), fil_ne _ _ _ _ _ (by decide)]; exact h1.2.1) (fil_ne _ _ _ _ _ (by decide)) (fun i => fil_ne _ _ _ _ _ (by decide))
  exact tB_sc h2 ⟨by omega, by omega⟩ (by decide) (by decide)
def adF (A : Nat → Int → Int) (n l s c : Int) : Nat → Int → Int := au (au (au (au A 107 n (A 107 n + 1)) 108 (6 * n + l) (A 107 n + 1)) 109 (6 * n + l) s) 110 (6 * n + l) c
theorem c_T_addLabel {n l s c : Int} (hA : rga A) (n0 : 0 ≤ n) (n1 : n < 300) (l0 : 0 ≤ l) (l1 : l < 6) (hq : Q (.returned none) (hp K.n (adF A n l s c) R g t u)) : mx K M_T_addLabel d [.ref (xa K.n 32), iv n, iv l, iv s, iv c] (hp K.n A R g t u) Q := by
  unfold adF at hq
  refine mx_in ok_T_addLabel rfl (Nat.le_of_ble_eq_true rfl) ?_
  refine r_aload_n 0 rfl rfl ?_
  refine r_get 1 rfl f_T_20 (hp_at rfl) rfl ?_
  refine r_iload_n 2 rfl rfl ?_
  refine r_dup2 3 rfl rfl rfl ?_
  refine r_iaload 4 rfl (hp_at rfl) (by decide) (by omega) (by omega) ?_
  refine r_iconst 5 rfl ?_
  refine r_iadd 6 rfl ?_
  refine r_iastore 7 rfl (hp_at rfl) (by decide) (by omega) (by omega) ?_
  rw [ws_107]
  refine r_aload_n 8 rfl rfl ?_
  refine r_get 9 rfl f_T_23 (hp_at rfl) rfl ?_
  refine r_bipush 10 rfl rfl ?_
  refine r_iload_n 11 rfl rfl ?_
  refine r_imul 12 rfl ?_
  refine r_iload_n 13 rfl rfl ?_
  refine r_iadd 14 rfl ?_
  refine r_aload_n 15 rfl rfl ?_
  refine r_get 16 rfl f_T_20 (hp_at rfl) rfl ?_
  refine r_iload_n 17 rfl rfl ?_
  refine r_iaload 18 rfl (hp_at rfl) (by decide) (by omega) (by omega) ?_
  refine r_iastore 19 rfl (hp_at rfl) (by decide) (by omega) (by omega) ?_
  rw [ws_108]
  refine r_aload_n 20 rfl rfl ?_
  refine r_get 21 rfl f_T_26 (hp_at rfl) rfl ?_
  refine r_bipush 22 rfl rfl ?_
  refine r_iload_n 23 rfl rfl ?_
  refine r_imul 24 rfl ?_
  refine r_iload_n 25 rfl rfl ?_
  refine r_iadd 26 rfl ?_
  refine r_iload_n 27 rfl rfl ?_
  refine r_iastore 28 rfl (hp_at rfl) (by decide) (by omega) (by omega) ?_
  rw [ws_109]
  refine r_aload_n 29 rfl rfl ?_
  refine r_get 30 rfl f_T_29 (hp_at rfl) rfl ?_
  refine r_bipush 31 rfl rfl ?_
  refine r_iload_n 32 rfl rfl ?_
  refine r_imul 33 rfl ?_
  refine r_iload_n 34 rfl rfl ?_
  refine r_iadd 35 rfl ?_
  refine r_iload 36 rfl rfl ?_
  refine r_iastore 37 rfl (hp_at rfl) (by decide) (by omega) (by omega) ?_
  rw [ws_110]
  refine r_ret 38 rfl rfl ?_
  exact q_h hq (by rw [au_same])
theorem tB_ad {n l s c : Int} (h : tB A) (h7 : A 107 n < 1000) (hs : rg s) (hc : rg c) : tB (adF A n l s c) := by
  unfold adF
  have h8 : rg (A 107 n + 1) := ⟨by have := (h.1 107 n).1; omega, by omega⟩
  exact tB_au (tB_au (tB_au (tB_au h h8 (by decide) (by decide)) h8 (by decide) (by decide)) hs (by decide) (by decide)) hc (by decide) (by decide)
/-- guarded: from the innermost open place down; m: a message was met -/
def gdG (A : Nat → Int → Int) (v : Int) : Nat → Int → Int
  | 0, _ => 0
  | i + 1, m => if A 105 (A 115 i) = 2 ∧ A 106 (A 115 i) = v then m else gdG A v i (if m ≠ 0 ∨ A 105 (A 115 i) ≠ 2 then 1 else 0)
theorem gdG_s (A : Nat → Int → Int) (v : Int) (i : Nat) (m : Int) : gdG A v (i + 1) m = if A 105 (A 115 i) = 2 ∧ A 106 (A 115 i) = v then m else gdG A v i (if m ≠ 0 ∨ A 105 (A 115 i) ≠ 2 then 1 else 0) := rfl
theorem c_T_guarded {v : Int} (hA : rga A) (hv : rg v) (o0 : 0 ≤ A 100 14) (o1 : A 100 14 ≤ 32) (hO : ∀ i, 0 ≤ i → i < A 100 14 → 0 ≤ A 115 i ∧ A 115 i < 300) (hq : Q (.returned (some (iv (gdG A v (A 100 14).toNat 0)))) (hp K.n A R g t u)) : mx K M_T_guarded d [.ref (xa K.n 32), iv v] (hp K.n A R g t u) Q := by
  refine mx_in ok_T_guarded rfl (Nat.le_of_ble_eq_true rfl) ?_
  have loop : ∀ (k : Nat) (m : Int) (l4 : Option Value), (k : Int) ≤ A 100 14 → (m = 0 ∨ m = 1) → (∀ v, l4 = some v → v.category = 1) → gdG A v k m = gdG A v (A 100 14).toNat 0 → wx K M_T_guarded d Q 9 [some (.ref (xa K.n 32)), some (iv v), some (iv m), some (iv ((k : Int) - 1)), l4] [] (hp K.n A R g t u) := by
    intro k
    induction k with
    | zero =>
      intro m l4 hk hm hc hg
      refine r_iload_n 7 rfl rfl ?_
      refine r_if_lt (t := 72) 8 rfl (by decide) (by first | exact hA _ _ | exact ⟨by decide, by decide⟩ | assumption | exact ⟨by omega, by omega⟩) (fun c_10 => ?_) (fun c_10 => by omega)
      refine r_iconst 42 rfl ?_
      refine r_iret 43 rfl rfl (by first | rfl | assumption) ?_
      exact q_v hq hg.symm
    | succ k ih =>
      intro m l4 hk hm hc hg
      have hmr : rg m := by rcases hm with rfl | rfl <;> exact ⟨by decide, by decide⟩
      have hmn : narrow .boolean (iv m) = iv m := by rcases hm with rfl | rfl <;> rfl
      have hok := hO k (by omega) (by omega)
      rw [show ((k + 1 : Nat) : Int) - 1 = k by omega]
      rw [gdG_s] at hg
      refine r_iload_n 7 rfl rfl ?_
      refine r_if_lt (t := 72) 8 rfl (by decide) (by first | exact hA _ _ | exact ⟨by decide, by decide⟩ | assumption | exact ⟨by omega, by omega⟩) (fun c_10 => by omega) (fun c_10 => ?_)
      refine r_aload_n 9 rfl rfl ?_
      refine r_get 10 rfl f_T_35 (hp_at rfl) rfl ?_
      refine r_iload_n 11 rfl rfl ?_
      refine r_iaload 12 rfl (hp_at rfl) (by decide) (by omega) (by omega) ?_
      refine r_istore 13 rfl (Nat.le_of_ble_eq_true rfl) ?_
      refine r_aload_n 14 rfl rfl ?_
      refine r_get 15 rfl f_T_13 (hp_at rfl) rfl ?_
      refine r_iload 16 rfl rfl ?_
      refine r_iaload 17 rfl (hp_at rfl) (by decide) (by omega) (by omega) ?_
      refine r_iconst 18 rfl ?_
      refine r_icmp_ne (t := 45) 19 rfl (by decide) (by first | exact hA _ _ | exact ⟨by decide, by decide⟩ | assumption | exact ⟨by omega, by omega⟩) (by first | exact hA _ _ | exact ⟨by decide, by decide⟩ | assumption | exact ⟨by omega, by omega⟩) (fun c_29 => ?_) (fun c_29 => ?_)
      · refine r_iload_n 28 rfl rfl ?_
        refine r_if_ne (t := 60) 29 rfl (by decide) (by first | exact hA _ _ | exact ⟨by decide, by decide⟩ | assumption | exact ⟨by omega, by omega⟩) (fun c_46 => ?_) (fun c_46 => ?_)
        · refine r_iconst 36 rfl ?_
          refine r_goto (t := 65) 37 rfl (by decide) ?_
          refine r_istore_n 39 rfl (Nat.le_of_ble_eq_true rfl) ?_
          refine r_iinc 40 rfl rfl ?_
          refine r_goto (t := 9) 41 rfl (by decide) ?_
          exact ih _ _ (by omega) (Or.inr rfl) (fun v h => by cases h; rfl) (by rw [← hg, if_neg (by omega), if_pos (by omega)])
        · refine r_aload_n 30 rfl rfl ?_
          refine r_get 31 rfl f_T_13 (hp_at rfl) rfl ?_
          refine r_iload 32 rfl rfl ?_
          refine r_iaload 33 rfl (hp_at rfl) (by decide) (by omega) (by omega) ?_
          refine r_iconst 34 rfl ?_
          refine r_icmp_eq (t := 64) 35 rfl (by decide) (by first | exact hA _ _ | exact ⟨by decide, by decide⟩ | assumption | exact ⟨by omega, by omega⟩) (by first | exact hA _ _ | exact ⟨by decide, by decide⟩ | assumption | exact ⟨by omega, by omega⟩) (fun c_57 => ?_) (fun c_57 => ?_)
          · refine r_iconst 38 rfl ?_
            refine r_istore_n 39 rfl (Nat.le_of_ble_eq_true rfl) ?_
            refine r_iinc 40 rfl rfl ?_
            refine r_goto (t := 9) 41 rfl (by decide) ?_
            exact ih _ _ (by omega) (Or.inl rfl) (fun v h => by cases h; rfl) (by rw [← hg, if_neg (by omega), if_neg (by omega)])
          · refine r_iconst 36 rfl ?_
            refine r_goto (t := 65) 37 rfl (by decide) ?_
            refine r_istore_n 39 rfl (Nat.le_of_ble_eq_true rfl) ?_
            refine r_iinc 40 rfl rfl ?_
            refine r_goto (t := 9) 41 rfl (by decide) ?_
            exact ih _ _ (by omega) (Or.inr rfl) (fun v h => by cases h; rfl) (by rw [← hg, if_neg (by omega), if_pos (by omega)])
      · refine r_aload_n 20 rfl rfl ?_
        refine r_get 21 rfl f_T_17 (hp_at rfl) rfl ?_
        refine r_iload 22 rfl rfl ?_
        refine r_iaload 23 rfl (hp_at rfl) (by decide) (by omega) (by omega) ?_
        refine r_iload_n 24 rfl rfl ?_
        refine r_icmp_ne (t := 45) 25 rfl (by decide) (by first | exact hA _ _ | exact ⟨by decide, by decide⟩ | assumption | exact ⟨by omega, by omega⟩) (by first | exact hA _ _ | exact ⟨by decide, by decide⟩ | assumption | exact ⟨by omega, by omega⟩) (fun c_40 => ?_) (fun c_40 => ?_)
        · refine r_iload_n 28 rfl rfl ?_
          refine r_if_ne (t := 60) 29 rfl (by decide) (by first | exact hA _ _ | exact ⟨by decide, by decide⟩ | assumption | exact ⟨by omega, by omega⟩) (fun c_46 => ?_) (fun c_46 => ?_)
          · refine r_iconst 36 rfl ?_
            refine r_goto (t := 65) 37 rfl (by decide) ?_
            refine r_istore_n 39 rfl (Nat.le_of_ble_eq_true rfl) ?_
            refine r_iinc 40 rfl rfl ?_
            refine r_goto (t := 9) 41 rfl (by decide) ?_
            exact ih _ _ (by omega) (Or.inr rfl) (fun v h => by cases h; rfl) (by rw [← hg, if_neg (by omega), if_pos (by omega)])
          · refine r_aload_n 30 rfl rfl ?_
            refine r_get 31 rfl f_T_13 (hp_at rfl) rfl ?_
            refine r_iload 32 rfl rfl ?_
            refine r_iaload 33 rfl (hp_at rfl) (by decide) (by omega) (by omega) ?_
            refine r_iconst 34 rfl ?_
            refine r_icmp_eq (t := 64) 35 rfl (by decide) (by first | exact hA _ _ | exact ⟨by decide, by decide⟩ | assumption | exact ⟨by omega, by omega⟩) (by first | exact hA _ _ | exact ⟨by decide, by decide⟩ | assumption | exact ⟨by omega, by omega⟩) (fun c_57 => ?_) (fun c_57 => ?_)
            · refine r_iconst 38 rfl ?_
              refine r_istore_n 39 rfl (Nat.le_of_ble_eq_true rfl) ?_
              refine r_iinc 40 rfl rfl ?_
              refine r_goto (t := 9) 41 rfl (by decide) ?_
              exact ih _ _ (by omega) (Or.inl rfl) (fun v h => by cases h; rfl) (by rw [← hg, if_neg (by omega), if_neg (by omega)])
            · refine r_iconst 36 rfl ?_
              refine r_goto (t := 65) 37 rfl (by decide) ?_
              refine r_istore_n 39 rfl (Nat.le_of_ble_eq_true rfl) ?_
              refine r_iinc 40 rfl rfl ?_
              refine r_goto (t := 9) 41 rfl (by decide) ?_
              exact ih _ _ (by omega) (Or.inr rfl) (fun v h => by cases h; rfl) (by rw [← hg, if_neg (by omega), if_pos (by omega)])
        · refine r_iload_n 26 rfl rfl ?_
          refine r_iret 27 rfl rfl (by first | rfl | assumption) ?_
          exact q_v hq (by rw [← hg, if_pos (by omega)])
  refine r_iconst 0 rfl ?_
  refine r_istore_n 1 rfl (Nat.le_of_ble_eq_true rfl) ?_
  refine r_aload_n 2 rfl rfl ?_
  refine r_get 3 rfl f_T_124 (hp_at rfl) rfl ?_
  refine r_iconst 4 rfl ?_
  refine r_isub 5 rfl ?_
  refine r_istore_n 6 rfl (Nat.le_of_ble_eq_true rfl) ?_
  have e := loop (A 100 14).toNat 0 none (by omega) (Or.inl rfl) (fun v h => by cases h) rfl
  rw [Int.toNat_of_nonneg o0] at e
  exact e
end TW8


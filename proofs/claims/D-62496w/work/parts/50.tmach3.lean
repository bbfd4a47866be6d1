/-! the twin: hang, the walk -/
section TW50
variable {K : xk} {M : xm} {d : Nat} {Q : Outcome → xh → Prop} {A : Nat → Int → Int} {R : Nat → Int → Value} {g : Nat → Nat × List Value} {t u : Nat}
/-- while the children are pushed -/
def hgI (A B : Nat → Int → Int) (n : Int) (τ : Tr) (r : List (Tr × Int)) (y : Nat) : Prop := frH A B ∧ rga B ∧ skR B (chs A n τ y ++ r) ∧ (∀ q ∈ chs A n τ y, B 111 q.2 = n) ∧ (∀ x, (∀ q ∈ chs A n τ y, q.2 ≠ x) → B 111 x = A 111 x) ∧ ∀ x, B 129 x = if x = n then -1 else A 129 x
theorem hg_in {n s0 : Int} {τ : Tr} {r : List (Tr × Int)} (ht : (tR A τ).1 n) (hw : (wfP τ).1) (hn : ∀ x, (ct A τ).1 n x ≠ 0 → 0 ≤ x ∧ x < 300) (hlen : r.length + szT τ ≤ 200)
    (hq : ∀ B, hgI A B n τ r 6 → wx K M_T_hang d Q 16 [some (.ref (xa K.n 32)), some (iv s0), some (iv (chs A n τ 6 ++ r).length), none, none, none] [] (hp K.n B R g t u)) :
    ∀ (m y : Nat) (B : Nat → Int → Int), y + m = 6 → hgI A B n τ r y → wx K M_T_hang d Q 40 [some (.ref (xa K.n 32)), some (iv s0), some (iv (chs A n τ y ++ r).length), some (iv n), some (iv y), none] [] (hp K.n B R g t u) := by
  have hnn := hn n (by have := ct_self A τ n; omega)
  have hl6 : ∀ y, y ≤ 6 → (chs A n τ y).length ≤ szT τ := by
    have h6 : (chs A n τ 6).length ≤ szT τ := by have := skS_len (chs A n τ 6); have := (chs_all A n τ hw).2; omega
    have mono : ∀ y, (chs A n τ y).length ≤ (chs A n τ (y + 1)).length := fun y => by rw [chs_s, List.length_append]; omega
    intro y hy
    have m0 : (chs A n τ 0).length ≤ (chs A n τ 1).length := mono 0
    have m1 : (chs A n τ 1).length ≤ (chs A n τ 2).length := mono 1
    have m2 : (chs A n τ 2).length ≤ (chs A n τ 3).length := mono 2
    have m3 : (chs A n τ 3).length ≤ (chs A n τ 4).length := mono 3
    have m4 : (chs A n τ 4).length ≤ (chs A n τ 5).length := mono 4
    have m5 : (chs A n τ 5).length ≤ (chs A n τ 6).length := mono 5
    have : y = 0 ∨ y = 1 ∨ y = 2 ∨ y = 3 ∨ y = 4 ∨ y = 5 ∨ y = 6 := by omega
    rcases this with rfl | rfl | rfl | rfl | rfl | rfl | rfl <;> omega
  intro m
  induction m with
  | zero =>
    intro y B hy hI
    have e : y = 6 := by omega
    subst e
    have hA := hI.2.1
    have hnx : ∀ v3 v4 : Value, wx K M_T_hang d Q 16 [some (.ref (xa K.n 32)), some (iv s0), some (iv (chs A n τ 6 ++ r).length), some v3, some v4, none] [] (hp K.n B R g t u) := fun v3 v4 => wx_t (pre := [some (.ref (xa K.n 32)), some (iv s0), some (iv (chs A n τ 6 ++ r).length)]) (tl := [some v3, some v4, none]) (hq B hI)
    refine r_iload 27 rfl rfl ?_
    refine r_bipush 28 rfl rfl ?_
    refine r_icmp_ge (t := 152) 29 rfl (by decide) (by first | exact hA _ _ | exact ⟨by decide, by decide⟩ | assumption | exact ⟨by omega, by omega⟩) (by first | exact hA _ _ | exact ⟨by decide, by decide⟩ | assumption | exact ⟨by omega, by omega⟩) (fun c_44 => ?_) (fun c_44 => by omega)
    refine r_goto (t := 16) 90 rfl (by decide) ?_
    exact hnx _ _
  | succ m ih =>
    intro y B hy hI
    obtain ⟨f1, hA, f3, f4, f5, f6⟩ := id hI
    have hly := hl6 y (by omega)
    have hk : B 105 n = A 105 n := f1 105 n (by decide) (by decide) (by decide)
    have ho : B 108 (6 * n + y) = A 108 (6 * n + y) := f1 108 _ (by decide) (by decide) (by decide)
    have hb : B 110 (6 * n + y) = A 110 (6 * n + y) := f1 110 _ (by decide) (by decide) (by decide)
    have his := cf_is ht hw (y := y) (by omega)
    cases hc : cf A n y τ with
    | none =>
      have hno : ¬ ((A 105 n = 2 ∧ y = 0) ∨ (2 < A 105 n ∧ 0 < A 108 (6 * n + y))) := fun h => (his.mpr h) hc
      have ec : chs A n τ (y + 1) = chs A n τ y := by rw [chs_s, hc]; rfl
      have nx := ih (y + 1) B (by omega) (by unfold hgI; rw [ec]; exact hI)
      rw [ec] at nx
      have hnx : ∀ v5 : Value, wx K M_T_hang d Q 40 [some (.ref (xa K.n 32)), some (iv s0), some (iv (chs A n τ y ++ r).length), some (iv n), some (iv ((y : Int) + 1)), some v5] [] (hp K.n B R g t u) := fun v5 => wx_t (pre := [some (.ref (xa K.n 32)), some (iv s0), some (iv (chs A n τ y ++ r).length), some (iv n), some (iv ((y : Int) + 1))]) (tl := [some v5]) nx
      have fin : wx K M_T_hang d Q 100 [some (.ref (xa K.n 32)), some (iv s0), some (iv (chs A n τ y ++ r).length), some (iv n), some (iv y), none] [iv 0] (hp K.n B R g t u) := by
        refine r_istore 60 rfl (Nat.le_of_ble_eq_true rfl) ?_
        refine r_iload 61 rfl rfl ?_
        refine r_if_eq (t := 146) 62 rfl (by decide) (by first | exact hA _ _ | exact ⟨by decide, by decide⟩ | assumption | exact ⟨by omega, by omega⟩) (fun c_104 => ?_) (fun c_104 => by omega)
        refine r_iinc 88 rfl rfl ?_
        refine r_goto (t := 40) 89 rfl (by decide) ?_
        exact hnx _
      refine r_iload 27 rfl rfl ?_
      refine r_bipush 28 rfl rfl ?_
      refine r_icmp_ge (t := 152) 29 rfl (by decide) (by first | exact hA _ _ | exact ⟨by decide, by decide⟩ | assumption | exact ⟨by omega, by omega⟩) (by first | exact hA _ _ | exact ⟨by decide, by decide⟩ | assumption | exact ⟨by omega, by omega⟩) (fun c_44 => by omega) (fun c_44 => ?_)
      refine r_aload_n 30 rfl rfl ?_
      refine r_get 31 rfl f_T_13 (hp_at rfl) rfl ?_
      refine r_iload_n 32 rfl rfl ?_
      refine r_iaload 33 rfl (hp_at rfl) (by decide) (by omega) (by omega) ?_
      refine r_iconst 34 rfl ?_
      refine r_icmp_ne (t := 70) 35 rfl (by decide) (by first | exact hA _ _ | exact ⟨by decide, by decide⟩ | assumption | exact ⟨by omega, by omega⟩) (by first | exact hA _ _ | exact ⟨by decide, by decide⟩ | assumption | exact ⟨by omega, by omega⟩) (fun c_54 => ?_) (fun c_54 => ?_)
      · refine r_aload_n 42 rfl rfl ?_
        refine r_get 43 rfl f_T_13 (hp_at rfl) rfl ?_
        refine r_iload_n 44 rfl rfl ?_
        refine r_iaload 45 rfl (hp_at rfl) (by decide) (by omega) (by omega) ?_
        refine r_iconst 46 rfl ?_
        refine r_icmp_le (t := 99) 47 rfl (by decide) (by first | exact hA _ _ | exact ⟨by decide, by decide⟩ | assumption | exact ⟨by omega, by omega⟩) (by first | exact hA _ _ | exact ⟨by decide, by decide⟩ | assumption | exact ⟨by omega, by omega⟩) (fun c_77 => ?_) (fun c_77 => ?_)
        · refine r_iconst 59 rfl ?_
          exact fin
        · refine r_aload_n 48 rfl rfl ?_
          refine r_get 49 rfl f_T_23 (hp_at rfl) rfl ?_
          refine r_bipush 50 rfl rfl ?_
          refine r_iload_n 51 rfl rfl ?_
          refine r_imul 52 rfl ?_
          refine r_iload 53 rfl rfl ?_
          refine r_iadd 54 rfl ?_
          refine r_iaload 55 rfl (hp_at rfl) (by decide) (by omega) (by omega) ?_
          refine r_if_le (t := 99) 56 rfl (by decide) (by first | exact hA _ _ | exact ⟨by decide, by decide⟩ | assumption | exact ⟨by omega, by omega⟩) (fun c_92 => ?_) (fun c_92 => by omega)
          refine r_iconst 59 rfl ?_
          exact fin
      · refine r_iload 36 rfl rfl ?_
        refine r_if_ne (t := 66) 37 rfl (by decide) (by first | exact hA _ _ | exact ⟨by decide, by decide⟩ | assumption | exact ⟨by omega, by omega⟩) (fun c_59 => ?_) (fun c_59 => by omega)
        refine r_iconst 40 rfl ?_
        refine r_goto (t := 100) 41 rfl (by decide) ?_
        exact fin
    | some q =>
      obtain ⟨q1, q2, q3, q4, q5, q6⟩ := cf_tR ht hw hc
      have hcr := hn q.2 (by have := q3 q.2; have := ct_self A q.1 q.2; omega)
      have hyes := his.mp (by rw [hc]; simp)
      have ec : chs A n τ (y + 1) = q :: chs A n τ y := by rw [chs_s, hc]; rfl
      have hly1 := hl6 (y + 1) (by omega)
      rw [ec, List.length_cons] at hly1
      generalize hC : au (au B 111 q.2 n) 130 ((chs A n τ y ++ r).length : Int) q.2 = C
      have Cr : ∀ (j : Nat) (x : Int), C j x = if j = 130 ∧ x = ((chs A n τ y ++ r).length : Int) then q.2 else if j = 111 ∧ x = q.2 then n else B j x := fun j x => by rw [← hC, au_ite, au_ite]
      have hfC : frH A C := fun j x a b c => by rw [Cr, if_neg (by omega), if_neg (by omega)]; exact f1 j x a b c
      have hrC : rga C := by rw [← hC]; exact rga_au (rga_au hA ⟨by omega, by omega⟩) ⟨by omega, by omega⟩
      have hsC : skR C (chs A n τ (y + 1) ++ r) := by
        rw [ec, List.cons_append]
        obtain ⟨q0, qn⟩ := q
        obtain ⟨j1, j2⟩ := (tR_frame A C q0).1 qn q2 (fun x _ => hfC.s x) q1
        obtain ⟨i1, i2⟩ := skR_fr (A := B) (A' := C) (fun x => ⟨by rw [Cr, if_neg (by omega), if_neg (by omega)], by rw [Cr, if_neg (by omega), if_neg (by omega)], by rw [Cr, if_neg (by omega), if_neg (by omega)], fun l _ _ => ⟨by rw [Cr, if_neg (by omega), if_neg (by omega)], by rw [Cr, if_neg (by omega), if_neg (by omega)], by rw [Cr, if_neg (by omega), if_neg (by omega)]⟩⟩) (chs A n τ y ++ r) (fun i i0 i1 => by rw [Cr, if_neg (by omega), if_neg (by omega)]) f3
        exact ⟨by rw [Cr, if_pos ⟨rfl, rfl⟩], j1, q2, i1⟩
      have nx := ih (y + 1) C (by omega) ⟨hfC, hrC, hsC, fun p hp => by
          rw [ec] at hp
          rw [Cr, if_neg (by omega)]
          rcases List.mem_cons.mp hp with e | e
          · rw [e, if_pos ⟨rfl, rfl⟩]
          · by_cases e2 : p.2 = q.2
            · rw [if_pos ⟨rfl, e2⟩]
            · rw [if_neg (fun h => e2 h.2)]; exact f4 p e, fun x hx => by
          rw [ec] at hx
          rw [Cr, if_neg (by omega), if_neg (fun h => hx q (List.mem_cons_self ..) h.2.symm)]
          exact f5 x (fun p hp => hx p (List.mem_cons_of_mem _ hp)), fun x => by rw [Cr, if_neg (by omega), if_neg (by omega)]; exact f6 x⟩
      have elen : ((chs A n τ (y + 1) ++ r).length : Int) = ((chs A n τ y ++ r).length : Int) + 1 := by rw [ec, List.cons_append, List.length_cons]; omega
      rw [elen] at nx
      have hnx : ∀ v5 : Value, wx K M_T_hang d Q 40 [some (.ref (xa K.n 32)), some (iv s0), some (iv (((chs A n τ y ++ r).length : Int) + 1)), some (iv n), some (iv ((y : Int) + 1)), some v5] [] (hp K.n C R g t u) := fun v5 => wx_t (pre := [some (.ref (xa K.n 32)), some (iv s0), some (iv (((chs A n τ y ++ r).length : Int) + 1)), some (iv n), some (iv ((y : Int) + 1))]) (tl := [some v5]) nx
      have hll : ((chs A n τ y ++ r).length : Int) < 256 := by rw [List.length_append]; omega
      have hb2 : B 110 (6 * n + y) = q.2 := by rw [hb, q4]
      have fin : wx K M_T_hang d Q 100 [some (.ref (xa K.n 32)), some (iv s0), some (iv (chs A n τ y ++ r).length), some (iv n), some (iv y), none] [iv 1] (hp K.n B R g t u) := by
        refine r_istore 60 rfl (Nat.le_of_ble_eq_true rfl) ?_
        refine r_iload 61 rfl rfl ?_
        refine r_if_eq (t := 146) 62 rfl (by decide) (by first | exact hA _ _ | exact ⟨by decide, by decide⟩ | assumption | exact ⟨by omega, by omega⟩) (fun c_104 => by omega) (fun c_104 => ?_)
        refine r_aload_n 63 rfl rfl ?_
        refine r_get 64 rfl f_T_32 (hp_at rfl) rfl ?_
        refine r_aload_n 65 rfl rfl ?_
        refine r_get 66 rfl f_T_29 (hp_at rfl) rfl ?_
        refine r_bipush 67 rfl rfl ?_
        refine r_iload_n 68 rfl rfl ?_
        refine r_imul 69 rfl ?_
        refine r_iload 70 rfl rfl ?_
        refine r_iadd 71 rfl ?_
        refine r_iaload 72 rfl (hp_at rfl) (by decide) (by omega) (by omega) ?_
        try simp +decide only [au_ne, au_same, au_ni, fil_ne]
        rw [hb2]
        refine r_iload_n 73 rfl rfl ?_
        refine r_iastore 74 rfl (hp_at rfl) (by decide) (by omega) (by omega) ?_
        rw [ws_111]
        refine r_aload_n 75 rfl rfl ?_
        refine r_get 76 rfl f_T_77 (hp_at rfl) rfl ?_
        refine r_iload_n 77 rfl rfl ?_
        refine r_aload_n 78 rfl rfl ?_
        refine r_get 79 rfl f_T_29 (hp_at rfl) rfl ?_
        refine r_bipush 80 rfl rfl ?_
        refine r_iload_n 81 rfl rfl ?_
        refine r_imul 82 rfl ?_
        refine r_iload 83 rfl rfl ?_
        refine r_iadd 84 rfl ?_
        refine r_iaload 85 rfl (hp_at rfl) (by decide) (by omega) (by omega) ?_
        try simp +decide only [au_ne, au_same, au_ni, fil_ne]
        rw [hb2]
        refine r_iastore 86 rfl (hp_at rfl) (by decide) (by omega) (by omega) ?_
        rw [ws_130]
        refine r_iinc 87 rfl rfl ?_
        rw [hC]
        refine r_iinc 88 rfl rfl ?_
        refine r_goto (t := 40) 89 rfl (by decide) ?_
        exact hnx _
      refine r_iload 27 rfl rfl ?_
      refine r_bipush 28 rfl rfl ?_
      refine r_icmp_ge (t := 152) 29 rfl (by decide) (by first | exact hA _ _ | exact ⟨by decide, by decide⟩ | assumption | exact ⟨by omega, by omega⟩) (by first | exact hA _ _ | exact ⟨by decide, by decide⟩ | assumption | exact ⟨by omega, by omega⟩) (fun c_44 => by omega) (fun c_44 => ?_)
      refine r_aload_n 30 rfl rfl ?_
      refine r_get 31 rfl f_T_13 (hp_at rfl) rfl ?_
      refine r_iload_n 32 rfl rfl ?_
      refine r_iaload 33 rfl (hp_at rfl) (by decide) (by omega) (by omega) ?_
      refine r_iconst 34 rfl ?_
      refine r_icmp_ne (t := 70) 35 rfl (by decide) (by first | exact hA _ _ | exact ⟨by decide, by decide⟩ | assumption | exact ⟨by omega, by omega⟩) (by first | exact hA _ _ | exact ⟨by decide, by decide⟩ | assumption | exact ⟨by omega, by omega⟩) (fun c_54 => ?_) (fun c_54 => ?_)
      · refine r_aload_n 42 rfl rfl ?_
        refine r_get 43 rfl f_T_13 (hp_at rfl) rfl ?_
        refine r_iload_n 44 rfl rfl ?_
        refine r_iaload 45 rfl (hp_at rfl) (by decide) (by omega) (by omega) ?_
        refine r_iconst 46 rfl ?_
        refine r_icmp_le (t := 99) 47 rfl (by decide) (by first | exact hA _ _ | exact ⟨by decide, by decide⟩ | assumption | exact ⟨by omega, by omega⟩) (by first | exact hA _ _ | exact ⟨by decide, by decide⟩ | assumption | exact ⟨by omega, by omega⟩) (fun c_77 => ?_) (fun c_77 => ?_)
        · exfalso; omega
        · refine r_aload_n 48 rfl rfl ?_
          refine r_get 49 rfl f_T_23 (hp_at rfl) rfl ?_
          refine r_bipush 50 rfl rfl ?_
          refine r_iload_n 51 rfl rfl ?_
          refine r_imul 52 rfl ?_
          refine r_iload 53 rfl rfl ?_
          refine r_iadd 54 rfl ?_
          refine r_iaload 55 rfl (hp_at rfl) (by decide) (by omega) (by omega) ?_
          refine r_if_le (t := 99) 56 rfl (by decide) (by first | exact hA _ _ | exact ⟨by decide, by decide⟩ | assumption | exact ⟨by omega, by omega⟩) (fun c_92 => ?_) (fun c_92 => ?_)
          · exfalso; omega
          · refine r_iconst 57 rfl ?_
            refine r_goto (t := 100) 58 rfl (by decide) ?_
            exact fin
      · refine r_iload 36 rfl rfl ?_
        refine r_if_ne (t := 66) 37 rfl (by decide) (by first | exact hA _ _ | exact ⟨by decide, by decide⟩ | assumption | exact ⟨by omega, by omega⟩) (fun c_59 => ?_) (fun c_59 => ?_)
        · exfalso; omega
        · refine r_iconst 38 rfl ?_
          refine r_goto (t := 100) 39 rfl (by decide) ?_
          exact fin
end TW50


/-! the twin: closed, read -/
theorem pr_err (cx : Int → Int) (md : Bool) : ∀ (f : Nat) (b : Bool) (env : List Int) (p k : Int) (bef : Int → Bool) (e : Int), 0 ≤ k → k ≤ 30 → pr cx md f b env p k bef = .inl e → p ≤ e := by
  intro f
  induction f with
  | zero => intro b env p k bef e _ _ h; simp only [pr] at h; cases h; omega
  | succ f ih =>
    intro b env p k bef e k0 k1 h
    cases b with
    | false =>
      rw [pr_T] at h
      split at h
      · cases h; omega
      split at h
      · cases h
      split at h
      · split at h
        · cases h; omega
        split at h
        · cases h; omega
        split at h
        · rename_i hr; cases h; have := ih _ _ _ _ _ _ (by omega) (by omega) hr; omega
        · cases h
      split at h
      · split at h
        · cases h
        · cases h; omega
      split at h
      · split at h
        · split at h
          · cases h; omega
          split at h
          · cases h; omega
          split at h
          · rename_i hr; cases h; have := ih _ _ _ _ _ _ (by omega) (by omega) hr; omega
          · cases h
        · split at h
          · cases h; omega
          split at h
          · cases h; omega
          split at h
          · cases h; omega
          split at h
          · rename_i hr; cases h; have := ih _ _ _ _ _ _ (by omega) (by omega) hr; omega
          · cases h
      · cases h; omega
    | true =>
      rw [pr_B] at h
      split at h
      · cases h; omega
      split at h
      · cases h; omega
      split at h
      · cases h; omega
      split at h
      · rename_i hr; cases h; have := ih _ _ _ _ _ _ (by omega) (by omega) hr; omega
      · rename_i τ p1 k2 hr
        obtain ⟨i1, i2, i3, i4⟩ := (pr_ok cx md f _ _ _ _ k0 k1).1 _ _ _ hr
        split at h
        · split at h
          · rename_i hr2; cases h; have := ih _ _ _ _ _ _ (by omega) (by omega) hr2; omega
          · cases h
        · split at h
          · cases h
          · cases h; omega
/-- what reading a whole text comes to: the place of the fault, or the type and its size -/
def rdR (cx : Int → Int) (md : Bool) (len : Int) : Int ⊕ (Tr × Int) := match pr cx md 100 false [] 0 0 (fun _ => false) with
  | .inl e => .inl e
  | .inr (τ, p, k) => if p < len then .inl p else .inr (τ, k)
section TW31
variable {K : xk} {M : xm} {d : Nat} {Q : Outcome → xh → Prop} {A : Nat → Int → Int} {R : Nat → Int → Value} {g : Nat → Nat × List Value} {t u : Nat}
theorem c_T_read {base len : Int} {md : Bool} {cx : Int → Int} (hB0 : tB A) (b0 : 0 ≤ base) (b1 : base ≤ 200) (hT : txR A cx len) (hx : ∀ i, len ≤ i → cx i = -1) (hlen : len < 100)
    (herr : ∀ e A', rdR cx md len = .inl e → 0 ≤ e → fr A A' → rga A' → Q (.returned (some (iv (-100 - e)))) (hp K.n (au A' 100 0 0) R g t u))
    (hok : ∀ τ k A', rdR cx md len = .inr (τ, k) → fr A A' → rga A' → A' 100 4 = base + k → (wfP τ).1 → k = szT τ → k ≤ 30 → (∀ x, x < base → sameN A A' x) → (tG A' md τ).1 base → Q (.returned (some (iv k))) (hp K.n (au A' 100 0 0) R g t u)) :
    mx K M_T_read (d + 4) [.ref (xa K.n 32), iv base, iv (if md = true then 1 else 0)] (hp K.n A R g t u) Q := by
  generalize hlocd : (if md = true then (1 : Int) else 0) = loc
  have hloc : loc = 0 ∨ loc = 1 := by rw [← hlocd]; split; exact Or.inr rfl; exact Or.inl rfl
  have rgb : rg base := ⟨by omega, by omega⟩
  have hex : ∀ (X : Nat → Int → Int) (l3 : Int) (l4 : Option Value), tB X → (0 ≤ X 100 3 → Q (.returned (some (iv (-100 - X 100 3)))) (hp K.n (au X 100 0 0) R g t u)) → (X 100 3 < 0 → X 100 2 < X 100 0 → Q (.returned (some (iv (-100 - X 100 2)))) (hp K.n (au (au X 100 3 (X 100 2)) 100 0 0) R g t u)) → (X 100 3 < 0 → X 100 2 = X 100 0 → Q (.returned (some (iv (X 100 4 - base)))) (hp K.n (au X 100 0 0) R g t u)) → wx K M_T_read (d + 4) Q 69 [some (.ref (xa K.n 32)), some (iv base), some (iv loc), some (iv l3), l4] [] (hp K.n X R g t u) := by
    intro X l3 l4 hB h1 h2 h3
    obtain ⟨hA, q2, q3, q4⟩ := id hB
    by_cases hpl : X 100 2 < X 100 0
    · by_cases hfl : 0 ≤ X 100 3
      · have e1 : tWr X (X 100 2) = X := wr_fl _ hfl
        refine r_aload_n 37 rfl rfl ?_
        refine r_get 38 rfl f_T_103 (hp_at rfl) rfl ?_
        try simp +decide only [au_ne, au_same, au_ni, fil_ne]
        refine r_aload_n 39 rfl rfl ?_
        refine r_get 40 rfl f_T_99 (hp_at rfl) rfl ?_
        try simp +decide only [au_ne, au_same, au_ni, fil_ne]
        refine r_icmp_ge (t := 88) 41 rfl (by decide) (by first | exact hA _ _ | exact ⟨by decide, by decide⟩ | assumption | exact ⟨by omega, by omega⟩) (by first | exact hA _ _ | exact ⟨by decide, by decide⟩ | assumption | exact ⟨by omega, by omega⟩) (fun c_77 => by omega) (fun c_77 => ?_)
        refine r_aload_n 42 rfl rfl ?_
        refine r_aload_n 43 rfl rfl ?_
        refine r_get 44 rfl f_T_103 (hp_at rfl) rfl ?_
        try simp +decide only [au_ne, au_same, au_ni, fil_ne]
        refine r_callv1 45 rfl l_T_113 (hp_at rfl) (Nat.le_of_ble_eq_true rfl) ?_
        refine c_T_wrong hA (cp0 ?_)
        rw [e1]
        refine r_aload_n 46 rfl rfl ?_
        refine r_iconst 47 rfl ?_
        refine r_put 48 rfl f_T_99 (hp_at rfl) rfl rfl ?_
        rw [wT_0]
        refine r_aload_n 49 rfl rfl ?_
        refine r_get 50 rfl f_T_106 (hp_at rfl) rfl ?_
        try simp +decide only [au_ne, au_same, au_ni, fil_ne]
        refine r_if_lt (t := 110) 51 rfl (by decide) (by first | exact hA _ _ | exact ⟨by decide, by decide⟩ | assumption | exact ⟨by omega, by omega⟩) (fun c_97 => by omega) (fun c_97 => ?_)
        refine r_bipush 52 rfl rfl ?_
        refine r_aload_n 53 rfl rfl ?_
        refine r_get 54 rfl f_T_106 (hp_at rfl) rfl ?_
        try simp +decide only [au_ne, au_same, au_ni, fil_ne]
        refine r_isub 55 rfl ?_
        refine r_goto (t := 116) 56 rfl (by decide) ?_
        refine r_iret 61 rfl rfl rfl ?_
        exact h1 hfl
      · have e1 : tWr X (X 100 2) = au X 100 3 (X 100 2) := wr_fst _ (by omega)
        have e3 : au (au X 100 3 (X 100 2)) 100 0 0 100 3 = X 100 2 := by rw [au_ni _ _ _ (by decide), au_same]
        refine r_aload_n 37 rfl rfl ?_
        refine r_get 38 rfl f_T_103 (hp_at rfl) rfl ?_
        refine r_aload_n 39 rfl rfl ?_
        refine r_get 40 rfl f_T_99 (hp_at rfl) rfl ?_
        refine r_icmp_ge (t := 88) 41 rfl (by decide) (by first | exact hA _ _ | exact ⟨by decide, by decide⟩ | assumption | exact ⟨by omega, by omega⟩) (by first | exact hA _ _ | exact ⟨by decide, by decide⟩ | assumption | exact ⟨by omega, by omega⟩) (fun c_77 => by omega) (fun c_77 => ?_)
        refine r_aload_n 42 rfl rfl ?_
        refine r_aload_n 43 rfl rfl ?_
        refine r_get 44 rfl f_T_103 (hp_at rfl) rfl ?_
        refine r_callv1 45 rfl l_T_113 (hp_at rfl) (Nat.le_of_ble_eq_true rfl) ?_
        refine c_T_wrong hA (cp0 ?_)
        rw [e1]
        refine r_aload_n 46 rfl rfl ?_
        refine r_iconst 47 rfl ?_
        refine r_put 48 rfl f_T_99 (hp_at rfl) rfl rfl ?_
        rw [wT_0]
        refine r_aload_n 49 rfl rfl ?_
        refine r_get 50 rfl f_T_106 (hp_at rfl) rfl ?_
        rw [e3]
        refine r_if_lt (t := 110) 51 rfl (by decide) (by first | exact hA _ _ | exact ⟨by decide, by decide⟩ | assumption | exact ⟨by omega, by omega⟩) (fun c_97 => by omega) (fun c_97 => ?_)
        refine r_bipush 52 rfl rfl ?_
        refine r_aload_n 53 rfl rfl ?_
        refine r_get 54 rfl f_T_106 (hp_at rfl) rfl ?_
        rw [e3]
        refine r_isub 55 rfl ?_
        refine r_goto (t := 116) 56 rfl (by decide) ?_
        refine r_iret 61 rfl rfl rfl ?_
        exact h2 (by omega) hpl
    · by_cases hfl : 0 ≤ X 100 3
      · refine r_aload_n 37 rfl rfl ?_
        refine r_get 38 rfl f_T_103 (hp_at rfl) rfl ?_
        try simp +decide only [au_ne, au_same, au_ni, fil_ne]
        refine r_aload_n 39 rfl rfl ?_
        refine r_get 40 rfl f_T_99 (hp_at rfl) rfl ?_
        try simp +decide only [au_ne, au_same, au_ni, fil_ne]
        refine r_icmp_ge (t := 88) 41 rfl (by decide) (by first | exact hA _ _ | exact ⟨by decide, by decide⟩ | assumption | exact ⟨by omega, by omega⟩) (by first | exact hA _ _ | exact ⟨by decide, by decide⟩ | assumption | exact ⟨by omega, by omega⟩) (fun c_77 => ?_) (fun c_77 => by omega)
        refine r_aload_n 46 rfl rfl ?_
        refine r_iconst 47 rfl ?_
        refine r_put 48 rfl f_T_99 (hp_at rfl) rfl rfl ?_
        rw [wT_0]
        refine r_aload_n 49 rfl rfl ?_
        refine r_get 50 rfl f_T_106 (hp_at rfl) rfl ?_
        try simp +decide only [au_ne, au_same, au_ni, fil_ne]
        refine r_if_lt (t := 110) 51 rfl (by decide) (by first | exact hA _ _ | exact ⟨by decide, by decide⟩ | assumption | exact ⟨by omega, by omega⟩) (fun c_97 => by omega) (fun c_97 => ?_)
        refine r_bipush 52 rfl rfl ?_
        refine r_aload_n 53 rfl rfl ?_
        refine r_get 54 rfl f_T_106 (hp_at rfl) rfl ?_
        try simp +decide only [au_ne, au_same, au_ni, fil_ne]
        refine r_isub 55 rfl ?_
        refine r_goto (t := 116) 56 rfl (by decide) ?_
        refine r_iret 61 rfl rfl rfl ?_
        exact h1 hfl
      · refine r_aload_n 37 rfl rfl ?_
        refine r_get 38 rfl f_T_103 (hp_at rfl) rfl ?_
        try simp +decide only [au_ne, au_same, au_ni, fil_ne]
        refine r_aload_n 39 rfl rfl ?_
        refine r_get 40 rfl f_T_99 (hp_at rfl) rfl ?_
        try simp +decide only [au_ne, au_same, au_ni, fil_ne]
        refine r_icmp_ge (t := 88) 41 rfl (by decide) (by first | exact hA _ _ | exact ⟨by decide, by decide⟩ | assumption | exact ⟨by omega, by omega⟩) (by first | exact hA _ _ | exact ⟨by decide, by decide⟩ | assumption | exact ⟨by omega, by omega⟩) (fun c_77 => ?_) (fun c_77 => by omega)
        refine r_aload_n 46 rfl rfl ?_
        refine r_iconst 47 rfl ?_
        refine r_put 48 rfl f_T_99 (hp_at rfl) rfl rfl ?_
        rw [wT_0]
        refine r_aload_n 49 rfl rfl ?_
        refine r_get 50 rfl f_T_106 (hp_at rfl) rfl ?_
        try simp +decide only [au_ne, au_same, au_ni, fil_ne]
        refine r_if_lt (t := 110) 51 rfl (by decide) (by first | exact hA _ _ | exact ⟨by decide, by decide⟩ | assumption | exact ⟨by omega, by omega⟩) (fun c_97 => ?_) (fun c_97 => by omega)
        refine r_aload_n 57 rfl rfl ?_
        refine r_get 58 rfl f_T_121 (hp_at rfl) rfl ?_
        try simp +decide only [au_ne, au_same, au_ni, fil_ne]
        refine r_iload_n 59 rfl rfl ?_
        refine r_isub 60 rfl ?_
        refine r_iret 61 rfl rfl rfl ?_
        exact h3 (by omega) (by omega)
  generalize hRB : (fun X : Nat → Int → Int => wx K M_T_read (d + 4) Q 22 [some (.ref (xa K.n 32)), some (iv base), some (iv loc), some (iv 0), none] [] (hp K.n X R g t u)) = RB
  generalize hRC : (fun X : Nat → Int → Int => wx K M_T_closed (d + 3) (cpost K M_T_read (d + 4) Q 54 [some (.ref (xa K.n 32)), some (iv base), some (iv loc), some (iv 0), some (iv 1)] []) 0 [some (.ref (xa K.n 32)), none] [] (hp K.n X R g t u)) = RC
  have eB : ∀ X, RB X = wx K M_T_read (d + 4) Q 22 [some (.ref (xa K.n 32)), some (iv base), some (iv loc), some (iv 0), none] [] (hp K.n X R g t u) := fun X => by rw [← hRB]
  have eC : ∀ X, RC X = wx K M_T_closed (d + 3) (cpost K M_T_read (d + 4) Q 54 [some (.ref (xa K.n 32)), some (iv base), some (iv loc), some (iv 0), some (iv 1)] []) 0 [some (.ref (xa K.n 32)), none] [] (hp K.n X R g t u) := fun X => by rw [← hRC]
  have wB : ∀ X v, RB X → wx K M_T_read (d + 4) Q 22 [some (.ref (xa K.n 32)), some (iv base), some (iv loc), some (iv 0), some v] [] (hp K.n X R g t u) := fun X v h => by
    rw [eB] at h
    refine wx_L ?_ (fun i w hw => ?_) h
    · rfl
    match i, hw with
    | 0, hw => exact hw
    | 1, hw => exact hw
    | 2, hw => exact hw
    | 3, hw => exact hw
    | 4, hw => cases hw
    | i + 5, hw => cases hw
  have wC : ∀ X v, RC X → wx K M_T_closed (d + 3) (cpost K M_T_read (d + 4) Q 54 [some (.ref (xa K.n 32)), some (iv base), some (iv loc), some (iv 0), some (iv 1)] []) 0 [some (.ref (xa K.n 32)), some v] [] (hp K.n X R g t u) := fun X v h => by
    rw [eC] at h
    refine wx_L ?_ (fun i w hw => ?_) h
    · rfl
    match i, hw with
    | 0, hw => exact hw
    | 1, hw => cases hw
    | i + 2, hw => cases hw
  have ret1f : ∀ X, rga X → 0 ≤ X 100 3 → RB X → wx K M_T_read (d + 4) Q 39 [some (.ref (xa K.n 32)), some (iv base), some (iv loc), some (iv 0), none] [iv 1] (hp K.n X R g t u) := by
    intro X hA h3 hgo
    refine r_istore 23 rfl (Nat.le_of_ble_eq_true rfl) ?_
    refine r_iload 24 rfl rfl ?_
    refine r_if_eq (t := 64) 25 rfl (by decide) (by first | exact hA _ _ | exact ⟨by decide, by decide⟩ | assumption | exact ⟨by omega, by omega⟩) (fun c_43 => by omega) (fun c_43 => ?_)
    refine r_aload_n 26 rfl rfl ?_
    refine r_get 27 rfl f_T_106 (hp_at rfl) rfl ?_
    refine r_if_ge (t := 64) 28 rfl (by decide) (by first | exact hA _ _ | exact ⟨by decide, by decide⟩ | assumption | exact ⟨by omega, by omega⟩) (fun c_50 => ?_) (fun c_50 => by omega)
    refine r_iconst 34 rfl ?_
    refine r_istore_n 35 rfl (Nat.le_of_ble_eq_true rfl) ?_
    refine r_goto (t := 22) 36 rfl (by decide) ?_
    exact wB _ _ hgo
  have ret1 : ∀ X, rga X → X 100 3 < 0 → RC X → wx K M_T_read (d + 4) Q 39 [some (.ref (xa K.n 32)), some (iv base), some (iv loc), some (iv 0), none] [iv 1] (hp K.n X R g t u) := by
    intro X hA h3 hgo
    rw [eC] at hgo
    refine r_istore 23 rfl (Nat.le_of_ble_eq_true rfl) ?_
    refine r_iload 24 rfl rfl ?_
    refine r_if_eq (t := 64) 25 rfl (by decide) (by first | exact hA _ _ | exact ⟨by decide, by decide⟩ | assumption | exact ⟨by omega, by omega⟩) (fun c_43 => by omega) (fun c_43 => ?_)
    refine r_aload_n 26 rfl rfl ?_
    refine r_get 27 rfl f_T_106 (hp_at rfl) rfl ?_
    refine r_if_ge (t := 64) 28 rfl (by decide) (by first | exact hA _ _ | exact ⟨by decide, by decide⟩ | assumption | exact ⟨by omega, by omega⟩) (fun c_50 => by omega) (fun c_50 => ?_)
    refine r_aload_n 29 rfl rfl ?_
    refine r_callv0 30 rfl l_T_152 (hp_at rfl) (Nat.le_of_ble_eq_true rfl) ?_
    refine mx_in ok_T_closed rfl (Nat.le_of_ble_eq_true rfl) hgo
  have ret0w : ∀ X, RB X → wx K M_T_read (d + 4) Q 39 [some (.ref (xa K.n 32)), some (iv base), some (iv loc), some (iv 0), none] [iv 0] (hp K.n X R g t u) := by
    intro X hgo
    refine r_istore 23 rfl (Nat.le_of_ble_eq_true rfl) ?_
    refine r_iload 24 rfl rfl ?_
    refine r_if_eq (t := 64) 25 rfl (by decide) (by first | exact hA _ _ | exact ⟨by decide, by decide⟩ | assumption | exact ⟨by omega, by omega⟩) (fun c_43 => ?_) (fun c_43 => by omega)
    refine r_iconst 34 rfl ?_
    refine r_istore_n 35 rfl (Nat.le_of_ble_eq_true rfl) ?_
    refine r_goto (t := 22) 36 rfl (by decide) ?_
    exact wB _ _ hgo
  have hBs : stB base md RB RC := by
    intro X hB u0 u1 o0 o1 hO h3 h30 hbad hend hvar hloop hmL hmG
    obtain ⟨hA, q2, q3, q4⟩ := id hB
    have fl : 0 ≤ tWr X (X 100 2) 100 3 := by rw [wr_fst _ h3, au_same]; exact q2.1
    have rw1 : rga (tWr X (X 100 2)) := (tB_wr hB (hA _ _)).1
    have hth := tHere_rg hB
    have plt : 0 ≤ tHere X → X 100 2 < X 100 0 := tHere_lt
    have rgbg : ∀ kk ww, 0 ≤ tHere X → X 100 4 - base ≠ 30 → rg kk → rg ww → rga (bg1 X kk ww) := fun kk ww h h1 h2 h3 => (tB_bg1 hB (plt h) h2 h3 (by omega) (by omega)).1
    have bg3 : ∀ kk ww, bg1 X kk ww 100 3 < 0 := fun kk ww => by rw [bg1_sc _ _ _ (by decide) (by decide)]; exact h3
    rw [eB]
    refine r_iload_n 14 rfl rfl ?_
    refine r_if_ne (t := 69) 15 rfl (by decide) (by first | exact hA _ _ | exact ⟨by decide, by decide⟩ | assumption | exact ⟨by omega, by omega⟩) (fun c_23 => by omega) (fun c_23 => ?_)
    refine r_aload_n 16 rfl rfl ?_
    refine r_get 17 rfl f_T_106 (hp_at rfl) rfl ?_
    refine r_if_ge (t := 69) 18 rfl (by decide) (by first | exact hA _ _ | exact ⟨by decide, by decide⟩ | assumption | exact ⟨by omega, by omega⟩) (fun c_30 => by omega) (fun c_30 => ?_)
    refine r_aload_n 19 rfl rfl ?_
    refine r_iload_n 20 rfl rfl ?_
    refine r_iload_n 21 rfl rfl ?_
    refine r_callv2 22 rfl l_T_148 (hp_at rfl) (Nat.le_of_ble_eq_true rfl) ?_
    refine c_T_begun (d := d) hB b0 b1 hloc u0 u1 o0 o1 hO (fun e => cp1 (ret1f _ rw1 fl (h30 e))) (fun e a b c f => cp1 (ret1f _ rw1 fl (hbad e a b c f))) (fun e a => cp1 (ret1 _ (rgbg _ _ (by omega) e rg_0 rg_0) (bg3 _ _) (hend e a))) (fun e a b c => cp1 (ret1 _ (rgbg _ _ (by omega) e ⟨by decide, by decide⟩ ⟨by omega, by omega⟩) (bg3 _ _) (hvar e a b c))) (fun e a => cp1 (ret0w _ (hloop e a))) (fun e a b c => cp1 (ret0w _ (hmL e a b (by rw [← hlocd] at c; revert c; cases md; decide; decide)))) (fun e a b c => cp1 (ret0w _ (hmG e a b (by rw [← hlocd] at c; revert c; cases md; decide; decide))))
  have back : ∀ X l4, RB X → wx K M_T_read (d + 4) Q 57 [some (.ref (xa K.n 32)), some (iv base), some (iv loc), some (iv 0), some (iv l4)] [iv 0] (hp K.n X R g t u) := by
    intro X l4 hgo
    refine r_if_eq (t := 64) 31 rfl (by decide) (by first | exact hA _ _ | exact ⟨by decide, by decide⟩ | assumption | exact ⟨by omega, by omega⟩) (fun c_57 => ?_) (fun c_57 => by omega)
    refine r_iconst 34 rfl ?_
    refine r_istore_n 35 rfl (Nat.le_of_ble_eq_true rfl) ?_
    refine r_goto (t := 22) 36 rfl (by decide) ?_
    exact wB _ _ hgo
  have hCs : stC RB RC := by
    intro X hB o0 o1 h3 n0 n1 h2 h44 hcl
    obtain ⟨hA, q2, q3, q4⟩ := id hB
    have hth := tHere_rg hB
    have htt : X 115 (X 100 14 - 1) = tTop X := rfl
    rw [eC]
    by_cases hk : X 105 (tTop X) = 2
    · refine r_aload_n 0 rfl rfl ?_
      refine r_get 1 rfl f_T_124 (hp_at rfl) rfl ?_
      refine r_if_le (t := 93) 2 rfl (by decide) (by first | exact hA _ _ | exact ⟨by decide, by decide⟩ | assumption | exact ⟨by omega, by omega⟩) (fun c_4 => by omega) (fun c_4 => ?_)
      refine r_aload_n 3 rfl rfl ?_
      refine r_get 4 rfl f_T_106 (hp_at rfl) rfl ?_
      refine r_if_ge (t := 93) 5 rfl (by decide) (by first | exact hA _ _ | exact ⟨by decide, by decide⟩ | assumption | exact ⟨by omega, by omega⟩) (fun c_11 => by omega) (fun c_11 => ?_)
      refine r_aload_n 6 rfl rfl ?_
      refine r_get 7 rfl f_T_35 (hp_at rfl) rfl ?_
      refine r_aload_n 8 rfl rfl ?_
      refine r_get 9 rfl f_T_124 (hp_at rfl) rfl ?_
      refine r_iconst 10 rfl ?_
      refine r_isub 11 rfl ?_
      skip
      refine r_iaload 12 rfl (hp_at rfl) (by decide) (by omega) (by omega) ?_
      rw [htt]
      refine r_istore_n 13 rfl (Nat.le_of_ble_eq_true rfl) ?_
      refine r_aload_n 14 rfl rfl ?_
      refine r_get 15 rfl f_T_13 (hp_at rfl) rfl ?_
      refine r_iload_n 16 rfl rfl ?_
      refine r_iaload 17 rfl (hp_at rfl) (by decide) (by omega) (by omega) ?_
      refine r_iconst 18 rfl ?_
      refine r_icmp_ne (t := 49) 19 rfl (by decide) (by first | exact hA _ _ | exact ⟨by decide, by decide⟩ | assumption | exact ⟨by omega, by omega⟩) (by first | exact hA _ _ | exact ⟨by decide, by decide⟩ | assumption | exact ⟨by omega, by omega⟩) (fun c_33 => by omega) (fun c_33 => ?_)
      refine r_aload_n 20 rfl rfl ?_
      refine r_dup 21 rfl rfl ?_
      refine r_get 22 rfl f_T_124 (hp_at rfl) rfl ?_
      refine r_iconst 23 rfl ?_
      refine r_isub 24 rfl ?_
      refine r_put 25 rfl f_T_124 (hp_at rfl) rfl rfl ?_
      rw [wT_14]
      refine r_goto (t := 90) 26 rfl (by decide) ?_
      refine r_goto (t := 0) 50 rfl (by decide) ?_
      exact wC _ _ (h2 hk)
    · by_cases hh : tHere X = 44
      · have hB1 : tB (au X 100 2 (X 100 2 + 1)) := tB_pl hB (tHere_lt (by omega))
        have e1 : tTop (au X 100 2 (X 100 2 + 1)) = tTop X := by unfold tTop; rw [au_ni _ _ _ (by decide), au_ne _ _ _ _ (by decide)]
        refine r_aload_n 0 rfl rfl ?_
        refine r_get 1 rfl f_T_124 (hp_at rfl) rfl ?_
        refine r_if_le (t := 93) 2 rfl (by decide) (by first | exact hA _ _ | exact ⟨by decide, by decide⟩ | assumption | exact ⟨by omega, by omega⟩) (fun c_4 => by omega) (fun c_4 => ?_)
        refine r_aload_n 3 rfl rfl ?_
        refine r_get 4 rfl f_T_106 (hp_at rfl) rfl ?_
        refine r_if_ge (t := 93) 5 rfl (by decide) (by first | exact hA _ _ | exact ⟨by decide, by decide⟩ | assumption | exact ⟨by omega, by omega⟩) (fun c_11 => by omega) (fun c_11 => ?_)
        refine r_aload_n 6 rfl rfl ?_
        refine r_get 7 rfl f_T_35 (hp_at rfl) rfl ?_
        refine r_aload_n 8 rfl rfl ?_
        refine r_get 9 rfl f_T_124 (hp_at rfl) rfl ?_
        refine r_iconst 10 rfl ?_
        refine r_isub 11 rfl ?_
        refine r_iaload 12 rfl (hp_at rfl) (by decide) (by omega) (by omega) ?_
        rw [htt]
        refine r_istore_n 13 rfl (Nat.le_of_ble_eq_true rfl) ?_
        refine r_aload_n 14 rfl rfl ?_
        refine r_get 15 rfl f_T_13 (hp_at rfl) rfl ?_
        refine r_iload_n 16 rfl rfl ?_
        refine r_iaload 17 rfl (hp_at rfl) (by decide) (by omega) (by omega) ?_
        refine r_iconst 18 rfl ?_
        refine r_icmp_ne (t := 49) 19 rfl (by decide) (by first | exact hA _ _ | exact ⟨by decide, by decide⟩ | assumption | exact ⟨by omega, by omega⟩) (by first | exact hA _ _ | exact ⟨by decide, by decide⟩ | assumption | exact ⟨by omega, by omega⟩) (fun c_33 => ?_) (fun c_33 => by omega)
        refine r_aload_n 27 rfl rfl ?_
        refine r_callv0 28 rfl l_T_109 (hp_at rfl) (Nat.le_of_ble_eq_true rfl) ?_
        refine c_T_here hA (by omega) (by omega) (cp1 ?_)
        refine r_bipush 29 rfl rfl ?_
        refine r_icmp_ne (t := 74) 30 rfl (by decide) (by first | exact hA _ _ | exact ⟨by decide, by decide⟩ | assumption | exact ⟨by omega, by omega⟩) (by first | exact hA _ _ | exact ⟨by decide, by decide⟩ | assumption | exact ⟨by omega, by omega⟩) (fun c_55 => by omega) (fun c_55 => ?_)
        refine r_aload_n 31 rfl rfl ?_
        refine r_dup 32 rfl rfl ?_
        refine r_get 33 rfl f_T_103 (hp_at rfl) rfl ?_
        refine r_iconst 34 rfl ?_
        refine r_iadd 35 rfl ?_
        refine r_put 36 rfl f_T_103 (hp_at rfl) rfl rfl ?_
        rw [wT_2]
        refine r_aload_n 37 rfl rfl ?_
        refine r_callv0 38 rfl l_T_145 (hp_at rfl) (Nat.le_of_ble_eq_true rfl) ?_
        refine c_T_branch hB1 (by rw [au_ni _ _ _ (by decide)]; omega) (by rw [au_ni _ _ _ (by decide)]; omega) (by rw [e1]; exact n0) (by rw [e1]; exact n1) (cp0 ?_)
        refine r_iconst 39 rfl ?_
        refine r_iret 40 rfl rfl (by first | rfl | assumption) ?_
        exact cp1 (back _ _ (h44 hk hh))
      · have e14 : muF X 125 100 14 = X 100 14 := mu_sc _ _ (by decide) (by decide)
        refine r_aload_n 0 rfl rfl ?_
        refine r_get 1 rfl f_T_124 (hp_at rfl) rfl ?_
        refine r_if_le (t := 93) 2 rfl (by decide) (by first | exact hA _ _ | exact ⟨by decide, by decide⟩ | assumption | exact ⟨by omega, by omega⟩) (fun c_4 => by omega) (fun c_4 => ?_)
        refine r_aload_n 3 rfl rfl ?_
        refine r_get 4 rfl f_T_106 (hp_at rfl) rfl ?_
        refine r_if_ge (t := 93) 5 rfl (by decide) (by first | exact hA _ _ | exact ⟨by decide, by decide⟩ | assumption | exact ⟨by omega, by omega⟩) (fun c_11 => by omega) (fun c_11 => ?_)
        refine r_aload_n 6 rfl rfl ?_
        refine r_get 7 rfl f_T_35 (hp_at rfl) rfl ?_
        refine r_aload_n 8 rfl rfl ?_
        refine r_get 9 rfl f_T_124 (hp_at rfl) rfl ?_
        refine r_iconst 10 rfl ?_
        refine r_isub 11 rfl ?_
        refine r_iaload 12 rfl (hp_at rfl) (by decide) (by omega) (by omega) ?_
        rw [htt]
        refine r_istore_n 13 rfl (Nat.le_of_ble_eq_true rfl) ?_
        refine r_aload_n 14 rfl rfl ?_
        refine r_get 15 rfl f_T_13 (hp_at rfl) rfl ?_
        refine r_iload_n 16 rfl rfl ?_
        refine r_iaload 17 rfl (hp_at rfl) (by decide) (by omega) (by omega) ?_
        refine r_iconst 18 rfl ?_
        refine r_icmp_ne (t := 49) 19 rfl (by decide) (by first | exact hA _ _ | exact ⟨by decide, by decide⟩ | assumption | exact ⟨by omega, by omega⟩) (by first | exact hA _ _ | exact ⟨by decide, by decide⟩ | assumption | exact ⟨by omega, by omega⟩) (fun c_33 => ?_) (fun c_33 => by omega)
        refine r_aload_n 27 rfl rfl ?_
        refine r_callv0 28 rfl l_T_109 (hp_at rfl) (Nat.le_of_ble_eq_true rfl) ?_
        refine c_T_here hA (by omega) (by omega) (cp1 ?_)
        refine r_bipush 29 rfl rfl ?_
        refine r_icmp_ne (t := 74) 30 rfl (by decide) (by first | exact hA _ _ | exact ⟨by decide, by decide⟩ | assumption | exact ⟨by omega, by omega⟩) (by first | exact hA _ _ | exact ⟨by decide, by decide⟩ | assumption | exact ⟨by omega, by omega⟩) (fun c_55 => ?_) (fun c_55 => by omega)
        refine r_aload_n 41 rfl rfl ?_
        refine r_bipush 42 rfl rfl ?_
        refine r_callv1 43 rfl l_T_131 (hp_at rfl) (Nat.le_of_ble_eq_true rfl) ?_
        refine c_T_must hB ⟨by decide, by decide⟩ (cp0 ?_)
        refine r_aload_n 44 rfl rfl ?_
        refine r_dup 45 rfl rfl ?_
        refine r_get 46 rfl f_T_124 (hp_at rfl) rfl ?_
        rw [e14]
        refine r_iconst 47 rfl ?_
        refine r_isub 48 rfl ?_
        refine r_put 49 rfl f_T_124 (hp_at rfl) rfl rfl ?_
        rw [wT_14]
        refine r_goto (t := 0) 50 rfl (by decide) ?_
        exact wC _ _ (hcl hk hh)
  have endB : ∀ X, tB X → 0 ≤ X 100 3 → Q (.returned (some (iv (-100 - X 100 3)))) (hp K.n (au X 100 0 0) R g t u) → RB X := by
    intro X hB h3 hq
    obtain ⟨hA, q2, q3, q4⟩ := id hB
    rw [eB]
    refine r_iload_n 14 rfl rfl ?_
    refine r_if_ne (t := 69) 15 rfl (by decide) (by first | exact hA _ _ | exact ⟨by decide, by decide⟩ | assumption | exact ⟨by omega, by omega⟩) (fun c_23 => by omega) (fun c_23 => ?_)
    refine r_aload_n 16 rfl rfl ?_
    refine r_get 17 rfl f_T_106 (hp_at rfl) rfl ?_
    refine r_if_ge (t := 69) 18 rfl (by decide) (by first | exact hA _ _ | exact ⟨by decide, by decide⟩ | assumption | exact ⟨by omega, by omega⟩) (fun c_30 => ?_) (fun c_30 => by omega)
    exact hex _ _ _ hB (fun _ => hq) (fun h => by omega) (fun h => by omega)
  have endC : ∀ X, tB X → (X 100 14 ≤ 0 ∨ 0 ≤ X 100 3) → (0 ≤ X 100 3 → Q (.returned (some (iv (-100 - X 100 3)))) (hp K.n (au X 100 0 0) R g t u)) → (X 100 3 < 0 → X 100 2 < X 100 0 → Q (.returned (some (iv (-100 - X 100 2)))) (hp K.n (au (au X 100 3 (X 100 2)) 100 0 0) R g t u)) → (X 100 3 < 0 → X 100 2 = X 100 0 → Q (.returned (some (iv (X 100 4 - base)))) (hp K.n (au X 100 0 0) R g t u)) → RC X := by
    intro X hB h3 hq1 hq2 hq3
    obtain ⟨hA, q2, q3, q4⟩ := id hB
    have fin : wx K M_T_read (d + 4) Q 57 [some (.ref (xa K.n 32)), some (iv base), some (iv loc), some (iv 0), some (iv 1)] [iv 1] (hp K.n X R g t u) := by
      refine r_if_eq (t := 64) 31 rfl (by decide) (by first | exact hA _ _ | exact ⟨by decide, by decide⟩ | assumption | exact ⟨by omega, by omega⟩) (fun c_57 => by omega) (fun c_57 => ?_)
      refine r_iconst 32 rfl ?_
      refine r_goto (t := 65) 33 rfl (by decide) ?_
      refine r_istore_n 35 rfl (Nat.le_of_ble_eq_true rfl) ?_
      refine r_goto (t := 22) 36 rfl (by decide) ?_
      refine r_iload_n 14 rfl rfl ?_
      refine r_if_ne (t := 69) 15 rfl (by decide) (by first | exact hA _ _ | exact ⟨by decide, by decide⟩ | assumption | exact ⟨by omega, by omega⟩) (fun c_23 => ?_) (fun c_23 => by omega)
      exact hex _ _ _ hB hq1 hq2 hq3
    rw [eC]
    by_cases ho : X 100 14 ≤ 0
    · refine r_aload_n 0 rfl rfl ?_
      refine r_get 1 rfl f_T_124 (hp_at rfl) rfl ?_
      refine r_if_le (t := 93) 2 rfl (by decide) (by first | exact hA _ _ | exact ⟨by decide, by decide⟩ | assumption | exact ⟨by omega, by omega⟩) (fun c_4 => ?_) (fun c_4 => by omega)
      refine r_iconst 51 rfl ?_
      refine r_iret 52 rfl rfl (by first | rfl | assumption) ?_
      exact cp1 fin
    · refine r_aload_n 0 rfl rfl ?_
      refine r_get 1 rfl f_T_124 (hp_at rfl) rfl ?_
      refine r_if_le (t := 93) 2 rfl (by decide) (by first | exact hA _ _ | exact ⟨by decide, by decide⟩ | assumption | exact ⟨by omega, by omega⟩) (fun c_4 => by omega) (fun c_4 => ?_)
      refine r_aload_n 3 rfl rfl ?_
      refine r_get 4 rfl f_T_106 (hp_at rfl) rfl ?_
      refine r_if_ge (t := 93) 5 rfl (by decide) (by first | exact hA _ _ | exact ⟨by decide, by decide⟩ | assumption | exact ⟨by omega, by omega⟩) (fun c_11 => ?_) (fun c_11 => by omega)
      refine r_iconst 51 rfl ?_
      refine r_iret 52 rfl rfl (by first | rfl | assumption) ?_
      exact cp1 fin
  -- the whole
  have l0 : 0 ≤ len := by have := hB0.2.1; have := hT.1; omega
  generalize hA0 : au (au (au (au A 100 4 base) 100 2 0) 100 3 (-1)) 100 14 0 = A0
  have hf0 : fr A A0 := by rw [← hA0]; exact fr_au (fr_au (fr_au (fr_au (fr.rf A) (by omega)) (by omega)) (by omega)) (by omega)
  have hBA : tB A0 := by rw [← hA0]; exact tB_sc (tB_sc (tB_au2 (tB_sc hB0 rgb (by decide) (by decide)) (by decide) (by rw [au_ni _ _ _ (by decide)]; have := hT.1; omega)) ⟨by decide, by decide⟩ (by decide) (by decide)) rg_0 (by decide) (by decide)
  have hP : pS A0 cx len base [] 0 0 := by
    refine ⟨hBA, hT.to hf0, ?_, ?_, ?_, ?_, by simp, by decide, trivial⟩
    · rw [← hA0, au_ni _ _ _ (by decide), au_ni _ _ _ (by decide), au_same]
    · rw [← hA0, au_ni _ _ _ (by decide), au_same]
    · rw [← hA0, au_ni _ _ _ (by decide), au_ni _ _ _ (by decide), au_ni _ _ _ (by decide), au_same]; omega
    · rw [← hA0, au_same]; rfl
  have h0j : ∀ j i, j ≠ 100 → A0 j i = A j i := fun j i h => by rw [← hA0, au_ne _ _ _ _ h, au_ne _ _ _ _ h, au_ne _ _ _ _ h, au_ne _ _ _ _ h]
  have main : RB A0 := by
    obtain ⟨T1, T2⟩ := (ok_all hx b0 b1 hBs hCs 100).1 [] 0 0 (fun _ => false) A0 (by omega) hP
    cases hr : pr cx md 100 false [] 0 0 (fun _ => false) with
    | inl e =>
      have e0 := pr_err _ _ _ _ _ _ _ _ _ (by decide) (by decide) hr
      have er : rdR cx md len = .inl e := by unfold rdR; rw [hr]
      refine T1 e hr (fun A' a b c => ?_)
      have hq := herr e A' er e0 (hf0.tr a) b.1
      rw [← c] at hq
      exact ⟨endB A' b (by omega) hq, endC A' b (Or.inr (by omega)) (fun _ => hq) (fun h => by omega) (fun h => by omega)⟩
    | inr q =>
      obtain ⟨τ, p', k'⟩ := q
      obtain ⟨w1, w2, w3, w4⟩ := (pr_ok cx md 100 [] 0 0 (fun _ => false) (by decide) (by decide)).1 _ _ _ hr
      refine T2 τ p' k' hr (fun A' a b c e1 e2 => ?_)
      obtain ⟨v1, v2, v3, v4, v5, v6, v7, v8, v9⟩ := id b
      refine endC A' v1 (Or.inl (by rw [v6]; simp)) (fun h => by omega) (fun _ h => ?_) (fun _ h => ?_)
      · have er : rdR cx md len = .inl p' := by unfold rdR; rw [hr]; dsimp only; rw [if_pos (by have := v2.1; omega)]
        have hq := herr p' (au A' 100 3 p') er (by have := v1.2.1; omega) (fr_au (hf0.tr a) (by omega)) (rga_au v1.1 ⟨by have := v1.2.1; omega, by have := v1.2.1; have := v1.2.2.1; omega⟩)
        rw [v3]
        exact hq
      · have er : rdR cx md len = .inr (τ, k') := by unfold rdR; rw [hr]; dsimp only; rw [if_neg (by have := v2.1; omega)]
        rw [v5, show base + k' - base = k' by omega]
        refine hok τ k' A' er (hf0.tr a) v1.1 v5 w3 (by omega) w4 (fun x hxb => ?_) (by rw [show base + 0 = base by omega] at e2; exact e2)
        obtain ⟨z1, z2, z3, z4⟩ := c x (by omega)
        rw [h0j _ _ (by decide)] at z1 z2 z3
        refine ⟨z1, z2, z3, fun l x0 x1 => ?_⟩
        have := z4 l x0 x1
        have h14 : A0 100 14 = 0 := hP.2.2.2.2.2.1
        rw [if_neg (by omega), h0j 108 _ (by decide), h0j 109 _ (by decide), h0j 110 _ (by decide)] at this
        exact this
  rw [eB, ← hA0] at main
  have hA := hB0.1
  refine mx_in ok_T_read rfl (Nat.le_of_ble_eq_true rfl) ?_
  refine r_aload_n 0 rfl rfl ?_
  refine r_iload_n 1 rfl rfl ?_
  refine r_put 2 rfl f_T_121 (hp_at rfl) rfl rfl ?_
  rw [wT_4]
  refine r_aload_n 3 rfl rfl ?_
  refine r_iconst 4 rfl ?_
  refine r_put 5 rfl f_T_103 (hp_at rfl) rfl rfl ?_
  rw [wT_2]
  refine r_aload_n 6 rfl rfl ?_
  refine r_iconst 7 rfl ?_
  refine r_put 8 rfl f_T_106 (hp_at rfl) rfl rfl ?_
  rw [wT_3]
  refine r_aload_n 9 rfl rfl ?_
  refine r_iconst 10 rfl ?_
  refine r_put 11 rfl f_T_124 (hp_at rfl) rfl rfl ?_
  rw [wT_14]
  refine r_iconst 12 rfl ?_
  refine r_istore_n 13 rfl (Nat.le_of_ble_eq_true rfl) ?_
  exact main
end TW31

